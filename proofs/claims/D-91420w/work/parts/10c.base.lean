set_option maxRecDepth 100000
set_option maxHeartbeats 1000000
/-! OWN LAYER, 13: objects in arrays of objects; expressions (six classes) -/
theorem asAll : ∀ k ∈ cLs, As (cNm k) "java/lang/Object" := by
  intro k hk
  simp only [cLs, List.mem_cons, List.not_mem_nil, or_false] at hk
  rcases hk with rfl | rfl | rfl | rfl | rfl | rfl | rfl | rfl | rfl | rfl | rfl | rfl | rfl | rfl | rfl | rfl | rfl | rfl | rfl | rfl | rfl | rfl | rfl | rfl | rfl | rfl | rfl | rfl
  · exact Or.inr q2954
  · exact Or.inr q2956
  · exact Or.inr q2957
  · exact Or.inr q2958
  · exact Or.inr q2952
  · exact Or.inr q2959
  · exact Or.inr q2960
  · exact Or.inr q2963
  · exact Or.inr q2964
  · exact Or.inr q2967
  · exact Or.inr q2968
  · exact Or.inr q2969
  · exact Or.inr q2970
  · exact Or.inr q2971
  · exact Or.inr q2972
  · exact Or.inr q2973
  · exact Or.inr q2974
  · exact Or.inr q2953
  · exact Or.inr q2976
  · exact Or.inr q2977
  · exact Or.inr q2978
  · exact Or.inr q2979
  · exact Or.inr q2955
  · exact Or.inr q2961
  · exact Or.inr q2962
  · exact Or.inr q2966
  · exact Or.inr q2965
  · exact Or.inr q2975
theorem wc_aastO {G : Gx} {y : Mt} {d : Nat} {h0 : Hp} {post : Rs → Hp → Prop} {pc : Nat} {L : List (Option V)} {st : List V} {h : Hp} {a v : Nat} {i : Int} (hd : decode (mB y) pc = .ok (.aastore, 1)) (ho : ob h a 74) (hk : K0 ≤ a) (hv : rOo h v) (h1 : 0 ≤ i) (h2 : i < hN h a) (kk : Wc G y d h0 post (pc + 1) L st (sR h a i.toNat v)) : Wc G y d h0 post pc L (vR v :: vI i :: vR a :: st) h :=
  wc_aast (k := hT h v) hd ⟨by decide, by decide⟩ ho hk ⟨hv.1, hv.2.1, rfl⟩ hv.2.2 (asAll _ hv.2.2) h1 h2 kk
theorem wc_castX {G : Gx} {y : Mt} {d : Nat} {h0 : Hp} {post : Rs → Hp → Prop} {pc : Nat} {L : List (Option V)} {st : List V} {h : Hp} {idx a : Nat} (hd : decode (mB y) pc = .ok (.checkcast idx, 3)) (hcl : Cond.classLink (mY y).cls idx "FlyingDoctors$Ex" ∈ lw_all) (o : obX h a) (kk : Wc G y d h0 post (pc + 3) L (vR a :: st) h) : Wc G y d h0 post pc L (vR a :: st) h := by
  rcases obX_six o with o | o | o | o | o | o
  · exact wc_cast (k := 11) hd hcl (by decide) (Or.inr q2946) o kk
  · exact wc_cast (k := 12) hd hcl (by decide) (Or.inr q2948) o kk
  · exact wc_cast (k := 13) hd hcl (by decide) (Or.inr q2951) o kk
  · exact wc_cast (k := 14) hd hcl (by decide) (Or.inr q2949) o kk
  · exact wc_cast (k := 15) hd hcl (by decide) (Or.inr q2950) o kk
  · exact wc_cast (k := 16) hd hcl (by decide) (Or.inr q2947) o kk
theorem wc_callVX {G : Gx} {y : Mt} {d : Nat} {h0 : Hp} {post : Rs → Hp → Prop} {pc : Nat} {L : List (Option V)} {st stk : List V} {h : Hp} {y' : Mt} {av : List V} {P : Rs → Hp → Prop} {idx n a : Nat} (hd : decode (mB y) pc = .ok (.invokevirtual idx, 3)) (hlk : Lk (mY y).cls idx (mY y')) (hmo : MethOk y' n) (hinst : Cond.instanceMethod (mY y') ∈ lw_all) (hsel : ∀ k, 11 ≤ k → k ≤ 16 → Cond.selects (cNm k) (mY y') (mY y') ∈ lw_all) (o : obX h a) (hn : av.length = n) (hst : stk = av.reverse ++ vR a :: st) (hw : 2 * st.length + mX y' ≤ 89)
    (hct : Ct G y' d (vR a :: av) h P) (kr : ∀ v h', P (.inl v) h' → Wc G y (d + 1) h0 post (pc + 3) L (v.toList ++ st) h') (kx : ∀ a h', P (.inr a) h' → Wx G y (d + 1) h0 post pc L h' a) : Wc G y (d + 1) h0 post pc L stk h := by
  rcases obX_six o with o | o | o | o | o | o
  · exact wc_callV hd hlk hmo hinst (hsel 11 (by decide) (by decide)) (by decide) o hn hst hw hct kr kx
  · exact wc_callV hd hlk hmo hinst (hsel 12 (by decide) (by decide)) (by decide) o hn hst hw hct kr kx
  · exact wc_callV hd hlk hmo hinst (hsel 13 (by decide) (by decide)) (by decide) o hn hst hw hct kr kx
  · exact wc_callV hd hlk hmo hinst (hsel 14 (by decide) (by decide)) (by decide) o hn hst hw hct kr kx
  · exact wc_callV hd hlk hmo hinst (hsel 15 (by decide) (by decide)) (by decide) o hn hst hw hct kr kx
  · exact wc_callV hd hlk hmo hinst (hsel 16 (by decide) (by decide)) (by decide) o hn hst hw hct kr kx
def tX11_value : Mt := (⟨"FlyingDoctors$Chain", "value", "(LFlyingDoctors$Asked;)I"⟩, prog_4_method_4_code, 4, (Option.some Jvm.ClassFile.FieldType.int), [])
def DX11_value : List (Nat × Instr × Nat) := [(0, .aload_n 0, 1), (1, .getfield 10, 3), (4, .iconst 0, 1), (5, .invokeinterface 33 2, 5), (10, .checkcast 2, 3), (13, .aload_n 1, 1), (14, .invokevirtual 37, 3), (17, .istore_n 2, 1), (18, .iconst 1, 1), (19, .istore_n 3, 1), (20, .iload_n 3, 1), (21, .aload_n 0, 1), (22, .getfield 10, 3), (25, .invokeinterface 41 1, 5), (30, .if_icmp .ge 41, 3), (33, .aload_n 0, 1), (34, .getfield 19, 3), (37, .iload_n 3, 1), (38, .iconst 1, 1), (39, .isub, 1), (40, .invokevirtual 45, 3), (43, .iload_n 2, 1), (44, .aload_n 0, 1), (45, .getfield 10, 3), (48, .iload_n 3, 1), (49, .invokeinterface 33 2, 5), (54, .checkcast 2, 3), (57, .aload_n 1, 1), (58, .invokevirtual 37, 3), (61, .invokestatic 49, 3), (64, .istore_n 2, 1), (65, .iinc 3 1, 3), (68, .goto (-48), 3), (71, .iload_n 2, 1), (72, .ireturn, 1)]
theorem dtX11_value : chkD (mB tX11_value) DX11_value = true := by decide +kernel
theorem moX11_value : MethOk tX11_value 1 := ⟨Or.inl ⟨rfl, q1590⟩, by decide +kernel, ⟨by decide, by decide⟩, by decide +kernel⟩
def tX12_value : Mt := (⟨"FlyingDoctors$Number", "value", "(LFlyingDoctors$Asked;)I"⟩, prog_11_method_2_code, 2, (Option.some Jvm.ClassFile.FieldType.int), [])
def DX12_value : List (Nat × Instr × Nat) := [(0, .aload_n 0, 1), (1, .getfield 7, 3), (4, .ireturn, 1)]
theorem dtX12_value : chkD (mB tX12_value) DX12_value = true := by decide +kernel
theorem moX12_value : MethOk tX12_value 1 := ⟨Or.inl ⟨rfl, q1599⟩, by decide +kernel, ⟨by decide, by decide⟩, by decide +kernel⟩
def tX13_value : Mt := (⟨"FlyingDoctors$Value", "value", "(LFlyingDoctors$Asked;)I"⟩, prog_21_method_2_code, 2, (Option.some Jvm.ClassFile.FieldType.int), [])
def DX13_value : List (Nat × Instr × Nat) := [(0, .aload_n 1, 1), (1, .getfield 13, 3), (4, .aload_n 0, 1), (5, .getfield 7, 3), (8, .iaload, 1), (9, .ireturn, 1)]
theorem dtX13_value : chkD (mB tX13_value) DX13_value = true := by decide +kernel
theorem moX13_value : MethOk tX13_value 1 := ⟨Or.inl ⟨rfl, q1605⟩, by decide +kernel, ⟨by decide, by decide⟩, by decide +kernel⟩
def tX14_value : Mt := (⟨"FlyingDoctors$Param", "value", "(LFlyingDoctors$Asked;)I"⟩, prog_12_method_2_code, 2, (Option.some Jvm.ClassFile.FieldType.int), [])
def DX14_value : List (Nat × Instr × Nat) := [(0, .aload_n 1, 1), (1, .getfield 13, 3), (4, .aload_n 0, 1), (5, .getfield 7, 3), (8, .iaload, 1), (9, .ireturn, 1)]
theorem dtX14_value : chkD (mB tX14_value) DX14_value = true := by decide +kernel
theorem moX14_value : MethOk tX14_value 1 := ⟨Or.inl ⟨rfl, q1601⟩, by decide +kernel, ⟨by decide, by decide⟩, by decide +kernel⟩
def tX15_value : Mt := (⟨"FlyingDoctors$Said", "value", "(LFlyingDoctors$Asked;)I"⟩, prog_19_method_2_code, 2, (Option.some Jvm.ClassFile.FieldType.int), [])
def DX15_value : List (Nat × Instr × Nat) := [(0, .aload_n 1, 1), (1, .getfield 13, 3), (4, .aload_n 0, 1), (5, .getfield 7, 3), (8, .ishr, 1), (9, .iconst 1, 1), (10, .iand, 1), (11, .ireturn, 1)]
theorem dtX15_value : chkD (mB tX15_value) DX15_value = true := by decide +kernel
theorem moX15_value : MethOk tX15_value 1 := ⟨Or.inl ⟨rfl, q1603⟩, by decide +kernel, ⟨by decide, by decide⟩, by decide +kernel⟩
def tX16_value : Mt := (⟨"FlyingDoctors$Not", "value", "(LFlyingDoctors$Asked;)I"⟩, prog_10_method_2_code, 2, (Option.some Jvm.ClassFile.FieldType.int), [])
def DX16_value : List (Nat × Instr × Nat) := [(0, .aload_n 0, 1), (1, .getfield 7, 3), (4, .aload_n 1, 1), (5, .invokevirtual 13, 3), (8, .ifCond .eq 7, 3), (11, .iconst 0, 1), (12, .goto 4, 3), (15, .iconst 1, 1), (16, .ireturn, 1)]
theorem dtX16_value : chkD (mB tX16_value) DX16_value = true := by decide +kernel
theorem moX16_value : MethOk tX16_value 1 := ⟨Or.inl ⟨rfl, q1596⟩, by decide +kernel, ⟨by decide, by decide⟩, by decide +kernel⟩
def tX8_expression : Mt := (⟨"FlyingDoctors$Reader", "expression", "(I)LFlyingDoctors$Ex;"⟩, prog_16_method_22_code, 3, (Option.some (Jvm.ClassFile.FieldType.object "FlyingDoctors$Ex")), [])
def DX8_expression : List (Nat × Instr × Nat) := [(0, .aload_n 0, 1), (1, .aload_n 0, 1), (2, .getfield 47, 3), (5, .iconst 2, 1), (6, .if_icmp .eq 20, 3), (9, .aload_n 0, 1), (10, .getfield 47, 3), (13, .iconst 1, 1), (14, .if_icmp .eq 12, 3), (17, .aload_n 0, 1), (18, .bipush 40, 2), (20, .invokevirtual 107, 3), (23, .ifCond .eq 7, 3), (26, .iconst 1, 1), (27, .goto 4, 3), (30, .iconst 0, 1), (31, .invokevirtual 111, 3), (34, .iload_n 1, 1), (35, .bipush 6, 2), (37, .if_icmp .ne 12, 3), (40, .new 102, 3), (43, .dup, 1), (44, .iconst 2, 1), (45, .invokespecial 104, 3), (48, .athrow, 1), (49, .new 175, 3), (52, .dup, 1), (53, .aload_n 0, 1), (54, .iload_n 1, 1), (55, .invokevirtual 202, 3), (58, .invokespecial 180, 3), (61, .astore_n 2, 1), (62, .aload_n 0, 1), (63, .ldc 204, 2), (65, .invokevirtual 126, 3), (68, .ifCond .eq 21, 3), (71, .aload_n 0, 1), (72, .invokevirtual 115, 3), (75, .aload_n 2, 1), (76, .bipush 124, 2), (78, .aload_n 0, 1), (79, .iload_n 1, 1), (80, .invokevirtual 202, 3), (83, .invokevirtual 183, 3), (86, .goto (-24), 3), (89, .aload_n 2, 1), (90, .areturn, 1)]
theorem dtX8_expression : chkD (mB tX8_expression) DX8_expression = true := by decide +kernel
theorem moX8_expression : MethOk tX8_expression 1 := ⟨Or.inl ⟨rfl, q1301⟩, by decide +kernel, ⟨by decide, by decide⟩, by decide +kernel⟩
def tEx (k : Nat) : Mt := match k with
  | 11 => tX11_value
  | 12 => tX12_value
  | 13 => tX13_value
  | 14 => tX14_value
  | 15 => tX15_value
  | 16 => tX16_value
  | _ => tX11_value
def CtX (G : Gx) (d a : Nat) (h : Hp) (P : Rs → Hp → Prop) : Prop := ∀ k, 11 ≤ k → k ≤ 16 → ob h a k → Ct G (tEx k) d [vR a, vR 70] h P
theorem CtX.deep {G : Gx} {d d' a : Nat} {h : Hp} {P : Rs → Hp → Prop} (w : CtX G d a h P) (hd : d ≤ d') : CtX G d' a h P := fun k h1 h2 o => (w k h1 h2 o).deep hd
theorem wc_callUX {G : Gx} {y : Mt} {d : Nat} {h0 : Hp} {post : Rs → Hp → Prop} {pc : Nat} {L : List (Option V)} {st stk : List V} {h : Hp} {P : Rs → Hp → Prop} {idx a : Nat} (hd : decode (mB y) pc = .ok (.invokevirtual idx, 3)) (hlk : Cond.methodLink (mY y).cls idx ⟨"FlyingDoctors$Ex", "value", "(LFlyingDoctors$Asked;)I"⟩ ∈ lw_all) (o : obX h a) (hst : stk = vR 70 :: vR a :: st) (hw : 2 * st.length + 10 ≤ 89)
    (hct : CtX G d a h P) (kr : ∀ v h', P (.inl v) h' → Wc G y (d + 1) h0 post (pc + 3) L (v.toList ++ st) h') (kx : ∀ a h', P (.inr a) h' → Wx G y (d + 1) h0 post pc L h' a) : Wc G y (d + 1) h0 post pc L stk h := by
  rcases obX_six o with o | o | o | o | o | o
  · exact wc_callU (y' := tX11_value) (av := [vR 70]) (st := st) (k := 11) (x := ⟨"FlyingDoctors$Ex", "value", "(LFlyingDoctors$Asked;)I"⟩) hd hlk q1587 (Or.inl q1586) ⟨by decide, by decide⟩ moX11_value rfl q1589 q1588 (by decide) o rfl hst (Nat.le_trans (Nat.add_le_add_left (by decide) _) hw) (hct 11 (by decide) (by decide) o) kr kx
  · exact wc_callU (y' := tX12_value) (av := [vR 70]) (st := st) (k := 12) (x := ⟨"FlyingDoctors$Ex", "value", "(LFlyingDoctors$Asked;)I"⟩) hd hlk q1587 (Or.inl q1586) ⟨by decide, by decide⟩ moX12_value rfl q1598 q1622 (by decide) o rfl hst (Nat.le_trans (Nat.add_le_add_left (by decide) _) hw) (hct 12 (by decide) (by decide) o) kr kx
  · exact wc_callU (y' := tX13_value) (av := [vR 70]) (st := st) (k := 13) (x := ⟨"FlyingDoctors$Ex", "value", "(LFlyingDoctors$Asked;)I"⟩) hd hlk q1587 (Or.inl q1586) ⟨by decide, by decide⟩ moX13_value rfl q1604 q1625 (by decide) o rfl hst (Nat.le_trans (Nat.add_le_add_left (by decide) _) hw) (hct 13 (by decide) (by decide) o) kr kx
  · exact wc_callU (y' := tX14_value) (av := [vR 70]) (st := st) (k := 14) (x := ⟨"FlyingDoctors$Ex", "value", "(LFlyingDoctors$Asked;)I"⟩) hd hlk q1587 (Or.inl q1586) ⟨by decide, by decide⟩ moX14_value rfl q1600 q1623 (by decide) o rfl hst (Nat.le_trans (Nat.add_le_add_left (by decide) _) hw) (hct 14 (by decide) (by decide) o) kr kx
  · exact wc_callU (y' := tX15_value) (av := [vR 70]) (st := st) (k := 15) (x := ⟨"FlyingDoctors$Ex", "value", "(LFlyingDoctors$Asked;)I"⟩) hd hlk q1587 (Or.inl q1586) ⟨by decide, by decide⟩ moX15_value rfl q1602 q1624 (by decide) o rfl hst (Nat.le_trans (Nat.add_le_add_left (by decide) _) hw) (hct 15 (by decide) (by decide) o) kr kx
  · exact wc_callU (y' := tX16_value) (av := [vR 70]) (st := st) (k := 16) (x := ⟨"FlyingDoctors$Ex", "value", "(LFlyingDoctors$Asked;)I"⟩) hd hlk q1587 (Or.inl q1586) ⟨by decide, by decide⟩ moX16_value rfl q1595 q1621 (by decide) o rfl hst (Nat.le_trans (Nat.add_le_add_left (by decide) _) hw) (hct 16 (by decide) (by decide) o) kr kx
theorem selX_holds : ∀ k, 11 ≤ k → k ≤ 16 → Cond.selects (cNm k) ⟨"FlyingDoctors$Ex", "holds", "(LFlyingDoctors$Asked;)Z"⟩ ⟨"FlyingDoctors$Ex", "holds", "(LFlyingDoctors$Asked;)Z"⟩ ∈ lw_all := by
  intro k h1 h2
  rcases (show k = 11 ∨ k = 12 ∨ k = 13 ∨ k = 14 ∨ k = 15 ∨ k = 16 by omega) with rfl | rfl | rfl | rfl | rfl | rfl
  · exact q1578
  · exact q1580
  · exact q1583
  · exact q1581
  · exact q1582
  · exact q1579
