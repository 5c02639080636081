set_option maxRecDepth 100000
set_option maxHeartbeats 1000000
/-! what methods do, and their walks, by program -/
def tJ17_append : Mt := (⟨"java/lang/AbstractStringBuilder", "append", "(C)Ljava/lang/AbstractStringBuilder;"⟩, prog_26_method_31_code, 2, (Option.some (Jvm.ClassFile.FieldType.object "java/lang/AbstractStringBuilder")), [])
def DJ17_append : List (Nat × Instr × Nat) := [(0, .aload_n 0, 1), (1, .aload_n 0, 1), (2, .getfield 79, 3), (5, .iconst 1, 1), (6, .iadd, 1), (7, .invokevirtual 100, 3), (10, .aload_n 0, 1), (11, .invokevirtual 83, 3), (14, .ifCond .eq 31, 3), (17, .iload_n 1, 1), (18, .invokestatic 191, 3), (21, .ifCond .eq 24, 3), (24, .aload_n 0, 1), (25, .getfield 15, 3), (28, .aload_n 0, 1), (29, .dup, 1), (30, .getfield 79, 3), (33, .dup_x1, 1), (34, .iconst 1, 1), (35, .iadd, 1), (36, .putfield 79, 3), (39, .iload_n 1, 1), (40, .i2b, 1), (41, .bastore, 1), (42, .goto 33, 3), (45, .aload_n 0, 1), (46, .invokevirtual 83, 3), (49, .ifCond .eq 7, 3), (52, .aload_n 0, 1), (53, .invokevirtual 195, 3), (56, .aload_n 0, 1), (57, .getfield 15, 3), (60, .aload_n 0, 1), (61, .dup, 1), (62, .getfield 79, 3), (65, .dup_x1, 1), (66, .iconst 1, 1), (67, .iadd, 1), (68, .putfield 79, 3), (71, .iload_n 1, 1), (72, .invokestatic 197, 3), (75, .aload_n 0, 1), (76, .areturn, 1)]
theorem dtJ17_append : chkD (mB tJ17_append) DJ17_append = true := by decide +kernel
theorem moJ17_append : MethOk tJ17_append 1 := ⟨Or.inl ⟨rfl, q1047⟩, by decide +kernel, ⟨by decide, by decide⟩, by decide +kernel⟩
def mJ17_append (r0 : Nat) (x1 : Int) (h : Hp) (Q : Rs → Hp → Prop) : Prop := ob h r0 48 ∧ nm ((hI h r0 3) + 1) ∧ mJ17_ensureCapacityInternal r0 ((hI h r0 3) + 1) h (kN Q (fun h103 => oJ17_isLatin1 r0 h103 ∧ ob h103 r0 48 ∧ ¬ ((vJ17_isLatin1 r0 h103) = 0) ∧ ¬ ((vJ14_canEncode_2 x1 h103) = 0) ∧ nm ((hI h103 r0 3) + 1) ∧ ∀ h112 : Hp, h112 = sI h103 r0 3 ((hI h103 r0 3) + 1) → okI .byte (i2b x1) ∧ ob h112 (hR h103 r0 0) 71 ∧ 50 ≤ (hR h103 r0 0) ∧ 0 ≤ (hI h103 r0 3) ∧ (hI h103 r0 3) < (hN h112 (hR h103 r0 0)) ∧ ∀ h118 : Hp, h118 = sI h112 (hR h103 r0 0) (Int.toNat (hI h103 r0 3)) (i2b x1) → Q (rV (vR r0)) h118))
theorem wJ17_append {G : Gx} (hg : gF G = true) {d : Nat} {r0 : Nat} {x1 : Int} {h : Hp} {Q : Rs → Hp → Prop} (hm : mJ17_append r0 x1 h Q) : Ct G tJ17_append (d + 4) [vR r0, vI x1] h Q := by
  refine ct_enter (L0 := [some (vR r0), some (vI x1)]) rfl rfl ?_
  unfold mJ17_append at hm
  obtain ⟨o101, o102, hm⟩ := hm
  refine wc_aload_n (pc := 0) (dAt dtJ17_append 0 rfl) rfl (wc_aload_n (pc := 1) (dAt dtJ17_append 1 rfl) rfl (wc_getI (pc := 2) (dAt dtJ17_append 2 rfl) flJ17_79_48 rfl o101 (wc_iconst (pc := 5) (dAt dtJ17_append 3 rfl) ⟨by decide, by decide⟩ (wc_iadd (pc := 6) (dAt dtJ17_append 4 rfl) o102 (wc_callP (k := 48) (y' := tJ17_ensureCapacityInternal) (av := [vI ((hI h r0 3) + 1)]) (st := []) (pc := 7) (dAt dtJ17_append 5 rfl) q1048 q2937 q1049 moJ17_ensureCapacityInternal q1050 (by decide) o101 rfl rfl (Nat.le_of_ble_eq_true rfl) (wJ17_ensureCapacityInternal hg hm) (kr_N (fun h103 hm => ?_)) (kx_N rfl))))))
  obtain ⟨o104, o105, o106, o108, o110, hm⟩ := hm
  obtain ⟨h112, eh112⟩ : ∃ h112 : Hp, h112 = sI h103 r0 3 ((hI h103 r0 3) + 1) := ⟨_, rfl⟩
  replace hm := hm h112 eh112
  obtain ⟨o113, o114, o115, o116, o117, hm⟩ := hm
  obtain ⟨h118, eh118⟩ : ∃ h118 : Hp, h118 = sI h112 (hR h103 r0 0) (Int.toNat (hI h103 r0 3)) (i2b x1) := ⟨_, rfl⟩
  replace hm := hm h118 eh118
  exact wc_aload_n (pc := 10) (dAt dtJ17_append 6 rfl) rfl (wc_callU (k := 48) (x := ⟨"java/lang/AbstractStringBuilder", "isLatin1", "()Z"⟩) (y' := tJ17_isLatin1) (P := eI (vJ17_isLatin1 r0 h103) h103) (pc := 11) (dAt dtJ17_append 7 rfl) q1068 q1070 (Or.inr ⟨_, _, _, q1069, q1072⟩) ⟨by decide, by decide⟩ moJ17_isLatin1 rfl q1069 q1071 (by decide) o105 rfl rfl (Nat.le_of_ble_eq_true rfl) (wJ17_isLatin1 hg o104 ⟨rfl, rfl⟩) (ep_I (wc_if_eq (pc := 14) (tgt := 45) (dAt dtJ17_append 8 rfl) (by decide) (fun c107 => absurd c107 o106) (fun c107 =>  (wc_iload_n (pc := 17) (dAt dtJ17_append 9 rfl) rfl (wc_callS (y' := tJ14_canEncode_2) (P := eI (vJ14_canEncode_2 x1 h103) h103) (pc := 18) (dAt dtJ17_append 10 rfl) lkJ17_191 moJ14_canEncode_2 q1074 q151 rfl rfl (Nat.le_of_ble_eq_true rfl) (wJ14_canEncode_2 hg ⟨rfl, rfl⟩) (ep_I (wc_if_eq (pc := 21) (tgt := 45) (dAt dtJ17_append 11 rfl) (by decide) (fun c109 => absurd c109 o108) (fun c109 =>  (wc_aload_n (pc := 24) (dAt dtJ17_append 12 rfl) rfl (wc_getR (pc := 25) (dAt dtJ17_append 13 rfl) flJ17_15_48 rfl o105 (wc_aload_n (pc := 28) (dAt dtJ17_append 14 rfl) rfl (wc_dup (pc := 29) (dAt dtJ17_append 15 rfl) rfl (wc_getI (pc := 30) (dAt dtJ17_append 16 rfl) flJ17_79_48 rfl o105 (wc_dup_x1 (pc := 33) (dAt dtJ17_append 17 rfl) rfl rfl (wc_iconst (pc := 34) (dAt dtJ17_append 18 rfl) ⟨by decide, by decide⟩ (wc_iadd (pc := 35) (dAt dtJ17_append 19 rfl) o110 (wc_newer o105 (by decide) fun n111 => (wc_putI (pc := 36) (dAt dtJ17_append 20 rfl) flJ17_79_48 (Or.inl rfl) rfl o105 n111 (okI_int _) (wc_hp eh112 (wc_iload_n (pc := 39) (dAt dtJ17_append 21 rfl) rfl (wc_i2b (pc := 40) (dAt dtJ17_append 22 rfl) (wc_bast (pc := 41) (dAt dtJ17_append 23 rfl) o114 o115 o116 o117 o113 (wc_hp eh118 (wc_goto (pc := 42) (tgt := 75) (dAt dtJ17_append 24 rfl) (by decide) (wc_aload_n (pc := 75) (dAt dtJ17_append 41 rfl) rfl (wc_aret (pc := 76) (dAt dtJ17_append 42 rfl) rfl (Or.inl ⟨_, rfl⟩) hm))))))))))))))))))))) ex_I))))) ex_I)
def tJ18_append : Mt := (⟨"java/lang/StringBuilder", "append", "(C)Ljava/lang/StringBuilder;"⟩, prog_41_method_14_code, 2, (Option.some (Jvm.ClassFile.FieldType.object "java/lang/StringBuilder")), [])
def DJ18_append : List (Nat × Instr × Nat) := [(0, .aload_n 0, 1), (1, .iload_n 1, 1), (2, .invokespecial 50, 3), (5, .pop, 1), (6, .aload_n 0, 1), (7, .areturn, 1)]
theorem dtJ18_append : chkD (mB tJ18_append) DJ18_append = true := by decide +kernel
theorem moJ18_append : MethOk tJ18_append 1 := ⟨Or.inl ⟨rfl, q1044⟩, by decide +kernel, ⟨by decide, by decide⟩, by decide +kernel⟩
def mJ18_append (r0 : Nat) (x1 : Int) (h : Hp) (Q : Rs → Hp → Prop) : Prop := ob h r0 48 ∧ mJ17_append r0 x1 h (kR Q (fun r103 h102 => Q (rV (vR r0)) h102))
theorem wJ18_append {G : Gx} (hg : gF G = true) {d : Nat} {r0 : Nat} {x1 : Int} {h : Hp} {Q : Rs → Hp → Prop} (hm : mJ18_append r0 x1 h Q) : Ct G tJ18_append (d + 5) [vR r0, vI x1] h Q := by
  refine ct_enter (L0 := [some (vR r0), some (vI x1)]) rfl rfl ?_
  unfold mJ18_append at hm
  obtain ⟨o101, hm⟩ := hm
  refine wc_aload_n (pc := 0) (dAt dtJ18_append 0 rfl) rfl (wc_iload_n (pc := 1) (dAt dtJ18_append 1 rfl) rfl (wc_callSU (k := 48) (y' := tJ17_append) (av := [vI x1]) (st := []) (pc := 2) (dAt dtJ18_append 2 rfl) q1045 q2936 q1040 moJ17_append q1046 (by decide) (by decide) o101 rfl rfl (Nat.le_of_ble_eq_true rfl) (wJ17_append hg hm) (kr_R (fun r103 h102 hm => ?_)) (kx_R rfl)))
  exact wc_pop (pc := 5) (dAt dtJ18_append 3 rfl) rfl (wc_aload_n (pc := 6) (dAt dtJ18_append 4 rfl) rfl (wc_aret (pc := 7) (dAt dtJ18_append 5 rfl) rfl (Or.inl ⟨_, rfl⟩) hm))
def tJ17_getValue : Mt := (⟨"java/lang/AbstractStringBuilder", "getValue", "()[B"⟩, prog_26_method_64_code, 1, (Option.some (Jvm.ClassFile.FieldType.array Jvm.ClassFile.FieldType.byte)), [])
def DJ17_getValue : List (Nat × Instr × Nat) := [(0, .aload_n 0, 1), (1, .getfield 15, 3), (4, .areturn, 1)]
theorem dtJ17_getValue : chkD (mB tJ17_getValue) DJ17_getValue = true := by decide +kernel
theorem moJ17_getValue : MethOk tJ17_getValue 0 := ⟨Or.inl ⟨rfl, q1118⟩, by decide +kernel, ⟨by decide, by decide⟩, by decide +kernel⟩
def vJ17_getValue (r0 : Nat) (h : Hp) : Nat := (hR h r0 0)
def oJ17_getValue (r0 : Nat) (h : Hp) : Prop := ob h r0 48
theorem wJ17_getValue {G : Gx} (hg : gF G = true) {d : Nat} {r0 : Nat} {h : Hp} {Q : Rs → Hp → Prop} (hm : oJ17_getValue r0 h) (hq : Q (rV (vR (vJ17_getValue r0 h))) h) : Ct G tJ17_getValue (d + 0) [vR r0] h Q := by
  refine ct_enter (L0 := [some (vR r0)]) rfl rfl ?_
  have o101 := hm
  have z : Q (rV (vR (hR h r0 0))) h := by
    rw [show (vJ17_getValue r0 h) = (hR h r0 0) from rfl] at hq
    exact hq
  exact wc_aload_n (pc := 0) (dAt dtJ17_getValue 0 rfl) rfl (wc_getR (pc := 1) (dAt dtJ17_getValue 1 rfl) flJ17_15_48 rfl o101 (wc_aret (pc := 4) (dAt dtJ17_getValue 2 rfl) rfl (Or.inr ⟨_, rfl⟩) z))
def tJ17_length : Mt := (⟨"java/lang/AbstractStringBuilder", "length", "()I"⟩, prog_26_method_6_code, 1, (Option.some Jvm.ClassFile.FieldType.int), [])
def DJ17_length : List (Nat × Instr × Nat) := [(0, .aload_n 0, 1), (1, .getfield 79, 3), (4, .ireturn, 1)]
theorem dtJ17_length : chkD (mB tJ17_length) DJ17_length = true := by decide +kernel
theorem moJ17_length : MethOk tJ17_length 0 := ⟨Or.inl ⟨rfl, q1126⟩, by decide +kernel, ⟨by decide, by decide⟩, by decide +kernel⟩
def vJ17_length (r0 : Nat) (h : Hp) : Int := (hI h r0 3)
def oJ17_length (r0 : Nat) (h : Hp) : Prop := ob h r0 48
theorem wJ17_length {G : Gx} (hg : gF G = true) {d : Nat} {r0 : Nat} {h : Hp} {Q : Rs → Hp → Prop} (hm : oJ17_length r0 h) (hq : Q (rV (vI (vJ17_length r0 h))) h) : Ct G tJ17_length (d + 0) [vR r0] h Q := by
  refine ct_enter (L0 := [some (vR r0)]) rfl rfl ?_
  have o101 := hm
  have z : Q (rV (vI (hI h r0 3))) h := by
    rw [show (vJ17_length r0 h) = (hI h r0 3) from rfl] at hq
    exact hq
  exact wc_aload_n (pc := 0) (dAt dtJ17_length 0 rfl) rfl (wc_getI (pc := 1) (dAt dtJ17_length 1 rfl) flJ17_79_48 rfl o101 (wc_iret (pc := 4) (dAt dtJ17_length 2 rfl) rfl (nar_int _) z))
def tJ18_length : Mt := (⟨"java/lang/StringBuilder", "length", "()I"⟩, prog_41_method_93_code, 1, (Option.some Jvm.ClassFile.FieldType.int), [])
def DJ18_length : List (Nat × Instr × Nat) := [(0, .aload_n 0, 1), (1, .invokespecial 343, 3), (4, .ireturn, 1)]
theorem dtJ18_length : chkD (mB tJ18_length) DJ18_length = true := by decide +kernel
theorem moJ18_length : MethOk tJ18_length 0 := ⟨Or.inl ⟨rfl, q1124⟩, by decide +kernel, ⟨by decide, by decide⟩, by decide +kernel⟩
def vJ18_length (r0 : Nat) (h : Hp) : Int := (vJ17_length r0 h)
def oJ18_length (r0 : Nat) (h : Hp) : Prop := oJ17_length r0 h ∧ ob h r0 48
theorem wJ18_length {G : Gx} (hg : gF G = true) {d : Nat} {r0 : Nat} {h : Hp} {Q : Rs → Hp → Prop} (hm : oJ18_length r0 h) (hq : Q (rV (vI (vJ18_length r0 h))) h) : Ct G tJ18_length (d + 1) [vR r0] h Q := by
  refine ct_enter (L0 := [some (vR r0)]) rfl rfl ?_
  obtain ⟨o101, o102⟩ := hm
  have z : Q (rV (vI (vJ17_length r0 h))) h := by
    rw [show (vJ18_length r0 h) = (vJ17_length r0 h) from rfl] at hq
    exact hq
  exact wc_aload_n (pc := 0) (dAt dtJ18_length 0 rfl) rfl (wc_callSU (k := 48) (y' := tJ17_length) (P := eI (vJ17_length r0 h) h) (pc := 1) (dAt dtJ18_length 1 rfl) q1125 q1121 q1040 moJ17_length q1120 (by decide) (by decide) o102 rfl rfl (Nat.le_of_ble_eq_true rfl) (wJ17_length hg o101 ⟨rfl, rfl⟩) (ep_I (wc_iret (pc := 4) (dAt dtJ18_length 2 rfl) rfl (nar_int _) z)) ex_I)
def tJ5_checkLength : Mt := (⟨"java/util/Arrays", "checkLength", "(II)V"⟩, prog_51_method_131_code, 2, (Option.none : Option Jvm.ClassFile.FieldType), [])
def DJ5_checkLength : List (Nat × Instr × Nat) := [(0, .iload_n 1, 1), (1, .iload_n 0, 1), (2, .if_icmp .ge 35, 3), (5, .new 43, 3), (8, .dup, 1), (9, .new 45, 3), (12, .dup, 1), (13, .invokespecial 47, 3), (16, .iload_n 0, 1), (17, .invokevirtual 54, 3), (20, .ldc_w 337, 3), (23, .invokevirtual 50, 3), (26, .iload_n 1, 1), (27, .invokevirtual 54, 3), (30, .invokevirtual 61, 3), (33, .invokespecial 65, 3), (36, .athrow, 1), (37, .return_, 1)]
theorem dtJ5_checkLength : chkD (mB tJ5_checkLength) DJ5_checkLength = true := by decide +kernel
theorem moJ5_checkLength : MethOk tJ5_checkLength 2 := ⟨Or.inl ⟨rfl, q1136⟩, by decide +kernel, ⟨by decide, by decide⟩, by decide +kernel⟩
def mJ5_checkLength (x0 : Int) (x1 : Int) (h : Hp) (Q : Rs → Hp → Prop) : Prop := x0 ≤ x1 ∧ Q rN h
theorem wJ5_checkLength {G : Gx} (hg : gF G = true) {d : Nat} {x0 : Int} {x1 : Int} {h : Hp} {Q : Rs → Hp → Prop} (hm : mJ5_checkLength x0 x1 h Q) : Ct G tJ5_checkLength (d + 0) [vI x0, vI x1] h Q := by
  refine ct_enter (L0 := [some (vI x0), some (vI x1)]) rfl rfl ?_
  unfold mJ5_checkLength at hm
  obtain ⟨o101, hm⟩ := hm
  exact wc_iload_n (pc := 0) (dAt dtJ5_checkLength 0 rfl) rfl (wc_iload_n (pc := 1) (dAt dtJ5_checkLength 1 rfl) rfl (wc_icmp_ge (pc := 2) (tgt := 37) (dAt dtJ5_checkLength 2 rfl) (by decide) (fun c102 =>  (wc_vret (pc := 37) (dAt dtJ5_checkLength 17 rfl) rfl hm)) (fun c102 => absurd o101 c102)))
def tJ5_copyOfRangeByte : Mt := (⟨"java/util/Arrays", "copyOfRangeByte", "([BII)[B"⟩, prog_51_method_133_code, 5, (Option.some (Jvm.ClassFile.FieldType.array Jvm.ClassFile.FieldType.byte)), [])
def DJ5_copyOfRangeByte : List (Nat × Instr × Nat) := [(0, .iload_n 1, 1), (1, .iload_n 2, 1), (2, .invokestatic 343, 3), (5, .iload_n 2, 1), (6, .iload_n 1, 1), (7, .isub, 1), (8, .istore_n 3, 1), (9, .iload_n 3, 1), (10, .newarray .byte, 2), (12, .astore 4, 2), (14, .aload_n 0, 1), (15, .iload_n 1, 1), (16, .aload 4, 2), (18, .iconst 0, 1), (19, .aload_n 0, 1), (20, .arraylength, 1), (21, .iload_n 1, 1), (22, .isub, 1), (23, .iload_n 3, 1), (24, .invokestatic 304, 3), (27, .invokestatic 150, 3), (30, .aload 4, 2), (32, .areturn, 1)]
theorem dtJ5_copyOfRangeByte : chkD (mB tJ5_copyOfRangeByte) DJ5_copyOfRangeByte = true := by decide +kernel
theorem moJ5_copyOfRangeByte : MethOk tJ5_copyOfRangeByte 3 := ⟨Or.inl ⟨rfl, q1133⟩, by decide +kernel, ⟨by decide, by decide⟩, by decide +kernel⟩
def mJ5_copyOfRangeByte (r0 : Nat) (x1 : Int) (x2 : Int) (h : Hp) (Q : Rs → Hp → Prop) : Prop := mJ5_checkLength x1 x2 h (kN Q (fun h101 => nm (x2 - x1) ∧ ∀ v103 : Int, v103 = (x2 - x1) → 0 ≤ v103 ∧ v103 ≤ 30000 ∧ hn h101 + 1 ≤ 878547 ∧ hq h101 + (Int.toNat v103) ≤ 6460613 ∧ ∀ r109 : Nat, r109 = hn h101 → ∀ h110 : Hp, h110 = nw h101 71 (Int.toNat v103) (Int.toNat v103) → ob h110 r0 71 ∧ nm (hN h110 r0 : Int) ∧ nm ((hN h110 r0 : Int) - x1) ∧ 0 ≤ x1 ∧ 0 ≤ (vJ4_min ((hN h110 r0 : Int) - x1) v103 h110) ∧ (x1 : Int) + (vJ4_min ((hN h110 r0 : Int) - x1) v103 h110) ≤ hN h110 r0 ∧ (0 : Int) + (vJ4_min ((hN h110 r0 : Int) - x1) v103 h110) ≤ hN h110 r109 ∧ (∀ i : Nat, i < (Int.toNat (vJ4_min ((hN h110 r0 : Int) - x1) v103 h110)) → okI .byte (hI h110 r0 ((Int.toNat x1) + i))) ∧ ∀ h120 : Hp, h120 = cpI h110 r109 0 r0 (Int.toNat x1) (Int.toNat (vJ4_min ((hN h110 r0 : Int) - x1) v103 h110)) → Q (rV (vR r109)) h120))
theorem wJ5_copyOfRangeByte {G : Gx} (hg : gF G = true) {d : Nat} {r0 : Nat} {x1 : Int} {x2 : Int} {h : Hp} {Q : Rs → Hp → Prop} (hm : mJ5_copyOfRangeByte r0 x1 x2 h Q) : Ct G tJ5_copyOfRangeByte (d + 1) [vR r0, vI x1, vI x2] h Q := by
  refine ct_enter (L0 := [some (vR r0), some (vI x1), some (vI x2), none, none]) rfl rfl ?_
  unfold mJ5_copyOfRangeByte at hm
  refine wc_iload_n (pc := 0) (dAt dtJ5_copyOfRangeByte 0 rfl) rfl (wc_iload_n (pc := 1) (dAt dtJ5_copyOfRangeByte 1 rfl) rfl (wc_callS (y' := tJ5_checkLength) (av := [vI x1, vI x2]) (st := []) (pc := 2) (dAt dtJ5_copyOfRangeByte 2 rfl) lkJ5_343 moJ5_checkLength q1135 q138 rfl rfl (Nat.le_of_ble_eq_true rfl) (wJ5_checkLength hg hm) (kr_N (fun h101 hm => ?_)) (kx_N rfl)))
  obtain ⟨o102, hm⟩ := hm
  obtain ⟨v103, ev103⟩ : ∃ v103 : Int, v103 = (x2 - x1) := ⟨_, rfl⟩
  replace hm := hm v103 ev103
  obtain ⟨o104, o105, o106, o107, hm⟩ := hm
  obtain ⟨r109, er109⟩ : ∃ r109 : Nat, r109 = hn h101 := ⟨_, rfl⟩
  replace hm := hm r109 er109
  obtain ⟨h110, eh110⟩ : ∃ h110 : Hp, h110 = nw h101 71 (Int.toNat v103) (Int.toNat v103) := ⟨_, rfl⟩
  replace hm := hm h110 eh110
  obtain ⟨o111, o112, o113, o114, o115, o116, o117, o119, hm⟩ := hm
  obtain ⟨h120, eh120⟩ : ∃ h120 : Hp, h120 = cpI h110 r109 0 r0 (Int.toNat x1) (Int.toNat (vJ4_min ((hN h110 r0 : Int) - x1) v103 h110)) := ⟨_, rfl⟩
  replace hm := hm h120 eh120
  exact wc_iload_n (pc := 5) (dAt dtJ5_copyOfRangeByte 3 rfl) rfl (wc_iload_n (pc := 6) (dAt dtJ5_copyOfRangeByte 4 rfl) rfl (wc_isub (pc := 7) (dAt dtJ5_copyOfRangeByte 5 rfl) o102 (wc_vi ev103 (wc_istore_n (pc := 8) (dAt dtJ5_copyOfRangeByte 6 rfl) (by decide) (wc_L (L' := [some (vR r0), some (vI x1), some (vI x2), some (vI v103), none]) rfl (wc_iload_n (pc := 9) (dAt dtJ5_copyOfRangeByte 7 rfl) rfl (wc_k0 fun n108 => (wc_newarr (t := 71) (pc := 10) (dAt dtJ5_copyOfRangeByte 8 rfl) rfl ⟨by decide, by decide⟩ q242 o104 o105 o106 o107 (wc_hp eh110 (wc_vr er109 (wc_astore (pc := 12) (dAt dtJ5_copyOfRangeByte 9 rfl) (by decide) (wc_L (L' := [some (vR r0), some (vI x1), some (vI x2), some (vI v103), some (vR r109)]) rfl (wc_aload_n (pc := 14) (dAt dtJ5_copyOfRangeByte 10 rfl) rfl (wc_iload_n (pc := 15) (dAt dtJ5_copyOfRangeByte 11 rfl) rfl (wc_aload (pc := 16) (dAt dtJ5_copyOfRangeByte 12 rfl) rfl (wc_iconst (pc := 18) (dAt dtJ5_copyOfRangeByte 13 rfl) ⟨by decide, by decide⟩ (wc_aload_n (pc := 19) (dAt dtJ5_copyOfRangeByte 14 rfl) rfl (wc_alen (pc := 20) (dAt dtJ5_copyOfRangeByte 15 rfl) ⟨by decide, by decide⟩ o111 o112 (wc_iload_n (pc := 21) (dAt dtJ5_copyOfRangeByte 16 rfl) rfl (wc_isub (pc := 22) (dAt dtJ5_copyOfRangeByte 17 rfl) o113 (wc_iload_n (pc := 23) (dAt dtJ5_copyOfRangeByte 18 rfl) rfl (wc_callS (y' := tJ4_min) (P := eI (vJ4_min ((hN h110 r0 : Int) - x1) v103 h110) h110) (pc := 24) (dAt dtJ5_copyOfRangeByte 19 rfl) lkJ5_304 moJ4_min q494 q137 rfl rfl (Nat.le_of_ble_eq_true rfl) (wJ4_min hg ⟨rfl, rfl⟩) (ep_I (wc_copyI (t := 71) (pc := 27) (dAt dtJ5_copyOfRangeByte 20 rfl) q496 q498 q497 q139 (by decide) o111 (ob_at er109 eh110 n108) (k0_at er109 n108) o114 (by decide) o115 o116 o117 (Nat.le_of_ble_eq_true rfl) o119 (wc_hp eh120 (wc_aload (pc := 30) (dAt dtJ5_copyOfRangeByte 21 rfl) rfl (wc_aret (pc := 32) (dAt dtJ5_copyOfRangeByte 22 rfl) rfl (Or.inr ⟨_, rfl⟩) hm))))) ex_I))))))))))))))))))))))
def tJ5_copyOfRange : Mt := (⟨"java/util/Arrays", "copyOfRange", "([BII)[B"⟩, prog_51_method_132_code, 3, (Option.some (Jvm.ClassFile.FieldType.array Jvm.ClassFile.FieldType.byte)), [])
def DJ5_copyOfRange : List (Nat × Instr × Nat) := [(0, .iload_n 1, 1), (1, .ifCond .ne 9, 3), (4, .iload_n 2, 1), (5, .aload_n 0, 1), (6, .arraylength, 1), (7, .if_icmp .eq 10, 3), (10, .aload_n 0, 1), (11, .iload_n 1, 1), (12, .iload_n 2, 1), (13, .invokestatic 339, 3), (16, .areturn, 1), (17, .aload_n 0, 1), (18, .invokevirtual 310, 3), (21, .checkcast 311, 3), (24, .areturn, 1)]
theorem dtJ5_copyOfRange : chkD (mB tJ5_copyOfRange) DJ5_copyOfRange = true := by decide +kernel
theorem moJ5_copyOfRange : MethOk tJ5_copyOfRange 3 := ⟨Or.inl ⟨rfl, q1130⟩, by decide +kernel, ⟨by decide, by decide⟩, by decide +kernel⟩
def mJ5_copyOfRange (r0 : Nat) (x1 : Int) (x2 : Int) (h : Hp) (Q : Rs → Hp → Prop) : Prop := ¬ (x1 ≠ 0) ∧ ob h r0 71 ∧ nm (hN h r0 : Int) ∧ ¬ (x2 = (hN h r0 : Int)) ∧ mJ5_copyOfRangeByte r0 x1 x2 h (kR Q (fun r108 h107 => Q (rV (vR r108)) h107))
theorem wJ5_copyOfRange {G : Gx} (hg : gF G = true) {d : Nat} {r0 : Nat} {x1 : Int} {x2 : Int} {h : Hp} {Q : Rs → Hp → Prop} (hm : mJ5_copyOfRange r0 x1 x2 h Q) : Ct G tJ5_copyOfRange (d + 2) [vR r0, vI x1, vI x2] h Q := by
  refine ct_enter (L0 := [some (vR r0), some (vI x1), some (vI x2)]) rfl rfl ?_
  unfold mJ5_copyOfRange at hm
  obtain ⟨o101, o103, o104, o105, hm⟩ := hm
  refine wc_iload_n (pc := 0) (dAt dtJ5_copyOfRange 0 rfl) rfl (wc_if_ne (pc := 1) (tgt := 10) (dAt dtJ5_copyOfRange 1 rfl) (by decide) (fun c102 => absurd c102 o101) (fun c102 =>  (wc_iload_n (pc := 4) (dAt dtJ5_copyOfRange 2 rfl) rfl (wc_aload_n (pc := 5) (dAt dtJ5_copyOfRange 3 rfl) rfl (wc_alen (pc := 6) (dAt dtJ5_copyOfRange 4 rfl) ⟨by decide, by decide⟩ o103 o104 (wc_icmp_eq (pc := 7) (tgt := 17) (dAt dtJ5_copyOfRange 5 rfl) (by decide) (fun c106 => absurd c106 o105) (fun c106 =>  (wc_aload_n (pc := 10) (dAt dtJ5_copyOfRange 6 rfl) rfl (wc_iload_n (pc := 11) (dAt dtJ5_copyOfRange 7 rfl) rfl (wc_iload_n (pc := 12) (dAt dtJ5_copyOfRange 8 rfl) rfl (wc_callS (y' := tJ5_copyOfRangeByte) (av := [vR r0, vI x1, vI x2]) (st := []) (pc := 13) (dAt dtJ5_copyOfRange 9 rfl) lkJ5_339 moJ5_copyOfRangeByte q1132 q138 rfl rfl (Nat.le_of_ble_eq_true rfl) (wJ5_copyOfRangeByte hg hm) (kr_R (fun r108 h107 hm => ?_)) (kx_R rfl))))))))))))
  exact wc_aret (pc := 16) (dAt dtJ5_copyOfRange 10 rfl) rfl (Or.inr ⟨_, rfl⟩) hm
def tJ13_init_2 : Mt := (⟨"java/lang/String", "<init>", "(Ljava/lang/AbstractStringBuilder;Ljava/lang/Void;)V"⟩, prog_40_method_150_code, 5, (Option.none : Option Jvm.ClassFile.FieldType), [])
def DJ13_init_2 : List (Nat × Instr × Nat) := [(0, .aload_n 0, 1), (1, .invokespecial 1, 3), (4, .aload_n 1, 1), (5, .invokevirtual 552, 3), (8, .astore_n 3, 1), (9, .aload_n 1, 1), (10, .invokevirtual 549, 3), (13, .istore 4, 2), (15, .aload_n 1, 1), (16, .invokevirtual 1047, 3), (19, .ifCond .eq 22, 3), (22, .aload_n 0, 1), (23, .iconst 0, 1), (24, .putfield 15, 3), (27, .aload_n 0, 1), (28, .aload_n 3, 1), (29, .iconst 0, 1), (30, .iload 4, 2), (32, .invokestatic 54, 3), (35, .putfield 9, 3), (38, .goto 59, 3), (41, .getstatic 38, 3), (44, .ifCond .eq 35, 3), (47, .aload_n 1, 1), (48, .getfield 1048, 3), (51, .ifCond .eq 28, 3), (54, .aload_n 0, 1), (55, .aload_n 3, 1), (56, .iconst 0, 1), (57, .iload 4, 2), (59, .invokestatic 1051, 3), (62, .putfield 9, 3), (65, .aload_n 0, 1), (66, .aload_n 0, 1), (67, .getfield 9, 3), (70, .iload 4, 2), (72, .invokestatic 47, 3), (75, .putfield 15, 3), (78, .return_, 1), (79, .aload_n 0, 1), (80, .iconst 1, 1), (81, .putfield 15, 3), (84, .aload_n 0, 1), (85, .aload_n 3, 1), (86, .iconst 0, 1), (87, .iload 4, 2), (89, .iconst 1, 1), (90, .ishl, 1), (91, .invokestatic 54, 3), (94, .putfield 9, 3), (97, .return_, 1)]
theorem dtJ13_init_2 : chkD (mB tJ13_init_2) DJ13_init_2 = true := by decide +kernel
theorem moJ13_init_2 : MethOk tJ13_init_2 2 := ⟨Or.inl ⟨rfl, q1112⟩, by decide +kernel, ⟨by decide, by decide⟩, by decide +kernel⟩
def mJ13_init_2 (r0 : Nat) (r1 : Nat) (r2 : Nat) (h : Hp) (Q : Rs → Hp → Prop) : Prop := 50 ≤ r0 ∧ oJ17_getValue r1 h ∧ ob h r1 48 ∧ ∀ r104 : Nat, r104 = (vJ17_getValue r1 h) → oJ18_length r1 h ∧ ∀ v106 : Int, v106 = (vJ18_length r1 h) → oJ17_isLatin1 r1 h ∧ ¬ ((vJ17_isLatin1 r1 h) = 0) ∧ okI .byte 0 ∧ ob h r0 43 ∧ ∀ h112 : Hp, h112 = sI h r0 1 0 → mJ5_copyOfRange r104 0 v106 h112 (kR Q (fun r114 h113 => ob h113 r0 43 ∧ ∀ h116 : Hp, h116 = sR h113 r0 0 r114 → Q rN h116))
theorem wJ13_init_2 {G : Gx} (hg : gF G = true) {d : Nat} {r0 : Nat} {r1 : Nat} {r2 : Nat} {h : Hp} {Q : Rs → Hp → Prop} (hm : mJ13_init_2 r0 r1 r2 h Q) : Ct G tJ13_init_2 (d + 3) [vR r0, vR r1, vR r2] h Q := by
  refine ct_enter (L0 := [some (vR r0), some (vR r1), some (vR r2), none, none]) rfl rfl ?_
  unfold mJ13_init_2 at hm
  obtain ⟨o101, o102, o103, hm⟩ := hm
  obtain ⟨r104, er104⟩ : ∃ r104 : Nat, r104 = (vJ17_getValue r1 h) := ⟨_, rfl⟩
  replace hm := hm r104 er104
  obtain ⟨o105, hm⟩ := hm
  obtain ⟨v106, ev106⟩ : ∃ v106 : Int, v106 = (vJ18_length r1 h) := ⟨_, rfl⟩
  replace hm := hm v106 ev106
  obtain ⟨o107, o108, o110, o111, hm⟩ := hm
  obtain ⟨h112, eh112⟩ : ∃ h112 : Hp, h112 = sI h r0 1 0 := ⟨_, rfl⟩
  replace hm := hm h112 eh112
  refine wc_aload_n (pc := 0) (dAt dtJ13_init_2 0 rfl) rfl (wc_obj (pc := 1) (dAt dtJ13_init_2 1 rfl) q1113 q180 q181 o101 (Nat.le_of_ble_eq_true rfl) (wc_aload_n (pc := 4) (dAt dtJ13_init_2 2 rfl) rfl (wc_callU (k := 48) (x := ⟨"java/lang/AbstractStringBuilder", "getValue", "()[B"⟩) (y' := tJ17_getValue) (P := eR (vJ17_getValue r1 h) h) (pc := 5) (dAt dtJ13_init_2 3 rfl) q1114 q1116 (Or.inr ⟨_, _, _, q1115, q1118⟩) ⟨by decide, by decide⟩ moJ17_getValue rfl q1115 q1117 (by decide) o103 rfl rfl (Nat.le_of_ble_eq_true rfl) (wJ17_getValue hg o102 ⟨rfl, rfl⟩) (ep_R (wc_vr er104 (wc_astore_n (pc := 8) (dAt dtJ13_init_2 4 rfl) (by decide) (wc_L (L' := [some (vR r0), some (vR r1), some (vR r2), some (vR r104), none]) rfl (wc_aload_n (pc := 9) (dAt dtJ13_init_2 5 rfl) rfl (wc_callU (k := 48) (x := ⟨"java/lang/AbstractStringBuilder", "length", "()I"⟩) (y' := tJ18_length) (P := eI (vJ18_length r1 h) h) (pc := 10) (dAt dtJ13_init_2 6 rfl) q1119 q1121 (Or.inr ⟨_, _, _, q1120, q1126⟩) ⟨by decide, by decide⟩ moJ18_length rfl q1123 q1122 (by decide) o103 rfl rfl (Nat.le_of_ble_eq_true rfl) (wJ18_length hg o105 ⟨rfl, rfl⟩) (ep_I (wc_vi ev106 (wc_istore (pc := 13) (dAt dtJ13_init_2 7 rfl) (by decide) (wc_L (L' := [some (vR r0), some (vR r1), some (vR r2), some (vR r104), some (vI v106)]) rfl (wc_aload_n (pc := 15) (dAt dtJ13_init_2 8 rfl) rfl (wc_callU (k := 48) (x := ⟨"java/lang/AbstractStringBuilder", "isLatin1", "()Z"⟩) (y' := tJ17_isLatin1) (P := eI (vJ17_isLatin1 r1 h) h) (pc := 16) (dAt dtJ13_init_2 9 rfl) q1127 q1070 (Or.inr ⟨_, _, _, q1069, q1072⟩) ⟨by decide, by decide⟩ moJ17_isLatin1 rfl q1069 q1071 (by decide) o103 rfl rfl (Nat.le_of_ble_eq_true rfl) (wJ17_isLatin1 hg o107 ⟨rfl, rfl⟩) (ep_I (wc_if_eq (pc := 19) (tgt := 41) (dAt dtJ13_init_2 10 rfl) (by decide) (fun c109 => absurd c109 o108) (fun c109 =>  (wc_aload_n (pc := 22) (dAt dtJ13_init_2 11 rfl) rfl (wc_iconst (pc := 23) (dAt dtJ13_init_2 12 rfl) ⟨by decide, by decide⟩ (wc_putI (pc := 24) (dAt dtJ13_init_2 13 rfl) flJ13_15_43 (Or.inr ⟨rfl, rfl, rfl⟩) rfl o111 o101 o110 (wc_hp eh112 (wc_aload_n (pc := 27) (dAt dtJ13_init_2 14 rfl) rfl (wc_aload_n (pc := 28) (dAt dtJ13_init_2 15 rfl) rfl (wc_iconst (pc := 29) (dAt dtJ13_init_2 16 rfl) ⟨by decide, by decide⟩ (wc_iload (pc := 30) (dAt dtJ13_init_2 17 rfl) rfl (wc_callS (y' := tJ5_copyOfRange) (av := [vR r104, vI 0, vI v106]) (st := [vR r0]) (pc := 32) (dAt dtJ13_init_2 18 rfl) lkJ13_54 moJ5_copyOfRange q1129 q138 rfl rfl (Nat.le_of_ble_eq_true rfl) (wJ5_copyOfRange hg hm) (kr_R (fun r114 h113 hm => ?_)) (kx_R rfl))))))))))))) ex_I)))))) ex_I)))))) ex_R)))
  obtain ⟨o115, hm⟩ := hm
  obtain ⟨h116, eh116⟩ : ∃ h116 : Hp, h116 = sR h113 r0 0 r114 := ⟨_, rfl⟩
  replace hm := hm h116 eh116
  exact wc_putR (pc := 35) (dAt dtJ13_init_2 19 rfl) flJ13_9_43 (Or.inr ⟨rfl, rfl, rfl⟩) rfl o115 o101 (fun _ => ⟨by decide, by decide, by decide⟩) (wc_hp eh116 (wc_goto (pc := 38) (tgt := 97) (dAt dtJ13_init_2 20 rfl) (by decide) (wc_vret (pc := 97) (dAt dtJ13_init_2 50 rfl) rfl hm)))
def tJ13_init : Mt := (⟨"java/lang/String", "<init>", "(Ljava/lang/StringBuilder;)V"⟩, prog_40_method_53_code, 2, (Option.none : Option Jvm.ClassFile.FieldType), [])
def DJ13_init : List (Nat × Instr × Nat) := [(0, .aload_n 0, 1), (1, .aload_n 1, 1), (2, .aconst_null, 1), (3, .invokespecial 489, 3), (6, .return_, 1)]
theorem dtJ13_init : chkD (mB tJ13_init) DJ13_init = true := by decide +kernel
theorem moJ13_init : MethOk tJ13_init 1 := ⟨Or.inl ⟨rfl, q1109⟩, by decide +kernel, ⟨by decide, by decide⟩, by decide +kernel⟩
def mJ13_init (r0 : Nat) (r1 : Nat) (h : Hp) (Q : Rs → Hp → Prop) : Prop := 50 ≤ r0 ∧ mJ13_init_2 r0 r1 0 h (kN Q (fun h102 => Q rN h102))
theorem wJ13_init {G : Gx} (hg : gF G = true) {d : Nat} {r0 : Nat} {r1 : Nat} {h : Hp} {Q : Rs → Hp → Prop} (hm : mJ13_init r0 r1 h Q) : Ct G tJ13_init (d + 4) [vR r0, vR r1] h Q := by
  refine ct_enter (L0 := [some (vR r0), some (vR r1)]) rfl rfl ?_
  unfold mJ13_init at hm
  obtain ⟨o101, hm⟩ := hm
  refine wc_aload_n (pc := 0) (dAt dtJ13_init 0 rfl) rfl (wc_aload_n (pc := 1) (dAt dtJ13_init 1 rfl) rfl (wc_null (pc := 2) (dAt dtJ13_init 2 rfl) (wc_callI (y' := tJ13_init_2) (av := [vR r1, vR 0]) (st := []) (pc := 3) (dAt dtJ13_init 3 rfl) lkJ13_489 moJ13_init_2 q1111 rfl q1112 o101 rfl rfl (Nat.le_of_ble_eq_true rfl) (wJ13_init_2 hg hm) (kr_N (fun h102 hm => ?_)) (kx_N rfl))))
  exact wc_vret (pc := 6) (dAt dtJ13_init 4 rfl) rfl hm
def tJ18_toString : Mt := (⟨"java/lang/StringBuilder", "toString", "()Ljava/lang/String;"⟩, prog_41_method_42_code, 1, (Option.some (Jvm.ClassFile.FieldType.object "java/lang/String")), [])
def DJ18_toString : List (Nat × Instr × Nat) := [(0, .new 18, 3), (3, .dup, 1), (4, .aload_n 0, 1), (5, .invokespecial 137, 3), (8, .areturn, 1)]
theorem dtJ18_toString : chkD (mB tJ18_toString) DJ18_toString = true := by decide +kernel
theorem moJ18_toString : MethOk tJ18_toString 0 := ⟨Or.inl ⟨rfl, q1104⟩, by decide +kernel, ⟨by decide, by decide⟩, by decide +kernel⟩
def mJ18_toString (r0 : Nat) (h : Hp) (Q : Rs → Hp → Prop) : Prop := hn h + 1 ≤ 878547 ∧ hq h + 4 ≤ 6460613 ∧ ∀ r104 : Nat, r104 = hn h → ∀ h105 : Hp, h105 = nw h 43 0 4 → mJ13_init r104 r0 h105 (kN Q (fun h106 => Q (rV (vR r104)) h106))
theorem wJ18_toString {G : Gx} (hg : gF G = true) {d : Nat} {r0 : Nat} {h : Hp} {Q : Rs → Hp → Prop} (hm : mJ18_toString r0 h Q) : Ct G tJ18_toString (d + 5) [vR r0] h Q := by
  refine ct_enter (L0 := [some (vR r0)]) rfl rfl ?_
  unfold mJ18_toString at hm
  obtain ⟨o101, o102, hm⟩ := hm
  obtain ⟨r104, er104⟩ : ∃ r104 : Nat, r104 = hn h := ⟨_, rfl⟩
  replace hm := hm r104 er104
  obtain ⟨h105, eh105⟩ : ∃ h105 : Hp, h105 = nw h 43 0 4 := ⟨_, rfl⟩
  replace hm := hm h105 eh105
  refine wc_k0 fun n103 => (wc_new (k := 43) (pc := 0) (dAt dtJ18_toString 0 rfl) q1105 q1106 q150 (by decide) o101 o102 (wc_hp eh105 (wc_vr er104 (wc_dup (pc := 3) (dAt dtJ18_toString 1 rfl) rfl (wc_aload_n (pc := 4) (dAt dtJ18_toString 2 rfl) rfl (wc_callI (y' := tJ13_init) (av := [vR r0]) (st := [vR r104]) (pc := 5) (dAt dtJ18_toString 3 rfl) lkJ18_137 moJ13_init q1108 rfl q1109 (k0_at er104 n103) rfl rfl (Nat.le_of_ble_eq_true rfl) (wJ13_init hg hm) (kr_N (fun h106 hm => ?_)) (kx_N rfl)))))))
  exact wc_aret (pc := 8) (dAt dtJ18_toString 4 rfl) rfl (Or.inl ⟨_, rfl⟩) hm
def tX8_text : Mt := (⟨"FlyingDoctors$Reader", "text", "()Ljava/lang/String;"⟩, prog_16_method_10_code, 3, (Option.some (Jvm.ClassFile.FieldType.object "java/lang/String")), [])
def DX8_text : List (Nat × Instr × Nat) := [(0, .new 91, 3), (3, .dup, 1), (4, .invokespecial 93, 3), (7, .astore_n 1, 1), (8, .aload_n 0, 1), (9, .getfield 44, 3), (12, .istore_n 2, 1), (13, .iload_n 2, 1), (14, .aload_n 0, 1), (15, .getfield 75, 3), (18, .if_icmp .ge 24, 3), (21, .aload_n 1, 1), (22, .aload_n 0, 1), (23, .getfield 3, 3), (26, .getfield 32, 3), (29, .iload_n 2, 1), (30, .baload, 1), (31, .i2c, 1), (32, .invokevirtual 94, 3), (35, .pop, 1), (36, .iinc 2 1, 3), (39, .goto (-26), 3), (42, .aload_n 1, 1), (43, .invokevirtual 98, 3), (46, .areturn, 1)]
theorem dtX8_text : chkD (mB tX8_text) DX8_text = true := by decide +kernel
theorem moX8_text : MethOk tX8_text 0 := ⟨Or.inl ⟨rfl, q1010⟩, by decide +kernel, ⟨by decide, by decide⟩, by decide +kernel⟩
def mX8_text (r0 : Nat) (h : Hp) (Q : Rs → Hp → Prop) : Prop := hn h + 1 ≤ 878547 ∧ hq h + 4 ≤ 6460613 ∧ ∀ r104 : Nat, r104 = hn h → ∀ h105 : Hp, h105 = nw h 48 0 4 → mJ18_init r104 h105 (kN Q (fun h106 => ob h106 r0 8 ∧ ∀ v108 : Int, v108 = (hI h106 r0 5) → wh2 (fun (C111 : Int → Hp → Prop) (x109 : Int) (h110 : Hp) => ob h110 r0 8 ∧ if ¬ ((hI h110 r0 6) ≤ x109) then hR h110 r0 9 = 50 ∧ 0 ≤ x109 ∧ x109 < 800 ∧ ob h110 r104 48 ∧ mJ18_append r104 (i2c (hI h110 65 (Int.toNat x109))) h110 (kR Q (fun r120 h119 => nm (x109 + 1) ∧ ∀ i122 : Int, i122 = (x109 + 1) → C111 i122 h119)) else ob h110 r104 48 ∧ mJ18_toString r104 h110 (kR Q (fun r125 h124 => Q (rV (vR r125)) h124))) v108 h106))
theorem wX8_text {G : Gx} (hg : gF G = true) {d : Nat} {r0 : Nat} {h : Hp} {Q : Rs → Hp → Prop} (hm : mX8_text r0 h Q) : Ct G tX8_text (d + 6) [vR r0] h Q := by
  refine ct_enter (L0 := [some (vR r0), none, none]) rfl rfl ?_
  unfold mX8_text at hm
  obtain ⟨o101, o102, hm⟩ := hm
  obtain ⟨r104, er104⟩ : ∃ r104 : Nat, r104 = hn h := ⟨_, rfl⟩
  replace hm := hm r104 er104
  obtain ⟨h105, eh105⟩ : ∃ h105 : Hp, h105 = nw h 48 0 4 := ⟨_, rfl⟩
  replace hm := hm h105 eh105
  refine wc_k0 fun n103 => (wc_new (k := 48) (pc := 0) (dAt dtX8_text 0 rfl) q1011 q1012 q156 (by decide) o101 o102 (wc_hp eh105 (wc_vr er104 (wc_dup (pc := 3) (dAt dtX8_text 1 rfl) rfl (wc_callI (y' := tJ18_init) (av := []) (st := [vR r104]) (pc := 4) (dAt dtX8_text 2 rfl) lkX8_93 moJ18_init q1014 rfl q1015 (k0_at er104 n103) rfl rfl (Nat.le_of_ble_eq_true rfl) (wJ18_init hg hm) (kr_N (fun h106 hm => ?_)) (kx_N rfl))))))
  obtain ⟨o107, hm⟩ := hm
  obtain ⟨v108, ev108⟩ : ∃ v108 : Int, v108 = (hI h106 r0 5) := ⟨_, rfl⟩
  replace hm := hm v108 ev108
  refine wc_astore_n (pc := 7) (dAt dtX8_text 3 rfl) (by decide) (wc_L (L' := [some (vR r0), some (vR r104), none]) rfl (wc_aload_n (pc := 8) (dAt dtX8_text 4 rfl) rfl (wc_getI (pc := 9) (dAt dtX8_text 5 rfl) flX8_44_8 rfl o107 (wc_vi ev108 (wc_istore_n (pc := 12) (dAt dtX8_text 6 rfl) (by decide) (wc_L (L' := [some (vR r0), some (vR r104), some (vI v108)]) rfl (?_)))))))
  refine wh2_ind (P := fun (x109 : Int) (h110 : Hp) => Wc G tX8_text (d + 6) h Q 13 [some (vR r0), some (vR r104), some (vI x109)] [] h110) (fun C111 ih112 x109 h110 hm => ?_) hm
  obtain ⟨o113, hm⟩ := hm
  refine wc_iload_n (pc := 13) (dAt dtX8_text 7 rfl) rfl (wc_aload_n (pc := 14) (dAt dtX8_text 8 rfl) rfl (wc_getI (pc := 15) (dAt dtX8_text 9 rfl) flX8_75_8 rfl o113 (wc_icmp_ge (pc := 18) (tgt := 42) (dAt dtX8_text 10 rfl) (by decide) (fun c114 => ?_) (fun c114 => ?_))))
  · replace hm := ite_f (fun z => z c114) hm
    obtain ⟨o123, hm⟩ := hm
    refine wc_aload_n (pc := 42) (dAt dtX8_text 22 rfl) rfl (wc_callV (k := 48) (y' := tJ18_toString) (av := []) (st := []) (pc := 43) (dAt dtX8_text 23 rfl) lkX8_98 moJ18_toString q1102 q1103 (by decide) o123 rfl rfl (Nat.le_of_ble_eq_true rfl) (wJ18_toString hg hm) (kr_R (fun r125 h124 hm => ?_)) (kx_R rfl))
    exact wc_aret (pc := 46) (dAt dtX8_text 24 rfl) rfl (Or.inl ⟨_, rfl⟩) hm
  · replace hm := ite_t c114 hm
    obtain ⟨o115, o116, o117, o118, hm⟩ := hm
    refine wc_aload_n (pc := 21) (dAt dtX8_text 11 rfl) rfl (wc_aload_n (pc := 22) (dAt dtX8_text 12 rfl) rfl (wc_getR (pc := 23) (dAt dtX8_text 13 rfl) flX8_3_8 rfl o113 (wc_vr o115.symm (wc_getKR hg (pc := 26) (dAt dtX8_text 14 rfl) flX8_32_1 rfl ka50 kf50_15 (wc_iload_n (pc := 29) (dAt dtX8_text 15 rfl) rfl (wc_baldK hg (pc := 30) (dAt dtX8_text 16 rfl) kr65 o116 o117 (wc_i2c (pc := 31) (dAt dtX8_text 17 rfl) (wc_callV (k := 48) (y' := tJ18_append) (av := [vI (i2c (hI h110 65 (Int.toNat x109)))]) (st := []) (pc := 32) (dAt dtX8_text 18 rfl) lkX8_94 moJ18_append q1042 q1043 (by decide) o118 rfl rfl (Nat.le_of_ble_eq_true rfl) (wJ18_append hg hm) (kr_R (fun r120 h119 hm => ?_)) (kx_R rfl)))))))))
    obtain ⟨o121, hm⟩ := hm
    obtain ⟨i122, ei122⟩ : ∃ i122 : Int, i122 = (x109 + 1) := ⟨_, rfl⟩
    replace hm := hm i122 ei122
    exact wc_pop (pc := 35) (dAt dtX8_text 19 rfl) rfl (wc_iinc (v := i122) (pc := 36) (dAt dtX8_text 20 rfl) rfl ei122 (ei122 ▸ o121) (by decide) (wc_L (L' := [some (vR r0), some (vR r104), some (vI i122)]) rfl (wc_goto (pc := 39) (tgt := 13) (dAt dtX8_text 21 rfl) (by decide) (ih112 _ _ hm))))
def tJ14_equals : Mt := (⟨"java/lang/StringLatin1", "equals", "([B[B)Z"⟩, prog_42_method_13_code, 3, (Option.some Jvm.ClassFile.FieldType.boolean), [])
def DJ14_equals : List (Nat × Instr × Nat) := [(0, .aload_n 0, 1), (1, .arraylength, 1), (2, .aload_n 1, 1), (3, .arraylength, 1), (4, .if_icmp .ne 30, 3), (7, .iconst 0, 1), (8, .istore_n 2, 1), (9, .iload_n 2, 1), (10, .aload_n 0, 1), (11, .arraylength, 1), (12, .if_icmp .ge 20, 3), (15, .aload_n 0, 1), (16, .iload_n 2, 1), (17, .baload, 1), (18, .aload_n 1, 1), (19, .iload_n 2, 1), (20, .baload, 1), (21, .if_icmp .eq 5, 3), (24, .iconst 0, 1), (25, .ireturn, 1), (26, .iinc 2 1, 3), (29, .goto (-20), 3), (32, .iconst 1, 1), (33, .ireturn, 1), (34, .iconst 0, 1), (35, .ireturn, 1)]
theorem dtJ14_equals : chkD (mB tJ14_equals) DJ14_equals = true := by decide +kernel
theorem moJ14_equals : MethOk tJ14_equals 2 := ⟨Or.inl ⟨rfl, q1281⟩, by decide +kernel, ⟨by decide, by decide⟩, by decide +kernel⟩
def mJ14_equals (r0 : Nat) (r1 : Nat) (h : Hp) (Q : Rs → Hp → Prop) : Prop := ob h r0 71 ∧ nm (hN h r0 : Int) ∧ ob h r1 71 ∧ nm (hN h r1 : Int) ∧ if ¬ ((hN h r0 : Int) ≠ (hN h r1 : Int)) then wh1 (fun (C107 : Int → Prop) (x106 : Int) => if ¬ ((hN h r0 : Int) ≤ x106) then 0 ≤ x106 ∧ x106 < (hN h r0) ∧ x106 < (hN h r1) ∧ if ¬ ((hI h r0 (Int.toNat x106)) = (hI h r1 (Int.toNat x106))) then Q (rV (vI 0)) h else nm (x106 + 1) ∧ ∀ i115 : Int, i115 = (x106 + 1) → C107 i115 else Q (rV (vI 1)) h) 0 else Q (rV (vI 0)) h
theorem wJ14_equals {G : Gx} (hg : gF G = true) {d : Nat} {r0 : Nat} {r1 : Nat} {h : Hp} {Q : Rs → Hp → Prop} (hm : mJ14_equals r0 r1 h Q) : Ct G tJ14_equals (d + 0) [vR r0, vR r1] h Q := by
  refine ct_enter (L0 := [some (vR r0), some (vR r1), none]) rfl rfl ?_
  unfold mJ14_equals at hm
  obtain ⟨o101, o102, o103, o104, hm⟩ := hm
  refine wc_aload_n (pc := 0) (dAt dtJ14_equals 0 rfl) rfl (wc_alen (pc := 1) (dAt dtJ14_equals 1 rfl) ⟨by decide, by decide⟩ o101 o102 (wc_aload_n (pc := 2) (dAt dtJ14_equals 2 rfl) rfl (wc_alen (pc := 3) (dAt dtJ14_equals 3 rfl) ⟨by decide, by decide⟩ o103 o104 (wc_icmp_ne (pc := 4) (tgt := 34) (dAt dtJ14_equals 4 rfl) (by decide) (fun c105 => ?_) (fun c105 => ?_)))))
  · replace hm := ite_f (fun z => z c105) hm
    exact wc_iconst (pc := 34) (dAt dtJ14_equals 24 rfl) ⟨by decide, by decide⟩ (wc_iret (pc := 35) (dAt dtJ14_equals 25 rfl) rfl (nar_bool (Or.inl rfl)) hm)
  · replace hm := ite_t c105 hm
    refine wc_iconst (pc := 7) (dAt dtJ14_equals 5 rfl) ⟨by decide, by decide⟩ (wc_istore_n (pc := 8) (dAt dtJ14_equals 6 rfl) (by decide) (wc_L (L' := [some (vR r0), some (vR r1), some (vI 0)]) rfl (?_)))
    refine wh1_ind (P := fun (x106 : Int) => Wc G tJ14_equals (d + 0) h Q 9 [some (vR r0), some (vR r1), some (vI x106)] [] h) (fun C107 ih108 x106 hm => ?_) hm
    refine wc_iload_n (pc := 9) (dAt dtJ14_equals 7 rfl) rfl (wc_aload_n (pc := 10) (dAt dtJ14_equals 8 rfl) rfl (wc_alen (pc := 11) (dAt dtJ14_equals 9 rfl) ⟨by decide, by decide⟩ o101 o102 (wc_icmp_ge (pc := 12) (tgt := 32) (dAt dtJ14_equals 10 rfl) (by decide) (fun c109 => ?_) (fun c109 => ?_))))
    · replace hm := ite_f (fun z => z c109) hm
      exact wc_iconst (pc := 32) (dAt dtJ14_equals 22 rfl) ⟨by decide, by decide⟩ (wc_iret (pc := 33) (dAt dtJ14_equals 23 rfl) rfl (nar_bool (Or.inr rfl)) hm)
    · replace hm := ite_t c109 hm
      obtain ⟨o110, o111, o112, hm⟩ := hm
      refine wc_aload_n (pc := 15) (dAt dtJ14_equals 11 rfl) rfl (wc_iload_n (pc := 16) (dAt dtJ14_equals 12 rfl) rfl (wc_bald (pc := 17) (dAt dtJ14_equals 13 rfl) o101 o110 o111 (wc_aload_n (pc := 18) (dAt dtJ14_equals 14 rfl) rfl (wc_iload_n (pc := 19) (dAt dtJ14_equals 15 rfl) rfl (wc_bald (pc := 20) (dAt dtJ14_equals 16 rfl) o103 o110 o112 (wc_icmp_eq (pc := 21) (tgt := 26) (dAt dtJ14_equals 17 rfl) (by decide) (fun c113 => ?_) (fun c113 => ?_)))))))
      · replace hm := ite_f (fun z => z c113) hm
        obtain ⟨o114, hm⟩ := hm
        obtain ⟨i115, ei115⟩ : ∃ i115 : Int, i115 = (x106 + 1) := ⟨_, rfl⟩
        replace hm := hm i115 ei115
        exact wc_iinc (v := i115) (pc := 26) (dAt dtJ14_equals 20 rfl) rfl ei115 (ei115 ▸ o114) (by decide) (wc_L (L' := [some (vR r0), some (vR r1), some (vI i115)]) rfl (wc_goto (pc := 29) (tgt := 9) (dAt dtJ14_equals 21 rfl) (by decide) (ih108 _ hm)))
      · replace hm := ite_t c113 hm
        exact wc_iconst (pc := 24) (dAt dtJ14_equals 18 rfl) ⟨by decide, by decide⟩ (wc_iret (pc := 25) (dAt dtJ14_equals 19 rfl) rfl (nar_bool (Or.inl rfl)) hm)
def tJ13_equals : Mt := (⟨"java/lang/String", "equals", "(Ljava/lang/Object;)Z"⟩, prog_40_method_66_code, 3, (Option.some Jvm.ClassFile.FieldType.boolean), [])
def DJ13_equals : List (Nat × Instr × Nat) := [(0, .aload_n 0, 1), (1, .aload_n 1, 1), (2, .if_acmp .ne 5, 3), (5, .iconst 1, 1), (6, .ireturn, 1), (7, .aload_n 1, 1), (8, .instanceof 10, 3), (11, .ifCond .eq 43, 3), (14, .aload_n 1, 1), (15, .checkcast 10, 3), (18, .astore_n 2, 1), (19, .getstatic 38, 3), (22, .ifCond .eq 14, 3), (25, .aload_n 0, 1), (26, .getfield 15, 3), (29, .aload_n 2, 1), (30, .getfield 15, 3), (33, .if_icmp .ne 21, 3), (36, .aload_n 0, 1), (37, .getfield 9, 3), (40, .aload_n 2, 1), (41, .getfield 9, 3), (44, .invokestatic 541, 3), (47, .ifCond .eq 7, 3), (50, .iconst 1, 1), (51, .goto 4, 3), (54, .iconst 0, 1), (55, .ireturn, 1)]
theorem dtJ13_equals : chkD (mB tJ13_equals) DJ13_equals = true := by decide +kernel
theorem moJ13_equals : MethOk tJ13_equals 1 := ⟨Or.inl ⟨rfl, q1277⟩, by decide +kernel, ⟨by decide, by decide⟩, by decide +kernel⟩
def mJ13_equals (r0 : Nat) (r1 : Nat) (h : Hp) (Q : Rs → Hp → Prop) : Prop := acok h r0 r1 ∧ if ¬ (r0 ≠ r1) then Q (rV (vI 1)) h else ob h r1 43 ∧ ob h r0 43 ∧ ¬ ((hI h r0 1) ≠ (hI h r1 1)) ∧ mJ14_equals (hR h r0 0) (hR h r1 0) h (kI Q (fun x110 h109 => ∀ v111 : Int, v111 = (b2i (¬ (x110 = 0))) → Q (rV (vI v111)) h109))
theorem wJ13_equals {G : Gx} (hg : gF G = true) {d : Nat} {r0 : Nat} {r1 : Nat} {h : Hp} {Q : Rs → Hp → Prop} (hm : mJ13_equals r0 r1 h Q) : Ct G tJ13_equals (d + 1) [vR r0, vR r1] h Q := by
  refine ct_enter (L0 := [some (vR r0), some (vR r1), none]) rfl rfl ?_
  unfold mJ13_equals at hm
  obtain ⟨o101, hm⟩ := hm
  refine wc_aload_n (pc := 0) (dAt dtJ13_equals 0 rfl) rfl (wc_aload_n (pc := 1) (dAt dtJ13_equals 1 rfl) rfl (wc_acmp_ne (pc := 2) (tgt := 7) (dAt dtJ13_equals 2 rfl) (by decide) o101 (fun c102 => ?_) (fun c102 => ?_)))
  · replace hm := ite_f (fun z => z c102) hm
    obtain ⟨o103, o106, o107, hm⟩ := hm
    refine wc_aload_n (pc := 7) (dAt dtJ13_equals 5 rfl) rfl (wc_instY (pc := 8) (dAt dtJ13_equals 6 rfl) q1278 (by decide) rfl o103 (wc_if_eq (pc := 11) (tgt := 54) (dAt dtJ13_equals 7 rfl) (by decide) (fun c104 => absurd c104 (by decide)) (fun c104 =>  (wc_aload_n (pc := 14) (dAt dtJ13_equals 8 rfl) rfl (wc_cast (pc := 15) (dAt dtJ13_equals 9 rfl) q1278 (by decide) (Or.inl rfl) o103 (wc_astore_n (pc := 18) (dAt dtJ13_equals 10 rfl) (by decide) (wc_L (L' := [some (vR r0), some (vR r1), some (vR r1)]) rfl (wc_getsI (v := 1) (pc := 19) (dAt dtJ13_equals 11 rfl) q859 (by decide +kernel) ⟨by decide, by decide⟩ (wc_if_eq (pc := 22) (tgt := 36) (dAt dtJ13_equals 12 rfl) (by decide) (fun c105 => absurd c105 (by decide)) (fun c105 =>  (wc_aload_n (pc := 25) (dAt dtJ13_equals 13 rfl) rfl (wc_getI (pc := 26) (dAt dtJ13_equals 14 rfl) flJ13_15_43 rfl o106 (wc_aload_n (pc := 29) (dAt dtJ13_equals 15 rfl) rfl (wc_getI (pc := 30) (dAt dtJ13_equals 16 rfl) flJ13_15_43 rfl o103 (wc_icmp_ne (pc := 33) (tgt := 54) (dAt dtJ13_equals 17 rfl) (by decide) (fun c108 => absurd c108 o107) (fun c108 =>  (wc_aload_n (pc := 36) (dAt dtJ13_equals 18 rfl) rfl (wc_getR (pc := 37) (dAt dtJ13_equals 19 rfl) flJ13_9_43 rfl o106 (wc_aload_n (pc := 40) (dAt dtJ13_equals 20 rfl) rfl (wc_getR (pc := 41) (dAt dtJ13_equals 21 rfl) flJ13_9_43 rfl o103 (wc_callS (y' := tJ14_equals) (av := [vR (hR h r0 0), vR (hR h r1 0)]) (st := []) (pc := 44) (dAt dtJ13_equals 22 rfl) lkJ13_541 moJ14_equals q1280 q151 rfl rfl (Nat.le_of_ble_eq_true rfl) (wJ14_equals hg hm) (kr_I (fun x110 h109 hm => ?_)) (kx_I rfl))))))))))))))))))))))
    obtain ⟨v111, ev111⟩ : ∃ v111 : Int, v111 = (b2i (¬ (x110 = 0))) := ⟨_, rfl⟩
    replace hm := hm v111 ev111
    have kj112 : Wc G tJ13_equals (d + 1) h Q 55 [some (vR r0), none, none] [vI v111] h109 := by
      exact wc_iret (pc := 55) (dAt dtJ13_equals 27 rfl) rfl (nar_bool (bo_tr ev111.symm (bool_b2i _))) hm
    have k113 : (¬ (x110 = 0)) → Wc G tJ13_equals (d + 1) h Q 50 [some (vR r0), some (vR r1), some (vR r1)] [] h109 := fun c115 => by
      have z116 := kj112
      rw [show v111 = 1 from ev111.trans (b2i_t c115)] at z116
      exact wc_iconst (pc := 50) (dAt dtJ13_equals 24 rfl) ⟨by decide, by decide⟩ (wc_goto (pc := 51) (tgt := 55) (dAt dtJ13_equals 25 rfl) (by decide) (wc_drp [1, 2] rfl (z116)))
    have k114 : ¬ (¬ (x110 = 0)) → Wc G tJ13_equals (d + 1) h Q 54 [some (vR r0), some (vR r1), some (vR r1)] [] h109 := fun c115 => by
      have z118 := kj112
      rw [show v111 = 0 from ev111.trans (b2i_f c115)] at z118
      exact wc_iconst (pc := 54) (dAt dtJ13_equals 26 rfl) ⟨by decide, by decide⟩ (wc_drp [1, 2] rfl (z118))
    exact wc_if_eq (pc := 47) (tgt := 54) (dAt dtJ13_equals 23 rfl) (by decide) (fun c120 => (k114 (fun z => z c120))) (fun c120 => (k113 c120))
  · replace hm := ite_t c102 hm
    exact wc_iconst (pc := 5) (dAt dtJ13_equals 3 rfl) ⟨by decide, by decide⟩ (wc_iret (pc := 6) (dAt dtJ13_equals 4 rfl) rfl (nar_bool (Or.inr rfl)) hm)
def tJ2_indexOfRange : Mt := (⟨"java/util/ArrayList", "indexOfRange", "(Ljava/lang/Object;II)I"⟩, prog_50_method_12_code, 6, (Option.some Jvm.ClassFile.FieldType.int), [])
def DJ2_indexOfRange : List (Nat × Instr × Nat) := [(0, .aload_n 0, 1), (1, .getfield 9, 3), (4, .astore 4, 2), (6, .aload_n 1, 1), (7, .ifnonnull 32, 3), (10, .iload_n 2, 1), (11, .istore 5, 2), (13, .iload 5, 2), (15, .iload_n 3, 1), (16, .if_icmp .ge 20, 3), (19, .aload 4, 2), (21, .iload 5, 2), (23, .aaload, 1), (24, .ifnonnull 6, 3), (27, .iload 5, 2), (29, .ireturn, 1), (30, .iinc 5 1, 3), (33, .goto (-20), 3), (36, .goto 33, 3), (39, .iload_n 2, 1), (40, .istore 5, 2), (42, .iload 5, 2), (44, .iload_n 3, 1), (45, .if_icmp .ge 24, 3), (48, .aload_n 1, 1), (49, .aload 4, 2), (51, .iload 5, 2), (53, .aaload, 1), (54, .invokevirtual 93, 3), (57, .ifCond .eq 6, 3), (60, .iload 5, 2), (62, .ireturn, 1), (63, .iinc 5 1, 3), (66, .goto (-24), 3), (69, .iconst (-1), 1), (70, .ireturn, 1)]
theorem dtJ2_indexOfRange : chkD (mB tJ2_indexOfRange) DJ2_indexOfRange = true := by decide +kernel
theorem moJ2_indexOfRange : MethOk tJ2_indexOfRange 3 := ⟨Or.inl ⟨rfl, q1246⟩, by decide +kernel, ⟨by decide, by decide⟩, by decide +kernel⟩
def mJ2_indexOfRange (r0 : Nat) (r1 : Nat) (x2 : Int) (x3 : Int) (h : Hp) (Q : Rs → Hp → Prop) : Prop := ob h r0 32 ∧ ∀ r102 : Nat, r102 = (hR h r0 1) → rok h r1 ∧ ¬ (r1 = 0) ∧ wh2 (fun (C108 : Int → Hp → Prop) (x106 : Int) (h107 : Hp) => if ¬ (x3 ≤ x106) then ob h107 r102 74 ∧ 0 ≤ x106 ∧ x106 < (hN h107 r102) ∧ ob h107 r1 43 ∧ mJ13_equals r1 (hR h107 r102 (Int.toNat x106)) h107 (kI Q (fun x116 h115 => if ¬ (x116 = 0) then Q (rV (vI x106)) h115 else nm (x106 + 1) ∧ ∀ i119 : Int, i119 = (x106 + 1) → C108 i119 h115)) else Q (rV (vI (-1))) h107) x2 h
theorem wJ2_indexOfRange {G : Gx} (hg : gF G = true) {d : Nat} {r0 : Nat} {r1 : Nat} {x2 : Int} {x3 : Int} {h : Hp} {Q : Rs → Hp → Prop} (hm : mJ2_indexOfRange r0 r1 x2 x3 h Q) : Ct G tJ2_indexOfRange (d + 2) [vR r0, vR r1, vI x2, vI x3] h Q := by
  refine ct_enter (L0 := [some (vR r0), some (vR r1), some (vI x2), some (vI x3), none, none]) rfl rfl ?_
  unfold mJ2_indexOfRange at hm
  obtain ⟨o101, hm⟩ := hm
  obtain ⟨r102, er102⟩ : ∃ r102 : Nat, r102 = (hR h r0 1) := ⟨_, rfl⟩
  replace hm := hm r102 er102
  obtain ⟨o103, o104, hm⟩ := hm
  refine wc_aload_n (pc := 0) (dAt dtJ2_indexOfRange 0 rfl) rfl (wc_getR (pc := 1) (dAt dtJ2_indexOfRange 1 rfl) flJ2_9_32 rfl o101 (wc_vr er102 (wc_astore (pc := 4) (dAt dtJ2_indexOfRange 2 rfl) (by decide) (wc_L (L' := [some (vR r0), some (vR r1), some (vI x2), some (vI x3), some (vR r102), none]) rfl (wc_aload_n (pc := 6) (dAt dtJ2_indexOfRange 3 rfl) rfl (wc_ifnonnull (pc := 7) (tgt := 39) (dAt dtJ2_indexOfRange 4 rfl) (by decide) o103 (fun c105 =>  (wc_iload_n (pc := 39) (dAt dtJ2_indexOfRange 19 rfl) rfl (wc_istore (pc := 40) (dAt dtJ2_indexOfRange 20 rfl) (by decide) (wc_L (L' := [some (vR r0), some (vR r1), some (vI x2), some (vI x3), some (vR r102), some (vI x2)]) rfl (wc_drp [2] rfl (wc_L (L' := [some (vR r0), some (vR r1), none, some (vI x3), some (vR r102), some (vI x2)]) rfl (?_))))))) (fun c105 => absurd c105 o104)))))))
  refine wh2_ind (P := fun (x106 : Int) (h107 : Hp) => Wc G tJ2_indexOfRange (d + 2) h Q 42 [some (vR r0), some (vR r1), none, some (vI x3), some (vR r102), some (vI x106)] [] h107) (fun C108 ih109 x106 h107 hm => ?_) hm
  refine wc_iload (pc := 42) (dAt dtJ2_indexOfRange 21 rfl) rfl (wc_iload_n (pc := 44) (dAt dtJ2_indexOfRange 22 rfl) rfl (wc_icmp_ge (pc := 45) (tgt := 69) (dAt dtJ2_indexOfRange 23 rfl) (by decide) (fun c110 => ?_) (fun c110 => ?_)))
  · replace hm := ite_f (fun z => z c110) hm
    exact wc_iconst (pc := 69) (dAt dtJ2_indexOfRange 34 rfl) ⟨by decide, by decide⟩ (wc_iret (pc := 70) (dAt dtJ2_indexOfRange 35 rfl) rfl (nar_int _) hm)
  · replace hm := ite_t c110 hm
    obtain ⟨o111, o112, o113, o114, hm⟩ := hm
    refine wc_aload_n (pc := 48) (dAt dtJ2_indexOfRange 24 rfl) rfl (wc_aload (pc := 49) (dAt dtJ2_indexOfRange 25 rfl) rfl (wc_iload (pc := 51) (dAt dtJ2_indexOfRange 26 rfl) rfl (wc_aald (pc := 53) (dAt dtJ2_indexOfRange 27 rfl) ⟨by decide, by decide⟩ o111 o112 o113 (wc_callU (k := 43) (x := ⟨"java/lang/Object", "equals", "(Ljava/lang/Object;)Z"⟩) (y' := tJ13_equals) (av := [vR (hR h107 r102 (Int.toNat x106))]) (st := []) (pc := 54) (dAt dtJ2_indexOfRange 28 rfl) q1248 q1250 (Or.inl q1247) ⟨by decide, by decide⟩ moJ13_equals rfl q1276 q1275 (by decide) o114 rfl rfl (Nat.le_of_ble_eq_true rfl) (wJ13_equals hg hm) (kr_I (fun x116 h115 hm => ?_)) (kx_I rfl)))))
    refine wc_if_eq (pc := 57) (tgt := 63) (dAt dtJ2_indexOfRange 29 rfl) (by decide) (fun c117 => ?_) (fun c117 => ?_)
    · replace hm := ite_f (fun z => z c117) hm
      obtain ⟨o118, hm⟩ := hm
      obtain ⟨i119, ei119⟩ : ∃ i119 : Int, i119 = (x106 + 1) := ⟨_, rfl⟩
      replace hm := hm i119 ei119
      exact wc_iinc (v := i119) (pc := 63) (dAt dtJ2_indexOfRange 32 rfl) rfl ei119 (ei119 ▸ o118) (by decide) (wc_L (L' := [some (vR r0), some (vR r1), none, some (vI x3), some (vR r102), some (vI i119)]) rfl (wc_goto (pc := 66) (tgt := 42) (dAt dtJ2_indexOfRange 33 rfl) (by decide) (ih109 _ _ hm)))
    · replace hm := ite_t c117 hm
      exact wc_iload (pc := 60) (dAt dtJ2_indexOfRange 30 rfl) rfl (wc_iret (pc := 62) (dAt dtJ2_indexOfRange 31 rfl) rfl (nar_int _) hm)
def tJ2_indexOf : Mt := (⟨"java/util/ArrayList", "indexOf", "(Ljava/lang/Object;)I"⟩, prog_50_method_11_code, 2, (Option.some Jvm.ClassFile.FieldType.int), [])
def DJ2_indexOf : List (Nat × Instr × Nat) := [(0, .aload_n 0, 1), (1, .aload_n 1, 1), (2, .iconst 0, 1), (3, .aload_n 0, 1), (4, .getfield 48, 3), (7, .invokevirtual 89, 3), (10, .ireturn, 1)]
theorem dtJ2_indexOf : chkD (mB tJ2_indexOf) DJ2_indexOf = true := by decide +kernel
theorem moJ2_indexOf : MethOk tJ2_indexOf 1 := ⟨Or.inl ⟨rfl, q1242⟩, by decide +kernel, ⟨by decide, by decide⟩, by decide +kernel⟩
def mJ2_indexOf (r0 : Nat) (r1 : Nat) (h : Hp) (Q : Rs → Hp → Prop) : Prop := ob h r0 32 ∧ mJ2_indexOfRange r0 r1 0 (hI h r0 2) h (kI Q (fun x103 h102 => Q (rV (vI x103)) h102))
theorem wJ2_indexOf {G : Gx} (hg : gF G = true) {d : Nat} {r0 : Nat} {r1 : Nat} {h : Hp} {Q : Rs → Hp → Prop} (hm : mJ2_indexOf r0 r1 h Q) : Ct G tJ2_indexOf (d + 3) [vR r0, vR r1] h Q := by
  refine ct_enter (L0 := [some (vR r0), some (vR r1)]) rfl rfl ?_
  unfold mJ2_indexOf at hm
  obtain ⟨o101, hm⟩ := hm
  refine wc_aload_n (pc := 0) (dAt dtJ2_indexOf 0 rfl) rfl (wc_aload_n (pc := 1) (dAt dtJ2_indexOf 1 rfl) rfl (wc_iconst (pc := 2) (dAt dtJ2_indexOf 2 rfl) ⟨by decide, by decide⟩ (wc_aload_n (pc := 3) (dAt dtJ2_indexOf 3 rfl) rfl (wc_getI (pc := 4) (dAt dtJ2_indexOf 4 rfl) flJ2_48_32 rfl o101 (wc_callV (k := 32) (y' := tJ2_indexOfRange) (av := [vR r1, vI 0, vI (hI h r0 2)]) (st := []) (pc := 7) (dAt dtJ2_indexOf 5 rfl) lkJ2_89 moJ2_indexOfRange q1244 q1245 (by decide) o101 rfl rfl (Nat.le_of_ble_eq_true rfl) (wJ2_indexOfRange hg hm) (kr_I (fun x103 h102 hm => ?_)) (kx_I rfl))))))
  exact wc_iret (pc := 10) (dAt dtJ2_indexOf 6 rfl) rfl (nar_int _) hm
def tJ2_contains : Mt := (⟨"java/util/ArrayList", "contains", "(Ljava/lang/Object;)Z"⟩, prog_50_method_10_code, 2, (Option.some Jvm.ClassFile.FieldType.boolean), [])
def DJ2_contains : List (Nat × Instr × Nat) := [(0, .aload_n 0, 1), (1, .aload_n 1, 1), (2, .invokevirtual 85, 3), (5, .ifCond .lt 7, 3), (8, .iconst 1, 1), (9, .goto 4, 3), (12, .iconst 0, 1), (13, .ireturn, 1)]
theorem dtJ2_contains : chkD (mB tJ2_contains) DJ2_contains = true := by decide +kernel
theorem moJ2_contains : MethOk tJ2_contains 1 := ⟨Or.inl ⟨rfl, q1238⟩, by decide +kernel, ⟨by decide, by decide⟩, by decide +kernel⟩
def mJ2_contains (r0 : Nat) (r1 : Nat) (h : Hp) (Q : Rs → Hp → Prop) : Prop := ob h r0 32 ∧ mJ2_indexOf r0 r1 h (kI Q (fun x103 h102 => ∀ v104 : Int, v104 = (b2i (¬ (x103 < 0))) → Q (rV (vI v104)) h102))
theorem wJ2_contains {G : Gx} (hg : gF G = true) {d : Nat} {r0 : Nat} {r1 : Nat} {h : Hp} {Q : Rs → Hp → Prop} (hm : mJ2_contains r0 r1 h Q) : Ct G tJ2_contains (d + 4) [vR r0, vR r1] h Q := by
  refine ct_enter (L0 := [some (vR r0), some (vR r1)]) rfl rfl ?_
  unfold mJ2_contains at hm
  obtain ⟨o101, hm⟩ := hm
  refine wc_aload_n (pc := 0) (dAt dtJ2_contains 0 rfl) rfl (wc_aload_n (pc := 1) (dAt dtJ2_contains 1 rfl) rfl (wc_callV (k := 32) (y' := tJ2_indexOf) (av := [vR r1]) (st := []) (pc := 2) (dAt dtJ2_contains 2 rfl) lkJ2_85 moJ2_indexOf q1240 q1241 (by decide) o101 rfl rfl (Nat.le_of_ble_eq_true rfl) (wJ2_indexOf hg hm) (kr_I (fun x103 h102 hm => ?_)) (kx_I rfl)))
  obtain ⟨v104, ev104⟩ : ∃ v104 : Int, v104 = (b2i (¬ (x103 < 0))) := ⟨_, rfl⟩
  replace hm := hm v104 ev104
  have kj105 : Wc G tJ2_contains (d + 4) h Q 13 [some (vR r0), none] [vI v104] h102 := by
    exact wc_iret (pc := 13) (dAt dtJ2_contains 7 rfl) rfl (nar_bool (bo_tr ev104.symm (bool_b2i _))) hm
  have k106 : (¬ (x103 < 0)) → Wc G tJ2_contains (d + 4) h Q 8 [some (vR r0), some (vR r1)] [] h102 := fun c108 => by
    have z109 := kj105
    rw [show v104 = 1 from ev104.trans (b2i_t c108)] at z109
    exact wc_iconst (pc := 8) (dAt dtJ2_contains 4 rfl) ⟨by decide, by decide⟩ (wc_goto (pc := 9) (tgt := 13) (dAt dtJ2_contains 5 rfl) (by decide) (wc_drp [1] rfl (z109)))
  have k107 : ¬ (¬ (x103 < 0)) → Wc G tJ2_contains (d + 4) h Q 12 [some (vR r0), some (vR r1)] [] h102 := fun c108 => by
    have z111 := kj105
    rw [show v104 = 0 from ev104.trans (b2i_f c108)] at z111
    exact wc_iconst (pc := 12) (dAt dtJ2_contains 6 rfl) ⟨by decide, by decide⟩ (wc_drp [1] rfl (z111))
  exact wc_if_lt (pc := 5) (tgt := 12) (dAt dtJ2_contains 3 rfl) (by decide) (fun c113 => (k107 (fun z => z c113))) (fun c113 => (k106 c113))
def tX8_isSign : Mt := (⟨"FlyingDoctors$Reader", "isSign", "(I)Z"⟩, prog_16_method_7_code, 2, (Option.some Jvm.ClassFile.FieldType.boolean), [])
def DX8_isSign : List (Nat × Instr × Nat) := [(0, .aload_n 0, 1), (1, .getfield 47, 3), (4, .iconst 3, 1), (5, .if_icmp .ne 23, 3), (8, .aload_n 0, 1), (9, .getfield 3, 3), (12, .getfield 32, 3), (15, .aload_n 0, 1), (16, .getfield 44, 3), (19, .baload, 1), (20, .iload_n 1, 1), (21, .if_icmp .ne 7, 3), (24, .iconst 1, 1), (25, .goto 4, 3), (28, .iconst 0, 1), (29, .ireturn, 1)]
theorem dtX8_isSign : chkD (mB tX8_isSign) DX8_isSign = true := by decide +kernel
theorem moX8_isSign : MethOk tX8_isSign 1 := ⟨Or.inl ⟨rfl, q1293⟩, by decide +kernel, ⟨by decide, by decide⟩, by decide +kernel⟩
def vX8_isSign (r0 : Nat) (x1 : Int) (h : Hp) : Int := (b2i (¬ ((hI h r0 4) ≠ 3) ∧ (¬ ((hI h 65 (Int.toNat (hI h r0 5))) ≠ x1))))
def oX8_isSign (r0 : Nat) (x1 : Int) (h : Hp) : Prop := ob h r0 8 ∧ (¬ ((hI h r0 4) ≠ 3) → hR h r0 9 = 50 ∧ 0 ≤ (hI h r0 5) ∧ (hI h r0 5) < 800)
theorem wX8_isSign {G : Gx} (hg : gF G = true) {d : Nat} {r0 : Nat} {x1 : Int} {h : Hp} {Q : Rs → Hp → Prop} (hm : oX8_isSign r0 x1 h) (hq : Q (rV (vI (vX8_isSign r0 x1 h))) h) : Ct G tX8_isSign (d + 0) [vR r0, vI x1] h Q := by
  refine ct_enter (L0 := [some (vR r0), some (vI x1)]) rfl rfl ?_
  obtain ⟨o101, p105⟩ := hm
  have k106 : (¬ ((hI h r0 4) ≠ 3) ∧ (¬ ((hI h 65 (Int.toNat (hI h r0 5))) ≠ x1))) → Wc G tX8_isSign (d + 0) h Q 24 [some (vR r0), some (vI x1)] [] h := fun c108 => by
    have z : Q (rV (vI 1)) h := by
      rw [show (vX8_isSign r0 x1 h) = 1 from (b2i_t c108)] at hq
      exact hq
    exact wc_iconst (pc := 24) (dAt dtX8_isSign 12 rfl) ⟨by decide, by decide⟩ (wc_goto (pc := 25) (tgt := 29) (dAt dtX8_isSign 13 rfl) (by decide) (wc_iret (pc := 29) (dAt dtX8_isSign 15 rfl) rfl (nar_bool (Or.inr rfl)) z))
  have k107 : ¬ (¬ ((hI h r0 4) ≠ 3) ∧ (¬ ((hI h 65 (Int.toNat (hI h r0 5))) ≠ x1))) → Wc G tX8_isSign (d + 0) h Q 28 [some (vR r0), some (vI x1)] [] h := fun c108 => by
    have z : Q (rV (vI 0)) h := by
      rw [show (vX8_isSign r0 x1 h) = 0 from (b2i_f c108)] at hq
      exact hq
    exact wc_iconst (pc := 28) (dAt dtX8_isSign 14 rfl) ⟨by decide, by decide⟩ (wc_iret (pc := 29) (dAt dtX8_isSign 15 rfl) rfl (nar_bool (Or.inl rfl)) z)
  exact wc_aload_n (pc := 0) (dAt dtX8_isSign 0 rfl) rfl (wc_getI (pc := 1) (dAt dtX8_isSign 1 rfl) flX8_47_8 rfl o101 (wc_iconst (pc := 4) (dAt dtX8_isSign 2 rfl) ⟨by decide, by decide⟩ (wc_icmp_ne (pc := 5) (tgt := 28) (dAt dtX8_isSign 3 rfl) (by decide) (fun c109 => (k107 (fun z => z.1 c109))) (fun c109 => wc_aload_n (pc := 8) (dAt dtX8_isSign 4 rfl) rfl (wc_getR (pc := 9) (dAt dtX8_isSign 5 rfl) flX8_3_8 rfl o101 (wc_vr (p105 c109).1.symm (wc_getKR hg (pc := 12) (dAt dtX8_isSign 6 rfl) flX8_32_1 rfl ka50 kf50_15 (wc_aload_n (pc := 15) (dAt dtX8_isSign 7 rfl) rfl (wc_getI (pc := 16) (dAt dtX8_isSign 8 rfl) flX8_44_8 rfl o101 (wc_baldK hg (pc := 19) (dAt dtX8_isSign 9 rfl) kr65 (p105 c109).2.1 (p105 c109).2.2 (wc_iload_n (pc := 20) (dAt dtX8_isSign 10 rfl) rfl (wc_icmp_ne (pc := 21) (tgt := 28) (dAt dtX8_isSign 11 rfl) (by decide) (fun c110 => (k107 (fun z => (fun z => z c110) z.2))) (fun c110 => (k106 ⟨c109, c110⟩))))))))))))))
theorem bX8_isSign (r0 : Nat) (x1 : Int) (h : Hp) : (vX8_isSign r0 x1 h) = 0 ∨ (vX8_isSign r0 x1 h) = 1 := (bool_b2i _)
def tX8_need : Mt := (⟨"FlyingDoctors$Reader", "need", "(I)V"⟩, prog_16_method_12_code, 2, (Option.none : Option Jvm.ClassFile.FieldType), [])
def DX8_need : List (Nat × Instr × Nat) := [(0, .aload_n 0, 1), (1, .aload_n 0, 1), (2, .iload_n 1, 1), (3, .invokevirtual 107, 3), (6, .invokevirtual 111, 3), (9, .aload_n 0, 1), (10, .invokevirtual 115, 3), (13, .return_, 1)]
theorem dtX8_need : chkD (mB tX8_need) DX8_need = true := by decide +kernel
theorem moX8_need : MethOk tX8_need 1 := ⟨Or.inl ⟨rfl, q1289⟩, by decide +kernel, ⟨by decide, by decide⟩, by decide +kernel⟩
def mX8_need (r0 : Nat) (x1 : Int) (h : Hp) (Q : Rs → Hp → Prop) : Prop := oX8_isSign r0 x1 h ∧ ob h r0 8 ∧ mX8_want r0 (vX8_isSign r0 x1 h) h (kN Q (fun h103 => ob h103 r0 8 ∧ mX8_next r0 h103 (kN Q (fun h105 => Q rN h105))))
theorem wX8_need {G : Gx} (hg : gF G = true) {d : Nat} {r0 : Nat} {x1 : Int} {h : Hp} {Q : Rs → Hp → Prop} (hm : mX8_need r0 x1 h Q) : Ct G tX8_need (d + 5) [vR r0, vI x1] h Q := by
  refine ct_enter (L0 := [some (vR r0), some (vI x1)]) rfl rfl ?_
  unfold mX8_need at hm
  obtain ⟨o101, o102, hm⟩ := hm
  refine wc_aload_n (pc := 0) (dAt dtX8_need 0 rfl) rfl (wc_aload_n (pc := 1) (dAt dtX8_need 1 rfl) rfl (wc_iload_n (pc := 2) (dAt dtX8_need 2 rfl) rfl (wc_callV (k := 8) (y' := tX8_isSign) (P := eI (vX8_isSign r0 x1 h) h) (pc := 3) (dAt dtX8_need 3 rfl) lkX8_107 moX8_isSign q1292 qs19 (by decide) o102 rfl rfl (Nat.le_of_ble_eq_true rfl) (wX8_isSign hg o101 ⟨rfl, rfl⟩) (ep_I (wc_callV (k := 8) (y' := tX8_want) (av := [vI (vX8_isSign r0 x1 h)]) (st := []) (pc := 6) (dAt dtX8_need 4 rfl) lkX8_111 moX8_want q963 qs13 (by decide) o102 rfl rfl (Nat.le_of_ble_eq_true rfl) (wX8_want hg hm) (kr_N (fun h103 hm => ?_)) (kx_N rfl))) ex_I)))
  obtain ⟨o104, hm⟩ := hm
  refine wc_aload_n (pc := 9) (dAt dtX8_need 5 rfl) rfl (wc_callV (k := 8) (y' := tX8_next) (av := []) (st := []) (pc := 10) (dAt dtX8_need 6 rfl) lkX8_115 moX8_next q829 qs7 (by decide) o104 rfl rfl (Nat.le_of_ble_eq_true rfl) (wX8_next hg hm) (kr_N (fun h105 hm => ?_)) (kx_N rfl))
  exact wc_vret (pc := 13) (dAt dtX8_need 7 rfl) rfl hm
