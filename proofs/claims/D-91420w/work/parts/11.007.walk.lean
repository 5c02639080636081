set_option maxRecDepth 100000
set_option maxHeartbeats 1000000
/-! what methods do, and their walks, by program -/
def tX8_is : Mt := (⟨"FlyingDoctors$Reader", "is", "(Ljava/lang/String;)Z"⟩, prog_16_method_6_code, 3, (Option.some Jvm.ClassFile.FieldType.boolean), [])
def DX8_is : List (Nat × Instr × Nat) := [(0, .aload_n 0, 1), (1, .getfield 47, 3), (4, .iconst 1, 1), (5, .if_icmp .ne 19, 3), (8, .aload_n 1, 1), (9, .invokevirtual 78, 3), (12, .aload_n 0, 1), (13, .getfield 75, 3), (16, .aload_n 0, 1), (17, .getfield 44, 3), (20, .isub, 1), (21, .if_icmp .eq 5, 3), (24, .iconst 0, 1), (25, .ireturn, 1), (26, .iconst 0, 1), (27, .istore_n 2, 1), (28, .iload_n 2, 1), (29, .aload_n 1, 1), (30, .invokevirtual 78, 3), (33, .if_icmp .ge 33, 3), (36, .aload_n 1, 1), (37, .iload_n 2, 1), (38, .invokevirtual 81, 3), (41, .aload_n 0, 1), (42, .getfield 3, 3), (45, .getfield 32, 3), (48, .aload_n 0, 1), (49, .getfield 44, 3), (52, .iload_n 2, 1), (53, .iadd, 1), (54, .baload, 1), (55, .if_icmp .eq 5, 3), (58, .iconst 0, 1), (59, .ireturn, 1), (60, .iinc 2 1, 3), (63, .goto (-35), 3), (66, .iconst 1, 1), (67, .ireturn, 1)]
theorem dtX8_is : chkD (mB tX8_is) DX8_is = true := by decide +kernel
theorem moX8_is : MethOk tX8_is 1 := ⟨Or.inl ⟨rfl, q937⟩, by decide +kernel, ⟨by decide, by decide⟩, by decide +kernel⟩
def mX8_is (r0 : Nat) (r1 : Nat) (h : Hp) (Q : Rs → Hp → Prop) : Prop := ob h r0 8 ∧ ((¬ ((hI h r0 4) ≠ 1) → oJ13_length r1 h ∧ ob h r1 43 ∧ nm ((hI h r0 6) - (hI h r0 5)))) ∧ if ((hI h r0 4) ≠ 1) ∨ (¬ ((vJ13_length r1 h) = ((hI h r0 6) - (hI h r0 5)))) then Q (rV (vI 0)) h else wh2 (fun (C109 : Int → Hp → Prop) (x107 : Int) (h108 : Hp) => oJ13_length r1 h108 ∧ ob h108 r1 43 ∧ if ¬ ((vJ13_length r1 h108) ≤ x107) then mJ13_charAt r1 x107 h108 (kI Q (fun x115 h114 => ob h114 r0 8 ∧ hR h114 r0 9 = 50 ∧ nm ((hI h114 r0 5) + x107) ∧ 0 ≤ ((hI h114 r0 5) + x107) ∧ ((hI h114 r0 5) + x107) < 800 ∧ if ¬ (x115 = (hI h114 65 (Int.toNat ((hI h114 r0 5) + x107)))) then Q (rV (vI 0)) h114 else nm (x107 + 1) ∧ ∀ i123 : Int, i123 = (x107 + 1) → C109 i123 h114)) else Q (rV (vI 1)) h108) 0 h
theorem wX8_is {G : Gx} (hg : gF G = true) {d : Nat} {r0 : Nat} {r1 : Nat} {h : Hp} {Q : Rs → Hp → Prop} (hm : mX8_is r0 r1 h Q) : Ct G tX8_is (d + 4) [vR r0, vR r1] h Q := by
  refine ct_enter (L0 := [some (vR r0), some (vR r1), none]) rfl rfl ?_
  unfold mX8_is at hm
  obtain ⟨o101, o105, hm⟩ := hm
  refine wc_aload_n (pc := 0) (dAt dtX8_is 0 rfl) rfl (wc_getI (pc := 1) (dAt dtX8_is 1 rfl) flX8_47_8 rfl o101 (wc_iconst (pc := 4) (dAt dtX8_is 2 rfl) ⟨by decide, by decide⟩ (?_)))
  have k124 : (((hI h r0 4) ≠ 1) ∨ (¬ ((vJ13_length r1 h) = ((hI h r0 6) - (hI h r0 5))))) → Wc G tX8_is (d + 4) h Q 24 [some (vR r0), some (vR r1), none] [] h := fun c106 => by
    replace hm := ite_t c106 hm
    exact wc_iconst (pc := 24) (dAt dtX8_is 12 rfl) ⟨by decide, by decide⟩ (wc_iret (pc := 25) (dAt dtX8_is 13 rfl) rfl (nar_bool (Or.inl rfl)) hm)
  have k125 : ¬ (((hI h r0 4) ≠ 1) ∨ (¬ ((vJ13_length r1 h) = ((hI h r0 6) - (hI h r0 5))))) → Wc G tX8_is (d + 4) h Q 26 [some (vR r0), some (vR r1), none] [] h := fun c106 => by
    replace hm := ite_f c106 hm
    refine wc_iconst (pc := 26) (dAt dtX8_is 14 rfl) ⟨by decide, by decide⟩ (wc_istore_n (pc := 27) (dAt dtX8_is 15 rfl) (by decide) (wc_L (L' := [some (vR r0), some (vR r1), some (vI 0)]) rfl (?_)))
    refine wh2_ind (P := fun (x107 : Int) (h108 : Hp) => Wc G tX8_is (d + 4) h Q 28 [some (vR r0), some (vR r1), some (vI x107)] [] h108) (fun C109 ih110 x107 h108 hm => ?_) hm
    obtain ⟨o111, o112, hm⟩ := hm
    refine wc_iload_n (pc := 28) (dAt dtX8_is 16 rfl) rfl (wc_aload_n (pc := 29) (dAt dtX8_is 17 rfl) rfl (wc_callV (k := 43) (y' := tJ13_length) (P := eI (vJ13_length r1 h108) h108) (pc := 30) (dAt dtX8_is 18 rfl) lkX8_78 moJ13_length q862 q863 (by decide) o112 rfl rfl (Nat.le_of_ble_eq_true rfl) (wJ13_length hg o111 ⟨rfl, rfl⟩) (ep_I (wc_icmp_ge (pc := 33) (tgt := 66) (dAt dtX8_is 19 rfl) (by decide) (fun c113 => ?_) (fun c113 => ?_))) ex_I))
    · replace hm := ite_f (fun z => z c113) hm
      exact wc_iconst (pc := 66) (dAt dtX8_is 36 rfl) ⟨by decide, by decide⟩ (wc_iret (pc := 67) (dAt dtX8_is 37 rfl) rfl (nar_bool (Or.inr rfl)) hm)
    · replace hm := ite_t c113 hm
      refine wc_aload_n (pc := 36) (dAt dtX8_is 20 rfl) rfl (wc_iload_n (pc := 37) (dAt dtX8_is 21 rfl) rfl (wc_callV (k := 43) (y' := tJ13_charAt) (av := [vI x107]) (st := []) (pc := 38) (dAt dtX8_is 22 rfl) lkX8_81 moJ13_charAt q940 q941 (by decide) o112 rfl rfl (Nat.le_of_ble_eq_true rfl) (wJ13_charAt hg hm) (kr_I (fun x115 h114 hm => ?_)) (kx_I rfl)))
      obtain ⟨o116, o117, o118, o119, o120, hm⟩ := hm
      refine wc_aload_n (pc := 41) (dAt dtX8_is 23 rfl) rfl (wc_getR (pc := 42) (dAt dtX8_is 24 rfl) flX8_3_8 rfl o116 (wc_vr o117.symm (wc_getKR hg (pc := 45) (dAt dtX8_is 25 rfl) flX8_32_1 rfl ka50 kf50_15 (wc_aload_n (pc := 48) (dAt dtX8_is 26 rfl) rfl (wc_getI (pc := 49) (dAt dtX8_is 27 rfl) flX8_44_8 rfl o116 (wc_iload_n (pc := 52) (dAt dtX8_is 28 rfl) rfl (wc_iadd (pc := 53) (dAt dtX8_is 29 rfl) o118 (wc_baldK hg (pc := 54) (dAt dtX8_is 30 rfl) kr65 o119 o120 (wc_icmp_eq (pc := 55) (tgt := 60) (dAt dtX8_is 31 rfl) (by decide) (fun c121 => ?_) (fun c121 => ?_))))))))))
      · replace hm := ite_f (fun z => z c121) hm
        obtain ⟨o122, hm⟩ := hm
        obtain ⟨i123, ei123⟩ : ∃ i123 : Int, i123 = (x107 + 1) := ⟨_, rfl⟩
        replace hm := hm i123 ei123
        exact wc_iinc (v := i123) (pc := 60) (dAt dtX8_is 34 rfl) rfl ei123 (ei123 ▸ o122) (by decide) (wc_L (L' := [some (vR r0), some (vR r1), some (vI i123)]) rfl (wc_goto (pc := 63) (tgt := 28) (dAt dtX8_is 35 rfl) (by decide) (ih110 _ _ hm)))
      · replace hm := ite_t c121 hm
        exact wc_iconst (pc := 58) (dAt dtX8_is 32 rfl) ⟨by decide, by decide⟩ (wc_iret (pc := 59) (dAt dtX8_is 33 rfl) rfl (nar_bool (Or.inl rfl)) hm)
  exact wc_icmp_ne (pc := 5) (tgt := 24) (dAt dtX8_is 3 rfl) (by decide) (fun c126 => (k124 (Or.inl c126))) (fun c126 => wc_aload_n (pc := 8) (dAt dtX8_is 4 rfl) rfl (wc_callV (k := 43) (y' := tJ13_length) (P := eI (vJ13_length r1 h) h) (pc := 9) (dAt dtX8_is 5 rfl) lkX8_78 moJ13_length q862 q863 (by decide) (o105 c126).2.1 rfl rfl (Nat.le_of_ble_eq_true rfl) (wJ13_length hg (o105 c126).1 ⟨rfl, rfl⟩) (ep_I (wc_aload_n (pc := 12) (dAt dtX8_is 6 rfl) rfl (wc_getI (pc := 13) (dAt dtX8_is 7 rfl) flX8_75_8 rfl o101 (wc_aload_n (pc := 16) (dAt dtX8_is 8 rfl) rfl (wc_getI (pc := 17) (dAt dtX8_is 9 rfl) flX8_44_8 rfl o101 (wc_isub (pc := 20) (dAt dtX8_is 10 rfl) (o105 c126).2.2 (wc_icmp_eq (pc := 21) (tgt := 26) (dAt dtX8_is 11 rfl) (by decide) (fun c127 => (k125 (fun z => z.elim c126 (fun z => z c127)))) (fun c127 => (k124 (Or.inr c127)))))))))) ex_I))
def tJ8_init_2 : Mt := (⟨"java/lang/Throwable", "<init>", "(Ljava/lang/String;Ljava/lang/Throwable;ZZ)V"⟩, prog_45_method_5_code, 5, (Option.none : Option Jvm.ClassFile.FieldType), [])
def DJ8_init_2 : List (Nat × Instr × Nat) := [(0, .aload_n 0, 1), (1, .invokespecial 1, 3), (4, .aload_n 0, 1), (5, .aload_n 0, 1), (6, .putfield 7, 3), (9, .aload_n 0, 1), (10, .getstatic 13, 3), (13, .putfield 17, 3), (16, .aload_n 0, 1), (17, .getstatic 20, 3), (20, .putfield 24, 3), (23, .iload 4, 2), (25, .ifCond .eq 11, 3), (28, .aload_n 0, 1), (29, .invokevirtual 27, 3), (32, .pop, 1), (33, .goto 8, 3), (36, .aload_n 0, 1), (37, .aconst_null, 1), (38, .putfield 17, 3), (41, .aload_n 0, 1), (42, .aload_n 1, 1), (43, .putfield 31, 3), (46, .aload_n 0, 1), (47, .aload_n 2, 1), (48, .putfield 7, 3), (51, .iload_n 3, 1), (52, .ifCond .ne 8, 3), (55, .aload_n 0, 1), (56, .aconst_null, 1), (57, .putfield 24, 3), (60, .return_, 1)]
theorem dtJ8_init_2 : chkD (mB tJ8_init_2) DJ8_init_2 = true := by decide +kernel
theorem moJ8_init_2 : MethOk tJ8_init_2 4 := ⟨Or.inl ⟨rfl, q982⟩, by decide +kernel, ⟨by decide, by decide⟩, by decide +kernel⟩
def mJ8_init_2 (r0 : Nat) (r1 : Nat) (r2 : Nat) (x3 : Int) (x4 : Int) (h : Hp) (Q : Rs → Hp → Prop) : Prop := 50 ≤ r0 ∧ ob h r0 9 ∧ ∀ h103 : Hp, h103 = sR h r0 0 r0 → ∀ h104 : Hp, h104 = sR h103 r0 1 3 → ∀ h105 : Hp, h105 = sR h104 r0 2 4 → x4 = 0 ∧ ∀ h108 : Hp, h108 = sR h105 r0 1 0 → ∀ h109 : Hp, h109 = sR h108 r0 3 r1 → ∀ h110 : Hp, h110 = sR h109 r0 0 r2 → ¬ (x3 ≠ 0) ∧ ∀ h113 : Hp, h113 = sR h110 r0 2 0 → Q rN h113
theorem wJ8_init_2 {G : Gx} (hg : gF G = true) {d : Nat} {r0 : Nat} {r1 : Nat} {r2 : Nat} {x3 : Int} {x4 : Int} {h : Hp} {Q : Rs → Hp → Prop} (hm : mJ8_init_2 r0 r1 r2 x3 x4 h Q) : Ct G tJ8_init_2 (d + 1) [vR r0, vR r1, vR r2, vI x3, vI x4] h Q := by
  refine ct_enter (L0 := [some (vR r0), some (vR r1), some (vR r2), some (vI x3), some (vI x4)]) rfl rfl ?_
  unfold mJ8_init_2 at hm
  obtain ⟨o101, o102, hm⟩ := hm
  obtain ⟨h103, eh103⟩ : ∃ h103 : Hp, h103 = sR h r0 0 r0 := ⟨_, rfl⟩
  replace hm := hm h103 eh103
  obtain ⟨h104, eh104⟩ : ∃ h104 : Hp, h104 = sR h103 r0 1 3 := ⟨_, rfl⟩
  replace hm := hm h104 eh104
  obtain ⟨h105, eh105⟩ : ∃ h105 : Hp, h105 = sR h104 r0 2 4 := ⟨_, rfl⟩
  replace hm := hm h105 eh105
  obtain ⟨o106, hm⟩ := hm
  obtain ⟨h108, eh108⟩ : ∃ h108 : Hp, h108 = sR h105 r0 1 0 := ⟨_, rfl⟩
  replace hm := hm h108 eh108
  obtain ⟨h109, eh109⟩ : ∃ h109 : Hp, h109 = sR h108 r0 3 r1 := ⟨_, rfl⟩
  replace hm := hm h109 eh109
  obtain ⟨h110, eh110⟩ : ∃ h110 : Hp, h110 = sR h109 r0 0 r2 := ⟨_, rfl⟩
  replace hm := hm h110 eh110
  obtain ⟨o111, hm⟩ := hm
  obtain ⟨h113, eh113⟩ : ∃ h113 : Hp, h113 = sR h110 r0 2 0 := ⟨_, rfl⟩
  replace hm := hm h113 eh113
  exact wc_aload_n (pc := 0) (dAt dtJ8_init_2 0 rfl) rfl (wc_obj (pc := 1) (dAt dtJ8_init_2 1 rfl) q714 q180 q181 o101 (Nat.le_of_ble_eq_true rfl) (wc_aload_n (pc := 4) (dAt dtJ8_init_2 2 rfl) rfl (wc_aload_n (pc := 5) (dAt dtJ8_init_2 3 rfl) rfl (wc_putR (pc := 6) (dAt dtJ8_init_2 4 rfl) flJ8_7_9 (Or.inl rfl) rfl o102 o101 (fun _ => ⟨by decide, by decide, by decide⟩) (wc_hp eh103 (wc_aload_n (pc := 9) (dAt dtJ8_init_2 5 rfl) rfl (wc_getsR (a := 3) (pc := 10) (dAt dtJ8_init_2 6 rfl) q715 (by decide +kernel) (by decide) (wc_putR (pc := 13) (dAt dtJ8_init_2 7 rfl) flJ8_17_9 (Or.inl rfl) rfl (ob_sR eh103 o102) o101 (fun _ => ⟨by decide, by decide, by decide⟩) (wc_hp eh104 (wc_aload_n (pc := 16) (dAt dtJ8_init_2 8 rfl) rfl (wc_getsR (a := 4) (pc := 17) (dAt dtJ8_init_2 9 rfl) q717 (by decide +kernel) (by decide) (wc_putR (pc := 20) (dAt dtJ8_init_2 10 rfl) flJ8_24_9 (Or.inl rfl) rfl (ob_sR eh104 (ob_sR eh103 o102)) o101 (fun _ => ⟨by decide, by decide, by decide⟩) (wc_hp eh105 (wc_iload (pc := 23) (dAt dtJ8_init_2 11 rfl) rfl (wc_if_eq (pc := 25) (tgt := 36) (dAt dtJ8_init_2 12 rfl) (by decide) (fun c107 =>  (wc_aload_n (pc := 36) (dAt dtJ8_init_2 17 rfl) rfl (wc_null (pc := 37) (dAt dtJ8_init_2 18 rfl) (wc_putR (pc := 38) (dAt dtJ8_init_2 19 rfl) flJ8_17_9 (Or.inl rfl) rfl (ob_sR eh105 (ob_sR eh104 (ob_sR eh103 o102))) o101 (fun _ => ⟨by decide, by decide, by decide⟩) (wc_hp eh108 (wc_aload_n (pc := 41) (dAt dtJ8_init_2 20 rfl) rfl (wc_aload_n (pc := 42) (dAt dtJ8_init_2 21 rfl) rfl (wc_putR (pc := 43) (dAt dtJ8_init_2 22 rfl) flJ8_31_9 (Or.inl rfl) rfl (ob_sR eh108 (ob_sR eh105 (ob_sR eh104 (ob_sR eh103 o102)))) o101 (fun _ => ⟨by decide, by decide, by decide⟩) (wc_hp eh109 (wc_aload_n (pc := 46) (dAt dtJ8_init_2 23 rfl) rfl (wc_aload_n (pc := 47) (dAt dtJ8_init_2 24 rfl) rfl (wc_putR (pc := 48) (dAt dtJ8_init_2 25 rfl) flJ8_7_9 (Or.inl rfl) rfl (ob_sR eh109 (ob_sR eh108 (ob_sR eh105 (ob_sR eh104 (ob_sR eh103 o102))))) o101 (fun _ => ⟨by decide, by decide, by decide⟩) (wc_hp eh110 (wc_iload_n (pc := 51) (dAt dtJ8_init_2 26 rfl) rfl (wc_if_ne (pc := 52) (tgt := 60) (dAt dtJ8_init_2 27 rfl) (by decide) (fun c112 => absurd c112 o111) (fun c112 =>  (wc_aload_n (pc := 55) (dAt dtJ8_init_2 28 rfl) rfl (wc_null (pc := 56) (dAt dtJ8_init_2 29 rfl) (wc_putR (pc := 57) (dAt dtJ8_init_2 30 rfl) flJ8_24_9 (Or.inl rfl) rfl (ob_sR eh110 (ob_sR eh109 (ob_sR eh108 (ob_sR eh105 (ob_sR eh104 (ob_sR eh103 o102)))))) o101 (fun _ => ⟨by decide, by decide, by decide⟩) (wc_hp eh113 (wc_vret (pc := 60) (dAt dtJ8_init_2 31 rfl) rfl hm))))))))))))))))))))) (fun c107 => absurd o106 c107))))))))))))))))
def tJ9_init_2 : Mt := (⟨"java/lang/Exception", "<init>", "(Ljava/lang/String;Ljava/lang/Throwable;ZZ)V"⟩, prog_32_method_5_code, 5, (Option.none : Option Jvm.ClassFile.FieldType), [])
def DJ9_init_2 : List (Nat × Instr × Nat) := [(0, .aload_n 0, 1), (1, .aload_n 1, 1), (2, .aload_n 2, 1), (3, .iload_n 3, 1), (4, .iload 4, 2), (6, .invokespecial 16, 3), (9, .return_, 1)]
theorem dtJ9_init_2 : chkD (mB tJ9_init_2) DJ9_init_2 = true := by decide +kernel
theorem moJ9_init_2 : MethOk tJ9_init_2 4 := ⟨Or.inl ⟨rfl, q979⟩, by decide +kernel, ⟨by decide, by decide⟩, by decide +kernel⟩
def mJ9_init_2 (r0 : Nat) (r1 : Nat) (r2 : Nat) (x3 : Int) (x4 : Int) (h : Hp) (Q : Rs → Hp → Prop) : Prop := 50 ≤ r0 ∧ mJ8_init_2 r0 r1 r2 x3 x4 h (kN Q (fun h102 => Q rN h102))
theorem wJ9_init_2 {G : Gx} (hg : gF G = true) {d : Nat} {r0 : Nat} {r1 : Nat} {r2 : Nat} {x3 : Int} {x4 : Int} {h : Hp} {Q : Rs → Hp → Prop} (hm : mJ9_init_2 r0 r1 r2 x3 x4 h Q) : Ct G tJ9_init_2 (d + 2) [vR r0, vR r1, vR r2, vI x3, vI x4] h Q := by
  refine ct_enter (L0 := [some (vR r0), some (vR r1), some (vR r2), some (vI x3), some (vI x4)]) rfl rfl ?_
  unfold mJ9_init_2 at hm
  obtain ⟨o101, hm⟩ := hm
  refine wc_aload_n (pc := 0) (dAt dtJ9_init_2 0 rfl) rfl (wc_aload_n (pc := 1) (dAt dtJ9_init_2 1 rfl) rfl (wc_aload_n (pc := 2) (dAt dtJ9_init_2 2 rfl) rfl (wc_iload_n (pc := 3) (dAt dtJ9_init_2 3 rfl) rfl (wc_iload (pc := 4) (dAt dtJ9_init_2 4 rfl) rfl (wc_callI (y' := tJ8_init_2) (av := [vR r1, vR r2, vI x3, vI x4]) (st := []) (pc := 6) (dAt dtJ9_init_2 5 rfl) lkJ9_16 moJ8_init_2 q981 rfl q982 o101 rfl rfl (Nat.le_of_ble_eq_true rfl) (wJ8_init_2 hg hm) (kr_N (fun h102 hm => ?_)) (kx_N rfl))))))
  exact wc_vret (pc := 9) (dAt dtJ9_init_2 6 rfl) rfl hm
def tX9_init : Mt := (⟨"FlyingDoctors$Wrong", "<init>", "(I)V"⟩, prog_22_method_1_code, 2, (Option.none : Option Jvm.ClassFile.FieldType), [])
def DX9_init : List (Nat × Instr × Nat) := [(0, .aload_n 0, 1), (1, .aconst_null, 1), (2, .aconst_null, 1), (3, .iconst 0, 1), (4, .iconst 0, 1), (5, .invokespecial 1, 3), (8, .aload_n 0, 1), (9, .iload_n 1, 1), (10, .putfield 7, 3), (13, .return_, 1)]
theorem dtX9_init : chkD (mB tX9_init) DX9_init = true := by decide +kernel
theorem moX9_init : MethOk tX9_init 1 := ⟨Or.inl ⟨rfl, q976⟩, by decide +kernel, ⟨by decide, by decide⟩, by decide +kernel⟩
def mX9_init (r0 : Nat) (x1 : Int) (h : Hp) (Q : Rs → Hp → Prop) : Prop := 50 ≤ r0 ∧ mJ9_init_2 r0 0 0 0 0 h (kN Q (fun h102 => ob h102 r0 9 ∧ ∀ h104 : Hp, h104 = sI h102 r0 6 x1 → Q rN h104))
theorem wX9_init {G : Gx} (hg : gF G = true) {d : Nat} {r0 : Nat} {x1 : Int} {h : Hp} {Q : Rs → Hp → Prop} (hm : mX9_init r0 x1 h Q) : Ct G tX9_init (d + 3) [vR r0, vI x1] h Q := by
  refine ct_enter (L0 := [some (vR r0), some (vI x1)]) rfl rfl ?_
  unfold mX9_init at hm
  obtain ⟨o101, hm⟩ := hm
  refine wc_aload_n (pc := 0) (dAt dtX9_init 0 rfl) rfl (wc_null (pc := 1) (dAt dtX9_init 1 rfl) (wc_null (pc := 2) (dAt dtX9_init 2 rfl) (wc_iconst (pc := 3) (dAt dtX9_init 3 rfl) ⟨by decide, by decide⟩ (wc_iconst (pc := 4) (dAt dtX9_init 4 rfl) ⟨by decide, by decide⟩ (wc_callI (y' := tJ9_init_2) (av := [vR 0, vR 0, vI 0, vI 0]) (st := []) (pc := 5) (dAt dtX9_init 5 rfl) lkX9_1 moJ9_init_2 q978 rfl q979 o101 rfl rfl (Nat.le_of_ble_eq_true rfl) (wJ9_init_2 hg hm) (kr_N (fun h102 hm => ?_)) (kx_N rfl))))))
  obtain ⟨o103, hm⟩ := hm
  obtain ⟨h104, eh104⟩ : ∃ h104 : Hp, h104 = sI h102 r0 6 x1 := ⟨_, rfl⟩
  replace hm := hm h104 eh104
  exact wc_aload_n (pc := 8) (dAt dtX9_init 6 rfl) rfl (wc_iload_n (pc := 9) (dAt dtX9_init 7 rfl) rfl (wc_putI (pc := 10) (dAt dtX9_init 8 rfl) flX9_7_9 (Or.inr ⟨rfl, rfl, rfl⟩) rfl o103 o101 (okI_int _) (wc_hp eh104 (wc_vret (pc := 13) (dAt dtX9_init 9 rfl) rfl hm))))
def tX8_want : Mt := (⟨"FlyingDoctors$Reader", "want", "(Z)V"⟩, prog_16_method_11_code, 2, (Option.none : Option Jvm.ClassFile.FieldType), [])
def DX8_want : List (Nat × Instr × Nat) := [(0, .iload_n 1, 1), (1, .ifCond .ne 12, 3), (4, .new 102, 3), (7, .dup, 1), (8, .iconst 1, 1), (9, .invokespecial 104, 3), (12, .athrow, 1), (13, .return_, 1)]
theorem dtX8_want : chkD (mB tX8_want) DX8_want = true := by decide +kernel
theorem moX8_want : MethOk tX8_want 1 := ⟨Or.inl ⟨rfl, q964⟩, by decide +kernel, ⟨by decide, by decide⟩, by decide +kernel⟩
def mX8_want (r0 : Nat) (x1 : Int) (h : Hp) (Q : Rs → Hp → Prop) : Prop := if ¬ (x1 ≠ 0) then hn h + 1 ≤ 878547 ∧ hq h + 7 ≤ 6460613 ∧ ∀ r105 : Nat, r105 = hn h → ∀ h106 : Hp, h106 = nw h 9 0 7 → mX9_init r105 1 h106 (kN Q (fun h107 => ob h107 r105 9 ∧ Q (rX r105) h107)) else Q rN h
theorem wX8_want {G : Gx} (hg : gF G = true) {d : Nat} {r0 : Nat} {x1 : Int} {h : Hp} {Q : Rs → Hp → Prop} (hm : mX8_want r0 x1 h Q) : Ct G tX8_want (d + 4) [vR r0, vI x1] h Q := by
  refine ct_enter (L0 := [some (vR r0), some (vI x1)]) rfl rfl ?_
  unfold mX8_want at hm
  refine wc_iload_n (pc := 0) (dAt dtX8_want 0 rfl) rfl (wc_if_ne (pc := 1) (tgt := 13) (dAt dtX8_want 1 rfl) (by decide) (fun c101 => ?_) (fun c101 => ?_))
  · replace hm := ite_f (fun z => z c101) hm
    exact wc_vret (pc := 13) (dAt dtX8_want 7 rfl) rfl hm
  · replace hm := ite_t c101 hm
    obtain ⟨o102, o103, hm⟩ := hm
    obtain ⟨r105, er105⟩ : ∃ r105 : Nat, r105 = hn h := ⟨_, rfl⟩
    replace hm := hm r105 er105
    obtain ⟨h106, eh106⟩ : ∃ h106 : Hp, h106 = nw h 9 0 7 := ⟨_, rfl⟩
    replace hm := hm h106 eh106
    refine wc_k0 fun n104 => (wc_new (k := 9) (pc := 4) (dAt dtX8_want 2 rfl) q965 q966 q154 (by decide) o102 o103 (wc_hp eh106 (wc_vr er105 (wc_dup (pc := 7) (dAt dtX8_want 3 rfl) rfl (wc_iconst (pc := 8) (dAt dtX8_want 4 rfl) ⟨by decide, by decide⟩ (wc_callI (y' := tX9_init) (av := [vI 1]) (st := [vR r105]) (pc := 9) (dAt dtX8_want 5 rfl) lkX8_104 moX9_init q975 rfl q976 (k0_at er105 n104) rfl rfl (Nat.le_of_ble_eq_true rfl) (wX9_init hg hm) (kr_N (fun h107 hm => ?_)) (kx_N rfl)))))))
    obtain ⟨o108, hm⟩ := hm
    exact wc_athrow (pc := 12) (dAt dtX8_want 6 rfl) (by decide) o108 rfl hm
def tX8_isThere : Mt := (⟨"FlyingDoctors$Reader", "isThere", "(Ljava/lang/String;I)Z"⟩, prog_16_method_9_code, 5, (Option.some Jvm.ClassFile.FieldType.boolean), [])
def DX8_isThere : List (Nat × Instr × Nat) := [(0, .iload_n 2, 1), (1, .aload_n 0, 1), (2, .getfield 75, 3), (5, .iadd, 1), (6, .aload_n 0, 1), (7, .getfield 44, 3), (10, .isub, 1), (11, .istore_n 3, 1), (12, .aload_n 0, 1), (13, .getfield 47, 3), (16, .iconst 1, 1), (17, .if_icmp .ne 21, 3), (20, .iload_n 3, 1), (21, .aload_n 1, 1), (22, .invokevirtual 78, 3), (25, .if_icmp .ge 13, 3), (28, .aload_n 1, 1), (29, .iload_n 3, 1), (30, .invokevirtual 81, 3), (33, .bipush 32, 2), (35, .if_icmp .eq 5, 3), (38, .iconst 0, 1), (39, .ireturn, 1), (40, .aload_n 0, 1), (41, .getfield 44, 3), (44, .istore 4, 2), (46, .iload 4, 2), (48, .aload_n 0, 1), (49, .getfield 75, 3), (52, .if_icmp .ge 37, 3), (55, .aload_n 1, 1), (56, .iload_n 2, 1), (57, .iload 4, 2), (59, .iadd, 1), (60, .aload_n 0, 1), (61, .getfield 44, 3), (64, .isub, 1), (65, .invokevirtual 81, 3), (68, .aload_n 0, 1), (69, .getfield 3, 3), (72, .getfield 32, 3), (75, .iload 4, 2), (77, .baload, 1), (78, .if_icmp .eq 5, 3), (81, .iconst 0, 1), (82, .ireturn, 1), (83, .iinc 4 1, 3), (86, .goto (-40), 3), (89, .iconst 1, 1), (90, .ireturn, 1)]
theorem dtX8_isThere : chkD (mB tX8_isThere) DX8_isThere = true := by decide +kernel
theorem moX8_isThere : MethOk tX8_isThere 2 := ⟨Or.inl ⟨rfl, q1003⟩, by decide +kernel, ⟨by decide, by decide⟩, by decide +kernel⟩
def mX8_isThere (r0 : Nat) (r1 : Nat) (x2 : Int) (h : Hp) (Q : Rs → Hp → Prop) : Prop := ob h r0 8 ∧ nm (x2 + (hI h r0 6)) ∧ nm ((x2 + (hI h r0 6)) - (hI h r0 5)) ∧ ∀ v104 : Int, v104 = ((x2 + (hI h r0 6)) - (hI h r0 5)) → ((¬ ((hI h r0 4) ≠ 1) → oJ13_length r1 h ∧ ob h r1 43)) ∧ if ¬ ((hI h r0 4) ≠ 1) ∧ (¬ ((vJ13_length r1 h) ≤ v104)) then ob h r1 43 ∧ mJ13_charAt r1 v104 h (kI Q (fun x111 h110 => if ¬ (x111 = 32) then Q (rV (vI 0)) h110 else ob h110 r0 8 ∧ ∀ v114 : Int, v114 = (hI h110 r0 5) → wh2 (fun (C117 : Int → Hp → Prop) (x115 : Int) (h116 : Hp) => ob h116 r0 8 ∧ if ¬ ((hI h116 r0 6) ≤ x115) then nm (x2 + x115) ∧ nm ((x2 + x115) - (hI h116 r0 5)) ∧ ob h116 r1 43 ∧ mJ13_charAt r1 ((x2 + x115) - (hI h116 r0 5)) h116 (kI Q (fun x125 h124 => ob h124 r0 8 ∧ hR h124 r0 9 = 50 ∧ 0 ≤ x115 ∧ x115 < 800 ∧ if ¬ (x125 = (hI h124 65 (Int.toNat x115))) then Q (rV (vI 0)) h124 else nm (x115 + 1) ∧ ∀ i132 : Int, i132 = (x115 + 1) → C117 i132 h124)) else Q (rV (vI 1)) h116) v114 h110)) else Q (rV (vI 0)) h
theorem wX8_isThere {G : Gx} (hg : gF G = true) {d : Nat} {r0 : Nat} {r1 : Nat} {x2 : Int} {h : Hp} {Q : Rs → Hp → Prop} (hm : mX8_isThere r0 r1 x2 h Q) : Ct G tX8_isThere (d + 4) [vR r0, vR r1, vI x2] h Q := by
  refine ct_enter (L0 := [some (vR r0), some (vR r1), some (vI x2), none, none]) rfl rfl ?_
  unfold mX8_isThere at hm
  obtain ⟨o101, o102, o103, hm⟩ := hm
  obtain ⟨v104, ev104⟩ : ∃ v104 : Int, v104 = ((x2 + (hI h r0 6)) - (hI h r0 5)) := ⟨_, rfl⟩
  replace hm := hm v104 ev104
  obtain ⟨o107, hm⟩ := hm
  refine wc_iload_n (pc := 0) (dAt dtX8_isThere 0 rfl) rfl (wc_aload_n (pc := 1) (dAt dtX8_isThere 1 rfl) rfl (wc_getI (pc := 2) (dAt dtX8_isThere 2 rfl) flX8_75_8 rfl o101 (wc_iadd (pc := 5) (dAt dtX8_isThere 3 rfl) o102 (wc_aload_n (pc := 6) (dAt dtX8_isThere 4 rfl) rfl (wc_getI (pc := 7) (dAt dtX8_isThere 5 rfl) flX8_44_8 rfl o101 (wc_isub (pc := 10) (dAt dtX8_isThere 6 rfl) o103 (wc_vi ev104 (wc_istore_n (pc := 11) (dAt dtX8_isThere 7 rfl) (by decide) (wc_L (L' := [some (vR r0), some (vR r1), some (vI x2), some (vI v104), none]) rfl (wc_aload_n (pc := 12) (dAt dtX8_isThere 8 rfl) rfl (wc_getI (pc := 13) (dAt dtX8_isThere 9 rfl) flX8_47_8 rfl o101 (wc_iconst (pc := 16) (dAt dtX8_isThere 10 rfl) ⟨by decide, by decide⟩ (?_)))))))))))))
  have k133 : (¬ ((hI h r0 4) ≠ 1) ∧ (¬ ((vJ13_length r1 h) ≤ v104))) → Wc G tX8_isThere (d + 4) h Q 28 [some (vR r0), some (vR r1), some (vI x2), some (vI v104), none] [] h := fun c108 => by
    replace hm := ite_t c108 hm
    obtain ⟨o109, hm⟩ := hm
    refine wc_aload_n (pc := 28) (dAt dtX8_isThere 16 rfl) rfl (wc_iload_n (pc := 29) (dAt dtX8_isThere 17 rfl) rfl (wc_callV (k := 43) (y' := tJ13_charAt) (av := [vI v104]) (st := []) (pc := 30) (dAt dtX8_isThere 18 rfl) lkX8_81 moJ13_charAt q940 q941 (by decide) o109 rfl rfl (Nat.le_of_ble_eq_true rfl) (wJ13_charAt hg hm) (kr_I (fun x111 h110 hm => ?_)) (kx_I rfl)))
    refine wc_bipush (pc := 33) (dAt dtX8_isThere 19 rfl) ⟨by decide, by decide, by decide⟩ (wc_icmp_eq (pc := 35) (tgt := 40) (dAt dtX8_isThere 20 rfl) (by decide) (fun c112 => ?_) (fun c112 => ?_))
    · replace hm := ite_f (fun z => z c112) hm
      obtain ⟨o113, hm⟩ := hm
      obtain ⟨v114, ev114⟩ : ∃ v114 : Int, v114 = (hI h110 r0 5) := ⟨_, rfl⟩
      replace hm := hm v114 ev114
      refine wc_aload_n (pc := 40) (dAt dtX8_isThere 23 rfl) rfl (wc_getI (pc := 41) (dAt dtX8_isThere 24 rfl) flX8_44_8 rfl o113 (wc_vi ev114 (wc_istore (pc := 44) (dAt dtX8_isThere 25 rfl) (by decide) (wc_L (L' := [some (vR r0), some (vR r1), some (vI x2), some (vI v104), some (vI v114)]) rfl (wc_drp [3] rfl (wc_L (L' := [some (vR r0), some (vR r1), some (vI x2), none, some (vI v114)]) rfl (?_)))))))
      refine wh2_ind (P := fun (x115 : Int) (h116 : Hp) => Wc G tX8_isThere (d + 4) h Q 46 [some (vR r0), some (vR r1), some (vI x2), none, some (vI x115)] [] h116) (fun C117 ih118 x115 h116 hm => ?_) hm
      obtain ⟨o119, hm⟩ := hm
      refine wc_iload (pc := 46) (dAt dtX8_isThere 26 rfl) rfl (wc_aload_n (pc := 48) (dAt dtX8_isThere 27 rfl) rfl (wc_getI (pc := 49) (dAt dtX8_isThere 28 rfl) flX8_75_8 rfl o119 (wc_icmp_ge (pc := 52) (tgt := 89) (dAt dtX8_isThere 29 rfl) (by decide) (fun c120 => ?_) (fun c120 => ?_))))
      · replace hm := ite_f (fun z => z c120) hm
        exact wc_iconst (pc := 89) (dAt dtX8_isThere 48 rfl) ⟨by decide, by decide⟩ (wc_iret (pc := 90) (dAt dtX8_isThere 49 rfl) rfl (nar_bool (Or.inr rfl)) hm)
      · replace hm := ite_t c120 hm
        obtain ⟨o121, o122, o123, hm⟩ := hm
        refine wc_aload_n (pc := 55) (dAt dtX8_isThere 30 rfl) rfl (wc_iload_n (pc := 56) (dAt dtX8_isThere 31 rfl) rfl (wc_iload (pc := 57) (dAt dtX8_isThere 32 rfl) rfl (wc_iadd (pc := 59) (dAt dtX8_isThere 33 rfl) o121 (wc_aload_n (pc := 60) (dAt dtX8_isThere 34 rfl) rfl (wc_getI (pc := 61) (dAt dtX8_isThere 35 rfl) flX8_44_8 rfl o119 (wc_isub (pc := 64) (dAt dtX8_isThere 36 rfl) o122 (wc_callV (k := 43) (y' := tJ13_charAt) (av := [vI ((x2 + x115) - (hI h116 r0 5))]) (st := []) (pc := 65) (dAt dtX8_isThere 37 rfl) lkX8_81 moJ13_charAt q940 q941 (by decide) o123 rfl rfl (Nat.le_of_ble_eq_true rfl) (wJ13_charAt hg hm) (kr_I (fun x125 h124 hm => ?_)) (kx_I rfl))))))))
        obtain ⟨o126, o127, o128, o129, hm⟩ := hm
        refine wc_aload_n (pc := 68) (dAt dtX8_isThere 38 rfl) rfl (wc_getR (pc := 69) (dAt dtX8_isThere 39 rfl) flX8_3_8 rfl o126 (wc_vr o127.symm (wc_getKR hg (pc := 72) (dAt dtX8_isThere 40 rfl) flX8_32_1 rfl ka50 kf50_15 (wc_iload (pc := 75) (dAt dtX8_isThere 41 rfl) rfl (wc_baldK hg (pc := 77) (dAt dtX8_isThere 42 rfl) kr65 o128 o129 (wc_icmp_eq (pc := 78) (tgt := 83) (dAt dtX8_isThere 43 rfl) (by decide) (fun c130 => ?_) (fun c130 => ?_)))))))
        · replace hm := ite_f (fun z => z c130) hm
          obtain ⟨o131, hm⟩ := hm
          obtain ⟨i132, ei132⟩ : ∃ i132 : Int, i132 = (x115 + 1) := ⟨_, rfl⟩
          replace hm := hm i132 ei132
          exact wc_iinc (v := i132) (pc := 83) (dAt dtX8_isThere 46 rfl) rfl ei132 (ei132 ▸ o131) (by decide) (wc_L (L' := [some (vR r0), some (vR r1), some (vI x2), none, some (vI i132)]) rfl (wc_goto (pc := 86) (tgt := 46) (dAt dtX8_isThere 47 rfl) (by decide) (ih118 _ _ hm)))
        · replace hm := ite_t c130 hm
          exact wc_iconst (pc := 81) (dAt dtX8_isThere 44 rfl) ⟨by decide, by decide⟩ (wc_iret (pc := 82) (dAt dtX8_isThere 45 rfl) rfl (nar_bool (Or.inl rfl)) hm)
    · replace hm := ite_t c112 hm
      exact wc_iconst (pc := 38) (dAt dtX8_isThere 21 rfl) ⟨by decide, by decide⟩ (wc_iret (pc := 39) (dAt dtX8_isThere 22 rfl) rfl (nar_bool (Or.inl rfl)) hm)
  have k134 : ¬ (¬ ((hI h r0 4) ≠ 1) ∧ (¬ ((vJ13_length r1 h) ≤ v104))) → Wc G tX8_isThere (d + 4) h Q 38 [some (vR r0), some (vR r1), some (vI x2), some (vI v104), none] [] h := fun c108 => by
    replace hm := ite_f c108 hm
    exact wc_iconst (pc := 38) (dAt dtX8_isThere 21 rfl) ⟨by decide, by decide⟩ (wc_iret (pc := 39) (dAt dtX8_isThere 22 rfl) rfl (nar_bool (Or.inl rfl)) hm)
  exact wc_icmp_ne (pc := 17) (tgt := 38) (dAt dtX8_isThere 11 rfl) (by decide) (fun c135 => (k134 (fun z => z.1 c135))) (fun c135 => wc_iload_n (pc := 20) (dAt dtX8_isThere 12 rfl) rfl (wc_aload_n (pc := 21) (dAt dtX8_isThere 13 rfl) rfl (wc_callV (k := 43) (y' := tJ13_length) (P := eI (vJ13_length r1 h) h) (pc := 22) (dAt dtX8_isThere 14 rfl) lkX8_78 moJ13_length q862 q863 (by decide) (o107 c135).2 rfl rfl (Nat.le_of_ble_eq_true rfl) (wJ13_length hg (o107 c135).1 ⟨rfl, rfl⟩) (ep_I (wc_icmp_ge (pc := 25) (tgt := 38) (dAt dtX8_isThere 15 rfl) (by decide) (fun c136 => (k134 (fun z => (fun z => z c136) z.2))) (fun c136 => (k133 ⟨c135, c136⟩)))) ex_I)))
def tX8_among : Mt := (⟨"FlyingDoctors$Reader", "among", "(Ljava/lang/String;)I"⟩, prog_16_method_8_code, 4, (Option.some Jvm.ClassFile.FieldType.int), [])
def DX8_among : List (Nat × Instr × Nat) := [(0, .iconst 0, 1), (1, .istore_n 2, 1), (2, .iconst 1, 1), (3, .istore_n 3, 1), (4, .iload_n 3, 1), (5, .aload_n 1, 1), (6, .invokevirtual 78, 3), (9, .if_icmp .ge 30, 3), (12, .aload_n 0, 1), (13, .aload_n 1, 1), (14, .iload_n 3, 1), (15, .invokevirtual 85, 3), (18, .ifCond .eq 5, 3), (21, .iload_n 2, 1), (22, .ireturn, 1), (23, .iinc 2 1, 3), (26, .aload_n 1, 1), (27, .bipush 32, 2), (29, .iload_n 3, 1), (30, .invokevirtual 89, 3), (33, .iconst 1, 1), (34, .iadd, 1), (35, .istore_n 3, 1), (36, .goto (-32), 3), (39, .iconst (-1), 1), (40, .ireturn, 1)]
theorem dtX8_among : chkD (mB tX8_among) DX8_among = true := by decide +kernel
theorem moX8_among : MethOk tX8_among 1 := ⟨Or.inl ⟨rfl, q999⟩, by decide +kernel, ⟨by decide, by decide⟩, by decide +kernel⟩
def mX8_among (r0 : Nat) (r1 : Nat) (h : Hp) (Q : Rs → Hp → Prop) : Prop := wh3 (fun (C104 : Int → Int → Hp → Prop) (x101 : Int) (x102 : Int) (h103 : Hp) => oJ13_length r1 h103 ∧ ob h103 r1 43 ∧ if ¬ ((vJ13_length r1 h103) ≤ x102) then ob h103 r0 8 ∧ mX8_isThere r0 r1 x102 h103 (kI Q (fun x111 h110 => if ¬ (x111 = 0) then Q (rV (vI x101)) h110 else nm (x101 + 1) ∧ ∀ i114 : Int, i114 = (x101 + 1) → ob h110 r1 43 ∧ mJ13_indexOf_2 r1 32 x102 h110 (kI Q (fun x117 h116 => nm (x117 + 1) ∧ ∀ v119 : Int, v119 = (x117 + 1) → C104 i114 v119 h116)))) else Q (rV (vI (-1))) h103) 0 1 h
theorem wX8_among {G : Gx} (hg : gF G = true) {d : Nat} {r0 : Nat} {r1 : Nat} {h : Hp} {Q : Rs → Hp → Prop} (hm : mX8_among r0 r1 h Q) : Ct G tX8_among (d + 5) [vR r0, vR r1] h Q := by
  refine ct_enter (L0 := [some (vR r0), some (vR r1), none, none]) rfl rfl ?_
  unfold mX8_among at hm
  refine wc_iconst (pc := 0) (dAt dtX8_among 0 rfl) ⟨by decide, by decide⟩ (wc_istore_n (pc := 1) (dAt dtX8_among 1 rfl) (by decide) (wc_L (L' := [some (vR r0), some (vR r1), some (vI 0), none]) rfl (wc_iconst (pc := 2) (dAt dtX8_among 2 rfl) ⟨by decide, by decide⟩ (wc_istore_n (pc := 3) (dAt dtX8_among 3 rfl) (by decide) (wc_L (L' := [some (vR r0), some (vR r1), some (vI 0), some (vI 1)]) rfl (?_))))))
  refine wh3_ind (P := fun (x101 : Int) (x102 : Int) (h103 : Hp) => Wc G tX8_among (d + 5) h Q 4 [some (vR r0), some (vR r1), some (vI x101), some (vI x102)] [] h103) (fun C104 ih105 x101 x102 h103 hm => ?_) hm
  obtain ⟨o106, o107, hm⟩ := hm
  refine wc_iload_n (pc := 4) (dAt dtX8_among 4 rfl) rfl (wc_aload_n (pc := 5) (dAt dtX8_among 5 rfl) rfl (wc_callV (k := 43) (y' := tJ13_length) (P := eI (vJ13_length r1 h103) h103) (pc := 6) (dAt dtX8_among 6 rfl) lkX8_78 moJ13_length q862 q863 (by decide) o107 rfl rfl (Nat.le_of_ble_eq_true rfl) (wJ13_length hg o106 ⟨rfl, rfl⟩) (ep_I (wc_icmp_ge (pc := 9) (tgt := 39) (dAt dtX8_among 7 rfl) (by decide) (fun c108 => ?_) (fun c108 => ?_))) ex_I))
  · replace hm := ite_f (fun z => z c108) hm
    exact wc_iconst (pc := 39) (dAt dtX8_among 24 rfl) ⟨by decide, by decide⟩ (wc_iret (pc := 40) (dAt dtX8_among 25 rfl) rfl (nar_int _) hm)
  · replace hm := ite_t c108 hm
    obtain ⟨o109, hm⟩ := hm
    refine wc_aload_n (pc := 12) (dAt dtX8_among 8 rfl) rfl (wc_aload_n (pc := 13) (dAt dtX8_among 9 rfl) rfl (wc_iload_n (pc := 14) (dAt dtX8_among 10 rfl) rfl (wc_callV (k := 8) (y' := tX8_isThere) (av := [vR r1, vI x102]) (st := []) (pc := 15) (dAt dtX8_among 11 rfl) lkX8_85 moX8_isThere q1002 qs16 (by decide) o109 rfl rfl (Nat.le_of_ble_eq_true rfl) (wX8_isThere hg hm) (kr_I (fun x111 h110 hm => ?_)) (kx_I rfl))))
    refine wc_if_eq (pc := 18) (tgt := 23) (dAt dtX8_among 12 rfl) (by decide) (fun c112 => ?_) (fun c112 => ?_)
    · replace hm := ite_f (fun z => z c112) hm
      obtain ⟨o113, hm⟩ := hm
      obtain ⟨i114, ei114⟩ : ∃ i114 : Int, i114 = (x101 + 1) := ⟨_, rfl⟩
      replace hm := hm i114 ei114
      obtain ⟨o115, hm⟩ := hm
      refine wc_iinc (v := i114) (pc := 23) (dAt dtX8_among 15 rfl) rfl ei114 (ei114 ▸ o113) (by decide) (wc_L (L' := [some (vR r0), some (vR r1), some (vI i114), some (vI x102)]) rfl (wc_aload_n (pc := 26) (dAt dtX8_among 16 rfl) rfl (wc_bipush (pc := 27) (dAt dtX8_among 17 rfl) ⟨by decide, by decide, by decide⟩ (wc_iload_n (pc := 29) (dAt dtX8_among 18 rfl) rfl (wc_callV (k := 43) (y' := tJ13_indexOf_2) (av := [vI 32, vI x102]) (st := []) (pc := 30) (dAt dtX8_among 19 rfl) lkX8_89 moJ13_indexOf_2 q852 q853 (by decide) o115 rfl rfl (Nat.le_of_ble_eq_true rfl) (wJ13_indexOf_2 hg hm) (kr_I (fun x117 h116 hm => ?_)) (kx_I rfl))))))
      obtain ⟨o118, hm⟩ := hm
      obtain ⟨v119, ev119⟩ : ∃ v119 : Int, v119 = (x117 + 1) := ⟨_, rfl⟩
      replace hm := hm v119 ev119
      exact wc_iconst (pc := 33) (dAt dtX8_among 20 rfl) ⟨by decide, by decide⟩ (wc_iadd (pc := 34) (dAt dtX8_among 21 rfl) o118 (wc_vi ev119 (wc_istore_n (pc := 35) (dAt dtX8_among 22 rfl) (by decide) (wc_L (L' := [some (vR r0), some (vR r1), some (vI i114), some (vI v119)]) rfl (wc_goto (pc := 36) (tgt := 4) (dAt dtX8_among 23 rfl) (by decide) (ih105 _ _ _ hm))))))
    · replace hm := ite_t c112 hm
      exact wc_iload_n (pc := 21) (dAt dtX8_among 13 rfl) rfl (wc_iret (pc := 22) (dAt dtX8_among 14 rfl) rfl (nar_int _) hm)
def tJ17_init : Mt := (⟨"java/lang/AbstractStringBuilder", "<init>", "(I)V"⟩, prog_26_method_2_code, 2, (Option.none : Option Jvm.ClassFile.FieldType), [])
def DJ17_init : List (Nat × Instr × Nat) := [(0, .aload_n 0, 1), (1, .invokespecial 3, 3), (4, .getstatic 18, 3), (7, .ifCond .eq 18, 3), (10, .aload_n 0, 1), (11, .iload_n 1, 1), (12, .newarray .byte, 2), (14, .putfield 15, 3), (17, .aload_n 0, 1), (18, .iconst 0, 1), (19, .putfield 22, 3), (22, .goto 16, 3), (25, .aload_n 0, 1), (26, .iload_n 1, 1), (27, .invokestatic 26, 3), (30, .putfield 15, 3), (33, .aload_n 0, 1), (34, .iconst 1, 1), (35, .putfield 22, 3), (38, .return_, 1)]
theorem dtJ17_init : chkD (mB tJ17_init) DJ17_init = true := by decide +kernel
theorem moJ17_init : MethOk tJ17_init 1 := ⟨Or.inl ⟨rfl, q1018⟩, by decide +kernel, ⟨by decide, by decide⟩, by decide +kernel⟩
def mJ17_init (r0 : Nat) (x1 : Int) (h : Hp) (Q : Rs → Hp → Prop) : Prop := 50 ≤ r0 ∧ 0 ≤ x1 ∧ x1 ≤ 30000 ∧ hn h + 1 ≤ 878547 ∧ hq h + (Int.toNat x1) ≤ 6460613 ∧ ∀ r108 : Nat, r108 = hn h → ∀ h109 : Hp, h109 = nw h 71 (Int.toNat x1) (Int.toNat x1) → ob h109 r0 48 ∧ ∀ h111 : Hp, h111 = sR h109 r0 0 r108 → okI .byte 0 ∧ ∀ h113 : Hp, h113 = sI h111 r0 1 0 → Q rN h113
theorem wJ17_init {G : Gx} (hg : gF G = true) {d : Nat} {r0 : Nat} {x1 : Int} {h : Hp} {Q : Rs → Hp → Prop} (hm : mJ17_init r0 x1 h Q) : Ct G tJ17_init (d + 1) [vR r0, vI x1] h Q := by
  refine ct_enter (L0 := [some (vR r0), some (vI x1)]) rfl rfl ?_
  unfold mJ17_init at hm
  obtain ⟨o101, o103, o104, o105, o106, hm⟩ := hm
  obtain ⟨r108, er108⟩ : ∃ r108 : Nat, r108 = hn h := ⟨_, rfl⟩
  replace hm := hm r108 er108
  obtain ⟨h109, eh109⟩ : ∃ h109 : Hp, h109 = nw h 71 (Int.toNat x1) (Int.toNat x1) := ⟨_, rfl⟩
  replace hm := hm h109 eh109
  obtain ⟨o110, hm⟩ := hm
  obtain ⟨h111, eh111⟩ : ∃ h111 : Hp, h111 = sR h109 r0 0 r108 := ⟨_, rfl⟩
  replace hm := hm h111 eh111
  obtain ⟨o112, hm⟩ := hm
  obtain ⟨h113, eh113⟩ : ∃ h113 : Hp, h113 = sI h111 r0 1 0 := ⟨_, rfl⟩
  replace hm := hm h113 eh113
  exact wc_aload_n (pc := 0) (dAt dtJ17_init 0 rfl) rfl (wc_obj (pc := 1) (dAt dtJ17_init 1 rfl) q1019 q180 q181 o101 (Nat.le_of_ble_eq_true rfl) (wc_getsI (v := 1) (pc := 4) (dAt dtJ17_init 2 rfl) q1020 (by decide +kernel) ⟨by decide, by decide⟩ (wc_if_eq (pc := 7) (tgt := 25) (dAt dtJ17_init 3 rfl) (by decide) (fun c102 => absurd c102 (by decide)) (fun c102 =>  (wc_aload_n (pc := 10) (dAt dtJ17_init 4 rfl) rfl (wc_iload_n (pc := 11) (dAt dtJ17_init 5 rfl) rfl (wc_k0 fun n107 => (wc_newarr (t := 71) (pc := 12) (dAt dtJ17_init 6 rfl) rfl ⟨by decide, by decide⟩ q242 o103 o104 o105 o106 (wc_hp eh109 (wc_vr er108 (wc_putR (pc := 14) (dAt dtJ17_init 7 rfl) flJ17_15_48 (Or.inl rfl) rfl o110 o101 (fun _ => ⟨by decide, by decide, by decide⟩) (wc_hp eh111 (wc_aload_n (pc := 17) (dAt dtJ17_init 8 rfl) rfl (wc_iconst (pc := 18) (dAt dtJ17_init 9 rfl) ⟨by decide, by decide⟩ (wc_putI (pc := 19) (dAt dtJ17_init 10 rfl) flJ17_22_48 (Or.inl rfl) rfl (ob_sR eh111 o110) o101 o112 (wc_hp eh113 (wc_goto (pc := 22) (tgt := 38) (dAt dtJ17_init 11 rfl) (by decide) (wc_vret (pc := 38) (dAt dtJ17_init 19 rfl) rfl hm))))))))))))))))))
def tJ18_init : Mt := (⟨"java/lang/StringBuilder", "<init>", "()V"⟩, prog_41_method_1_code, 1, (Option.none : Option Jvm.ClassFile.FieldType), [])
def DJ18_init : List (Nat × Instr × Nat) := [(0, .aload_n 0, 1), (1, .bipush 16, 2), (3, .invokespecial 1, 3), (6, .return_, 1)]
theorem dtJ18_init : chkD (mB tJ18_init) DJ18_init = true := by decide +kernel
theorem moJ18_init : MethOk tJ18_init 0 := ⟨Or.inl ⟨rfl, q1015⟩, by decide +kernel, ⟨by decide, by decide⟩, by decide +kernel⟩
def mJ18_init (r0 : Nat) (h : Hp) (Q : Rs → Hp → Prop) : Prop := 50 ≤ r0 ∧ mJ17_init r0 16 h (kN Q (fun h102 => Q rN h102))
theorem wJ18_init {G : Gx} (hg : gF G = true) {d : Nat} {r0 : Nat} {h : Hp} {Q : Rs → Hp → Prop} (hm : mJ18_init r0 h Q) : Ct G tJ18_init (d + 2) [vR r0] h Q := by
  refine ct_enter (L0 := [some (vR r0)]) rfl rfl ?_
  unfold mJ18_init at hm
  obtain ⟨o101, hm⟩ := hm
  refine wc_aload_n (pc := 0) (dAt dtJ18_init 0 rfl) rfl (wc_bipush (pc := 1) (dAt dtJ18_init 1 rfl) ⟨by decide, by decide, by decide⟩ (wc_callI (y' := tJ17_init) (av := [vI 16]) (st := []) (pc := 3) (dAt dtJ18_init 2 rfl) lkJ18_1 moJ17_init q1017 rfl q1018 o101 rfl rfl (Nat.le_of_ble_eq_true rfl) (wJ17_init hg hm) (kr_N (fun h102 hm => ?_)) (kx_N rfl)))
  exact wc_vret (pc := 6) (dAt dtJ18_init 3 rfl) rfl hm
def tJ17_newCapacity : Mt := (⟨"java/lang/AbstractStringBuilder", "newCapacity", "(I)I"⟩, prog_26_method_10_code, 6, (Option.some Jvm.ClassFile.FieldType.int), [])
def DJ17_newCapacity : List (Nat × Instr × Nat) := [(0, .aload_n 0, 1), (1, .getfield 15, 3), (4, .arraylength, 1), (5, .istore_n 2, 1), (6, .iload_n 1, 1), (7, .aload_n 0, 1), (8, .getfield 22, 3), (11, .ishl, 1), (12, .istore_n 3, 1), (13, .iload_n 3, 1), (14, .iload_n 2, 1), (15, .isub, 1), (16, .istore 4, 2), (18, .iload_n 2, 1), (19, .iload 4, 2), (21, .iload_n 2, 1), (22, .iconst 2, 1), (23, .aload_n 0, 1), (24, .getfield 22, 3), (27, .ishl, 1), (28, .iadd, 1), (29, .invokestatic 114, 3), (32, .istore 5, 2), (34, .iload 5, 2), (36, .ldc 39, 2), (38, .if_icmp .ne 13, 3), (41, .new 120, 3), (44, .dup, 1), (45, .ldc 122, 2), (47, .invokespecial 124, 3), (50, .athrow, 1), (51, .iload 5, 2), (53, .aload_n 0, 1), (54, .getfield 22, 3), (57, .ishr, 1), (58, .ireturn, 1)]
theorem dtJ17_newCapacity : chkD (mB tJ17_newCapacity) DJ17_newCapacity = true := by decide +kernel
theorem moJ17_newCapacity : MethOk tJ17_newCapacity 1 := ⟨Or.inl ⟨rfl, q1055⟩, by decide +kernel, ⟨by decide, by decide⟩, by decide +kernel⟩
def vJ17_newCapacity (r0 : Nat) (x1 : Int) (h : Hp) : Int := (ishr (vJ3_newLength (hN h (hR h r0 0) : Int) ((ishl x1 (hI h r0 1)) - (hN h (hR h r0 0) : Int)) ((hN h (hR h r0 0) : Int) + (ishl 2 (hI h r0 1))) h) (hI h r0 1))
def oJ17_newCapacity (r0 : Nat) (x1 : Int) (h : Hp) : Prop := ob h r0 48 ∧ ob h (hR h r0 0) 71 ∧ nm (hN h (hR h r0 0) : Int) ∧ nm ((ishl x1 (hI h r0 1)) - (hN h (hR h r0 0) : Int)) ∧ nm ((hN h (hR h r0 0) : Int) + (ishl 2 (hI h r0 1))) ∧ oJ3_newLength (hN h (hR h r0 0) : Int) ((ishl x1 (hI h r0 1)) - (hN h (hR h r0 0) : Int)) ((hN h (hR h r0 0) : Int) + (ishl 2 (hI h r0 1))) h ∧ (vJ3_newLength (hN h (hR h r0 0) : Int) ((ishl x1 (hI h r0 1)) - (hN h (hR h r0 0) : Int)) ((hN h (hR h r0 0) : Int) + (ishl 2 (hI h r0 1))) h) ≠ 2147483647
theorem wJ17_newCapacity {G : Gx} (hg : gF G = true) {d : Nat} {r0 : Nat} {x1 : Int} {h : Hp} {Q : Rs → Hp → Prop} (hm : oJ17_newCapacity r0 x1 h) (hq : Q (rV (vI (vJ17_newCapacity r0 x1 h))) h) : Ct G tJ17_newCapacity (d + 2) [vR r0, vI x1] h Q := by
  refine ct_enter (L0 := [some (vR r0), some (vI x1), none, none, none, none]) rfl rfl ?_
  obtain ⟨o101, o102, o103, o104, o105, o106, o107⟩ := hm
  have z : Q (rV (vI (ishr (vJ3_newLength (hN h (hR h r0 0) : Int) ((ishl x1 (hI h r0 1)) - (hN h (hR h r0 0) : Int)) ((hN h (hR h r0 0) : Int) + (ishl 2 (hI h r0 1))) h) (hI h r0 1)))) h := by
    rw [show (vJ17_newCapacity r0 x1 h) = (ishr (vJ3_newLength (hN h (hR h r0 0) : Int) ((ishl x1 (hI h r0 1)) - (hN h (hR h r0 0) : Int)) ((hN h (hR h r0 0) : Int) + (ishl 2 (hI h r0 1))) h) (hI h r0 1)) from rfl] at hq
    exact hq
  exact wc_aload_n (pc := 0) (dAt dtJ17_newCapacity 0 rfl) rfl (wc_getR (pc := 1) (dAt dtJ17_newCapacity 1 rfl) flJ17_15_48 rfl o101 (wc_alen (pc := 4) (dAt dtJ17_newCapacity 2 rfl) ⟨by decide, by decide⟩ o102 o103 (wc_istore_n (pc := 5) (dAt dtJ17_newCapacity 3 rfl) (by decide) (wc_L (L' := [some (vR r0), some (vI x1), some (vI (hN h (hR h r0 0) : Int)), none, none, none]) rfl (wc_iload_n (pc := 6) (dAt dtJ17_newCapacity 4 rfl) rfl (wc_aload_n (pc := 7) (dAt dtJ17_newCapacity 5 rfl) rfl (wc_getI (pc := 8) (dAt dtJ17_newCapacity 6 rfl) flJ17_22_48 rfl o101 (wc_ishl (pc := 11) (dAt dtJ17_newCapacity 7 rfl) (wc_istore_n (pc := 12) (dAt dtJ17_newCapacity 8 rfl) (by decide) (wc_L (L' := [some (vR r0), some (vI x1), some (vI (hN h (hR h r0 0) : Int)), some (vI (ishl x1 (hI h r0 1))), none, none]) rfl (wc_iload_n (pc := 13) (dAt dtJ17_newCapacity 9 rfl) rfl (wc_iload_n (pc := 14) (dAt dtJ17_newCapacity 10 rfl) rfl (wc_isub (pc := 15) (dAt dtJ17_newCapacity 11 rfl) o104 (wc_istore (pc := 16) (dAt dtJ17_newCapacity 12 rfl) (by decide) (wc_L (L' := [some (vR r0), some (vI x1), some (vI (hN h (hR h r0 0) : Int)), some (vI (ishl x1 (hI h r0 1))), some (vI ((ishl x1 (hI h r0 1)) - (hN h (hR h r0 0) : Int))), none]) rfl (wc_iload_n (pc := 18) (dAt dtJ17_newCapacity 13 rfl) rfl (wc_iload (pc := 19) (dAt dtJ17_newCapacity 14 rfl) rfl (wc_iload_n (pc := 21) (dAt dtJ17_newCapacity 15 rfl) rfl (wc_iconst (pc := 22) (dAt dtJ17_newCapacity 16 rfl) ⟨by decide, by decide⟩ (wc_aload_n (pc := 23) (dAt dtJ17_newCapacity 17 rfl) rfl (wc_getI (pc := 24) (dAt dtJ17_newCapacity 18 rfl) flJ17_22_48 rfl o101 (wc_ishl (pc := 27) (dAt dtJ17_newCapacity 19 rfl) (wc_iadd (pc := 28) (dAt dtJ17_newCapacity 20 rfl) o105 (wc_callS (y' := tJ3_newLength) (P := eI (vJ3_newLength (hN h (hR h r0 0) : Int) ((ishl x1 (hI h r0 1)) - (hN h (hR h r0 0) : Int)) ((hN h (hR h r0 0) : Int) + (ishl 2 (hI h r0 1))) h) h) (pc := 29) (dAt dtJ17_newCapacity 21 rfl) lkJ17_114 moJ3_newLength q443 q136 rfl rfl (Nat.le_of_ble_eq_true rfl) (wJ3_newLength hg o106 ⟨rfl, rfl⟩) (ep_I (wc_istore (pc := 32) (dAt dtJ17_newCapacity 22 rfl) (by decide) (wc_L (L' := [some (vR r0), some (vI x1), some (vI (hN h (hR h r0 0) : Int)), some (vI (ishl x1 (hI h r0 1))), some (vI ((ishl x1 (hI h r0 1)) - (hN h (hR h r0 0) : Int))), some (vI (vJ3_newLength (hN h (hR h r0 0) : Int) ((ishl x1 (hI h r0 1)) - (hN h (hR h r0 0) : Int)) ((hN h (hR h r0 0) : Int) + (ishl 2 (hI h r0 1))) h))]) rfl (wc_iload (pc := 34) (dAt dtJ17_newCapacity 23 rfl) rfl (wc_ldc (n := 2147483647) (pc := 36) (dAt dtJ17_newCapacity 24 rfl) q1057 (by decide) ⟨by decide, by decide⟩ (wc_icmp_ne (pc := 38) (tgt := 51) (dAt dtJ17_newCapacity 25 rfl) (by decide) (fun c108 =>  (wc_iload (pc := 51) (dAt dtJ17_newCapacity 31 rfl) rfl (wc_aload_n (pc := 53) (dAt dtJ17_newCapacity 32 rfl) rfl (wc_getI (pc := 54) (dAt dtJ17_newCapacity 33 rfl) flJ17_22_48 rfl o101 (wc_ishr (pc := 57) (dAt dtJ17_newCapacity 34 rfl) (wc_iret (pc := 58) (dAt dtJ17_newCapacity 35 rfl) rfl (nar_int _) z)))))) (fun c108 => absurd o107 c108))))))) ex_I))))))))))))))))))))))))
def tJ5_copyOf_3 : Mt := (⟨"java/util/Arrays", "copyOf", "([BI)[B"⟩, prog_51_method_121_code, 3, (Option.some (Jvm.ClassFile.FieldType.array Jvm.ClassFile.FieldType.byte)), [])
def DJ5_copyOf_3 : List (Nat × Instr × Nat) := [(0, .iload_n 1, 1), (1, .aload_n 0, 1), (2, .arraylength, 1), (3, .if_icmp .ne 11, 3), (6, .aload_n 0, 1), (7, .invokevirtual 310, 3), (10, .checkcast 311, 3), (13, .areturn, 1), (14, .iload_n 1, 1), (15, .newarray .byte, 2), (17, .astore_n 2, 1), (18, .aload_n 0, 1), (19, .iconst 0, 1), (20, .aload_n 2, 1), (21, .iconst 0, 1), (22, .aload_n 0, 1), (23, .arraylength, 1), (24, .iload_n 1, 1), (25, .invokestatic 304, 3), (28, .invokestatic 150, 3), (31, .aload_n 2, 1), (32, .areturn, 1)]
theorem dtJ5_copyOf_3 : chkD (mB tJ5_copyOf_3) DJ5_copyOf_3 = true := by decide +kernel
theorem moJ5_copyOf_3 : MethOk tJ5_copyOf_3 2 := ⟨Or.inl ⟨rfl, q1060⟩, by decide +kernel, ⟨by decide, by decide⟩, by decide +kernel⟩
def mJ5_copyOf_3 (r0 : Nat) (x1 : Int) (h : Hp) (Q : Rs → Hp → Prop) : Prop := ob h r0 71 ∧ nm (hN h r0 : Int) ∧ x1 ≠ (hN h r0 : Int) ∧ 0 ≤ x1 ∧ x1 ≤ 30000 ∧ hn h + 1 ≤ 878547 ∧ hq h + (Int.toNat x1) ≤ 6460613 ∧ ∀ r110 : Nat, r110 = hn h → ∀ h111 : Hp, h111 = nw h 71 (Int.toNat x1) (Int.toNat x1) → nm (hN h111 r0 : Int) ∧ 0 ≤ (vJ4_min (hN h111 r0 : Int) x1 h111) ∧ (0 : Int) + (vJ4_min (hN h111 r0 : Int) x1 h111) ≤ hN h111 r0 ∧ (0 : Int) + (vJ4_min (hN h111 r0 : Int) x1 h111) ≤ hN h111 r110 ∧ (∀ i : Nat, i < (Int.toNat (vJ4_min (hN h111 r0 : Int) x1 h111)) → okI .byte (hI h111 r0 (0 + i))) ∧ ∀ h118 : Hp, h118 = cpI h111 r110 0 r0 0 (Int.toNat (vJ4_min (hN h111 r0 : Int) x1 h111)) → Q (rV (vR r110)) h118
theorem wJ5_copyOf_3 {G : Gx} (hg : gF G = true) {d : Nat} {r0 : Nat} {x1 : Int} {h : Hp} {Q : Rs → Hp → Prop} (hm : mJ5_copyOf_3 r0 x1 h Q) : Ct G tJ5_copyOf_3 (d + 1) [vR r0, vI x1] h Q := by
  refine ct_enter (L0 := [some (vR r0), some (vI x1), none]) rfl rfl ?_
  unfold mJ5_copyOf_3 at hm
  obtain ⟨o101, o102, o103, o105, o106, o107, o108, hm⟩ := hm
  obtain ⟨r110, er110⟩ : ∃ r110 : Nat, r110 = hn h := ⟨_, rfl⟩
  replace hm := hm r110 er110
  obtain ⟨h111, eh111⟩ : ∃ h111 : Hp, h111 = nw h 71 (Int.toNat x1) (Int.toNat x1) := ⟨_, rfl⟩
  replace hm := hm h111 eh111
  obtain ⟨o112, o113, o114, o115, o117, hm⟩ := hm
  obtain ⟨h118, eh118⟩ : ∃ h118 : Hp, h118 = cpI h111 r110 0 r0 0 (Int.toNat (vJ4_min (hN h111 r0 : Int) x1 h111)) := ⟨_, rfl⟩
  replace hm := hm h118 eh118
  exact wc_iload_n (pc := 0) (dAt dtJ5_copyOf_3 0 rfl) rfl (wc_aload_n (pc := 1) (dAt dtJ5_copyOf_3 1 rfl) rfl (wc_alen (pc := 2) (dAt dtJ5_copyOf_3 2 rfl) ⟨by decide, by decide⟩ o101 o102 (wc_icmp_ne (pc := 3) (tgt := 14) (dAt dtJ5_copyOf_3 3 rfl) (by decide) (fun c104 =>  (wc_iload_n (pc := 14) (dAt dtJ5_copyOf_3 8 rfl) rfl (wc_k0 fun n109 => (wc_newarr (t := 71) (pc := 15) (dAt dtJ5_copyOf_3 9 rfl) rfl ⟨by decide, by decide⟩ q242 o105 o106 o107 o108 (wc_hp eh111 (wc_vr er110 (wc_astore_n (pc := 17) (dAt dtJ5_copyOf_3 10 rfl) (by decide) (wc_L (L' := [some (vR r0), some (vI x1), some (vR r110)]) rfl (wc_aload_n (pc := 18) (dAt dtJ5_copyOf_3 11 rfl) rfl (wc_iconst (pc := 19) (dAt dtJ5_copyOf_3 12 rfl) ⟨by decide, by decide⟩ (wc_aload_n (pc := 20) (dAt dtJ5_copyOf_3 13 rfl) rfl (wc_iconst (pc := 21) (dAt dtJ5_copyOf_3 14 rfl) ⟨by decide, by decide⟩ (wc_aload_n (pc := 22) (dAt dtJ5_copyOf_3 15 rfl) rfl (wc_alen (pc := 23) (dAt dtJ5_copyOf_3 16 rfl) ⟨by decide, by decide⟩ (ob_nw eh111 o101) o112 (wc_iload_n (pc := 24) (dAt dtJ5_copyOf_3 17 rfl) rfl (wc_callS (y' := tJ4_min) (P := eI (vJ4_min (hN h111 r0 : Int) x1 h111) h111) (pc := 25) (dAt dtJ5_copyOf_3 18 rfl) lkJ5_304 moJ4_min q494 q137 rfl rfl (Nat.le_of_ble_eq_true rfl) (wJ4_min hg ⟨rfl, rfl⟩) (ep_I (wc_copyI (t := 71) (pc := 28) (dAt dtJ5_copyOf_3 19 rfl) q496 q498 q497 q139 (by decide) (ob_nw eh111 o101) (ob_at er110 eh111 n109) (k0_at er110 n109) (by decide) (by decide) o113 o114 o115 (Nat.le_of_ble_eq_true rfl) o117 (wc_hp eh118 (wc_aload_n (pc := 31) (dAt dtJ5_copyOf_3 20 rfl) rfl (wc_aret (pc := 32) (dAt dtJ5_copyOf_3 21 rfl) rfl (Or.inr ⟨_, rfl⟩) hm))))) ex_I)))))))))))))))) (fun c104 => absurd o103 c104))))
def tJ17_ensureCapacityInternal : Mt := (⟨"java/lang/AbstractStringBuilder", "ensureCapacityInternal", "(I)V"⟩, prog_26_method_9_code, 3, (Option.none : Option Jvm.ClassFile.FieldType), [])
def DJ17_ensureCapacityInternal : List (Nat × Instr × Nat) := [(0, .aload_n 0, 1), (1, .getfield 15, 3), (4, .arraylength, 1), (5, .aload_n 0, 1), (6, .getfield 22, 3), (9, .ishr, 1), (10, .istore_n 2, 1), (11, .iload_n 1, 1), (12, .iload_n 2, 1), (13, .isub, 1), (14, .ifCond .le 24, 3), (17, .aload_n 0, 1), (18, .aload_n 0, 1), (19, .getfield 15, 3), (22, .aload_n 0, 1), (23, .iload_n 1, 1), (24, .invokevirtual 104, 3), (27, .aload_n 0, 1), (28, .getfield 22, 3), (31, .ishl, 1), (32, .invokestatic 108, 3), (35, .putfield 15, 3), (38, .return_, 1)]
theorem dtJ17_ensureCapacityInternal : chkD (mB tJ17_ensureCapacityInternal) DJ17_ensureCapacityInternal = true := by decide +kernel
theorem moJ17_ensureCapacityInternal : MethOk tJ17_ensureCapacityInternal 1 := ⟨Or.inl ⟨rfl, q1051⟩, by decide +kernel, ⟨by decide, by decide⟩, by decide +kernel⟩
def mJ17_ensureCapacityInternal (r0 : Nat) (x1 : Int) (h : Hp) (Q : Rs → Hp → Prop) : Prop := ob h r0 48 ∧ ob h (hR h r0 0) 71 ∧ nm (hN h (hR h r0 0) : Int) ∧ ∀ v104 : Int, v104 = (ishr (hN h (hR h r0 0) : Int) (hI h r0 1)) → nm (x1 - v104) ∧ if ¬ ((x1 - v104) ≤ 0) then oJ17_newCapacity r0 x1 h ∧ mJ5_copyOf_3 (hR h r0 0) (ishl (vJ17_newCapacity r0 x1 h) (hI h r0 1)) h (kR Q (fun r109 h108 => ob h108 r0 48 ∧ ∀ h112 : Hp, h112 = sR h108 r0 0 r109 → Q rN h112)) else Q rN h
theorem wJ17_ensureCapacityInternal {G : Gx} (hg : gF G = true) {d : Nat} {r0 : Nat} {x1 : Int} {h : Hp} {Q : Rs → Hp → Prop} (hm : mJ17_ensureCapacityInternal r0 x1 h Q) : Ct G tJ17_ensureCapacityInternal (d + 3) [vR r0, vI x1] h Q := by
  refine ct_enter (L0 := [some (vR r0), some (vI x1), none]) rfl rfl ?_
  unfold mJ17_ensureCapacityInternal at hm
  obtain ⟨o101, o102, o103, hm⟩ := hm
  obtain ⟨v104, ev104⟩ : ∃ v104 : Int, v104 = (ishr (hN h (hR h r0 0) : Int) (hI h r0 1)) := ⟨_, rfl⟩
  replace hm := hm v104 ev104
  obtain ⟨o105, hm⟩ := hm
  refine wc_aload_n (pc := 0) (dAt dtJ17_ensureCapacityInternal 0 rfl) rfl (wc_getR (pc := 1) (dAt dtJ17_ensureCapacityInternal 1 rfl) flJ17_15_48 rfl o101 (wc_alen (pc := 4) (dAt dtJ17_ensureCapacityInternal 2 rfl) ⟨by decide, by decide⟩ o102 o103 (wc_aload_n (pc := 5) (dAt dtJ17_ensureCapacityInternal 3 rfl) rfl (wc_getI (pc := 6) (dAt dtJ17_ensureCapacityInternal 4 rfl) flJ17_22_48 rfl o101 (wc_ishr (pc := 9) (dAt dtJ17_ensureCapacityInternal 5 rfl) (wc_vi ev104 (wc_istore_n (pc := 10) (dAt dtJ17_ensureCapacityInternal 6 rfl) (by decide) (wc_L (L' := [some (vR r0), some (vI x1), some (vI v104)]) rfl (wc_iload_n (pc := 11) (dAt dtJ17_ensureCapacityInternal 7 rfl) rfl (wc_iload_n (pc := 12) (dAt dtJ17_ensureCapacityInternal 8 rfl) rfl (wc_isub (pc := 13) (dAt dtJ17_ensureCapacityInternal 9 rfl) o105 (wc_if_le (pc := 14) (tgt := 38) (dAt dtJ17_ensureCapacityInternal 10 rfl) (by decide) (fun c106 => ?_) (fun c106 => ?_)))))))))))))
  · replace hm := ite_f (fun z => z c106) hm
    exact wc_vret (pc := 38) (dAt dtJ17_ensureCapacityInternal 22 rfl) rfl hm
  · replace hm := ite_t c106 hm
    obtain ⟨o107, hm⟩ := hm
    refine wc_aload_n (pc := 17) (dAt dtJ17_ensureCapacityInternal 11 rfl) rfl (wc_aload_n (pc := 18) (dAt dtJ17_ensureCapacityInternal 12 rfl) rfl (wc_getR (pc := 19) (dAt dtJ17_ensureCapacityInternal 13 rfl) flJ17_15_48 rfl o101 (wc_aload_n (pc := 22) (dAt dtJ17_ensureCapacityInternal 14 rfl) rfl (wc_iload_n (pc := 23) (dAt dtJ17_ensureCapacityInternal 15 rfl) rfl (wc_callP (k := 48) (y' := tJ17_newCapacity) (P := eI (vJ17_newCapacity r0 x1 h) h) (pc := 24) (dAt dtJ17_ensureCapacityInternal 16 rfl) q1052 q2938 q1053 moJ17_newCapacity q1054 (by decide) o101 rfl rfl (Nat.le_of_ble_eq_true rfl) (wJ17_newCapacity hg o107 ⟨rfl, rfl⟩) (ep_I (wc_aload_n (pc := 27) (dAt dtJ17_ensureCapacityInternal 17 rfl) rfl (wc_getI (pc := 28) (dAt dtJ17_ensureCapacityInternal 18 rfl) flJ17_22_48 rfl o101 (wc_ishl (pc := 31) (dAt dtJ17_ensureCapacityInternal 19 rfl) (wc_callS (y' := tJ5_copyOf_3) (av := [vR (hR h r0 0), vI (ishl (vJ17_newCapacity r0 x1 h) (hI h r0 1))]) (st := [vR r0]) (pc := 32) (dAt dtJ17_ensureCapacityInternal 20 rfl) lkJ17_108 moJ5_copyOf_3 q1059 q138 rfl rfl (Nat.le_of_ble_eq_true rfl) (wJ5_copyOf_3 hg hm) (kr_R (fun r109 h108 hm => ?_)) (kx_R rfl)))))) ex_I)))))
    obtain ⟨o110, hm⟩ := hm
    obtain ⟨h112, eh112⟩ : ∃ h112 : Hp, h112 = sR h108 r0 0 r109 := ⟨_, rfl⟩
    replace hm := hm h112 eh112
    exact wc_newer o110 (by decide) fun n111 => (wc_putR (pc := 35) (dAt dtJ17_ensureCapacityInternal 21 rfl) flJ17_15_48 (Or.inl rfl) rfl o110 n111 (fun _ => ⟨by decide, by decide, by decide⟩) (wc_hp eh112 (wc_vret (pc := 38) (dAt dtJ17_ensureCapacityInternal 22 rfl) rfl hm)))
def tJ17_isLatin1 : Mt := (⟨"java/lang/AbstractStringBuilder", "isLatin1", "()Z"⟩, prog_26_method_68_code, 1, (Option.some Jvm.ClassFile.FieldType.boolean), [])
def DJ17_isLatin1 : List (Nat × Instr × Nat) := [(0, .getstatic 18, 3), (3, .ifCond .eq 14, 3), (6, .aload_n 0, 1), (7, .getfield 22, 3), (10, .ifCond .ne 7, 3), (13, .iconst 1, 1), (14, .goto 4, 3), (17, .iconst 0, 1), (18, .ireturn, 1)]
theorem dtJ17_isLatin1 : chkD (mB tJ17_isLatin1) DJ17_isLatin1 = true := by decide +kernel
theorem moJ17_isLatin1 : MethOk tJ17_isLatin1 0 := ⟨Or.inl ⟨rfl, q1072⟩, by decide +kernel, ⟨by decide, by decide⟩, by decide +kernel⟩
def vJ17_isLatin1 (r0 : Nat) (h : Hp) : Int := (b2i (¬ ((hI h r0 1) ≠ 0)))
def oJ17_isLatin1 (r0 : Nat) (h : Hp) : Prop := ob h r0 48
theorem wJ17_isLatin1 {G : Gx} (hg : gF G = true) {d : Nat} {r0 : Nat} {h : Hp} {Q : Rs → Hp → Prop} (hm : oJ17_isLatin1 r0 h) (hq : Q (rV (vI (vJ17_isLatin1 r0 h))) h) : Ct G tJ17_isLatin1 (d + 0) [vR r0] h Q := by
  refine ct_enter (L0 := [some (vR r0)]) rfl rfl ?_
  have o102 := hm
  have k103 : (¬ ((hI h r0 1) ≠ 0)) → Wc G tJ17_isLatin1 (d + 0) h Q 13 [some (vR r0)] [] h := fun c105 => by
    have z : Q (rV (vI 1)) h := by
      rw [show (vJ17_isLatin1 r0 h) = 1 from (b2i_t c105)] at hq
      exact hq
    exact wc_iconst (pc := 13) (dAt dtJ17_isLatin1 5 rfl) ⟨by decide, by decide⟩ (wc_goto (pc := 14) (tgt := 18) (dAt dtJ17_isLatin1 6 rfl) (by decide) (wc_iret (pc := 18) (dAt dtJ17_isLatin1 8 rfl) rfl (nar_bool (Or.inr rfl)) z))
  have k104 : ¬ (¬ ((hI h r0 1) ≠ 0)) → Wc G tJ17_isLatin1 (d + 0) h Q 17 [some (vR r0)] [] h := fun c105 => by
    have z : Q (rV (vI 0)) h := by
      rw [show (vJ17_isLatin1 r0 h) = 0 from (b2i_f c105)] at hq
      exact hq
    exact wc_iconst (pc := 17) (dAt dtJ17_isLatin1 7 rfl) ⟨by decide, by decide⟩ (wc_iret (pc := 18) (dAt dtJ17_isLatin1 8 rfl) rfl (nar_bool (Or.inl rfl)) z)
  exact wc_getsI (v := 1) (pc := 0) (dAt dtJ17_isLatin1 0 rfl) q1020 (by decide +kernel) ⟨by decide, by decide⟩ (wc_if_eq (pc := 3) (tgt := 17) (dAt dtJ17_isLatin1 1 rfl) (by decide) (fun c101 => absurd c101 (by decide)) (fun c101 =>  (wc_aload_n (pc := 6) (dAt dtJ17_isLatin1 2 rfl) rfl (wc_getI (pc := 7) (dAt dtJ17_isLatin1 3 rfl) flJ17_22_48 rfl o102 (wc_if_ne (pc := 10) (tgt := 17) (dAt dtJ17_isLatin1 4 rfl) (by decide) (fun c106 => (k104 (fun z => z c106))) (fun c106 => (k103 c106)))))))
theorem bJ17_isLatin1 (r0 : Nat) (h : Hp) : (vJ17_isLatin1 r0 h) = 0 ∨ (vJ17_isLatin1 r0 h) = 1 := (bool_b2i _)
def tJ14_canEncode_2 : Mt := (⟨"java/lang/StringLatin1", "canEncode", "(C)Z"⟩, prog_42_method_3_code, 1, (Option.some Jvm.ClassFile.FieldType.boolean), [])
def DJ14_canEncode_2 : List (Nat × Instr × Nat) := [(0, .iload_n 0, 1), (1, .sipush 255, 3), (4, .if_icmp .gt 7, 3), (7, .iconst 1, 1), (8, .goto 4, 3), (11, .iconst 0, 1), (12, .ireturn, 1)]
theorem dtJ14_canEncode_2 : chkD (mB tJ14_canEncode_2) DJ14_canEncode_2 = true := by decide +kernel
theorem moJ14_canEncode_2 : MethOk tJ14_canEncode_2 1 := ⟨Or.inl ⟨rfl, q1075⟩, by decide +kernel, ⟨by decide, by decide⟩, by decide +kernel⟩
def vJ14_canEncode_2 (x0 : Int) (h : Hp) : Int := (b2i (¬ (255 < x0)))
theorem wJ14_canEncode_2 {G : Gx} (hg : gF G = true) {d : Nat} {x0 : Int} {h : Hp} {Q : Rs → Hp → Prop} (hq : Q (rV (vI (vJ14_canEncode_2 x0 h))) h) : Ct G tJ14_canEncode_2 (d + 0) [vI x0] h Q := by
  refine ct_enter (L0 := [some (vI x0)]) rfl rfl ?_
  have k101 : (¬ (255 < x0)) → Wc G tJ14_canEncode_2 (d + 0) h Q 7 [some (vI x0)] [] h := fun c103 => by
    have z : Q (rV (vI 1)) h := by
      rw [show (vJ14_canEncode_2 x0 h) = 1 from (b2i_t c103)] at hq
      exact hq
    exact wc_iconst (pc := 7) (dAt dtJ14_canEncode_2 3 rfl) ⟨by decide, by decide⟩ (wc_goto (pc := 8) (tgt := 12) (dAt dtJ14_canEncode_2 4 rfl) (by decide) (wc_iret (pc := 12) (dAt dtJ14_canEncode_2 6 rfl) rfl (nar_bool (Or.inr rfl)) z))
  have k102 : ¬ (¬ (255 < x0)) → Wc G tJ14_canEncode_2 (d + 0) h Q 11 [some (vI x0)] [] h := fun c103 => by
    have z : Q (rV (vI 0)) h := by
      rw [show (vJ14_canEncode_2 x0 h) = 0 from (b2i_f c103)] at hq
      exact hq
    exact wc_iconst (pc := 11) (dAt dtJ14_canEncode_2 5 rfl) ⟨by decide, by decide⟩ (wc_iret (pc := 12) (dAt dtJ14_canEncode_2 6 rfl) rfl (nar_bool (Or.inl rfl)) z)
  exact wc_iload_n (pc := 0) (dAt dtJ14_canEncode_2 0 rfl) rfl (wc_sipush (pc := 1) (dAt dtJ14_canEncode_2 1 rfl) ⟨by decide, by decide, by decide⟩ (wc_icmp_gt (pc := 4) (tgt := 11) (dAt dtJ14_canEncode_2 2 rfl) (by decide) (fun c104 => (k102 (fun z => z c104))) (fun c104 => (k101 c104))))
theorem bJ14_canEncode_2 (x0 : Int) (h : Hp) : (vJ14_canEncode_2 x0 h) = 0 ∨ (vJ14_canEncode_2 x0 h) = 1 := (bool_b2i _)
