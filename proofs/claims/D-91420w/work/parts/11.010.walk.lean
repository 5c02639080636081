set_option maxRecDepth 100000
set_option maxHeartbeats 1000000
/-! what methods do, and their walks, by program -/
def tX8_ofWord : Mt := (⟨"FlyingDoctors$Reader", "ofWord", "()LFlyingDoctors$Ex;"⟩, prog_16_method_17_code, 4, (Option.some (Jvm.ClassFile.FieldType.object "FlyingDoctors$Ex")), [])
def DX8_ofWord : List (Nat × Instr × Nat) := [(0, .aload_n 0, 1), (1, .ldc 156, 2), (3, .invokevirtual 158, 3), (6, .istore_n 1, 1), (7, .iload_n 1, 1), (8, .iconst (-1), 1), (9, .if_icmp .eq 12, 3), (12, .new 161, 3), (15, .dup, 1), (16, .iload_n 1, 1), (17, .invokespecial 163, 3), (20, .areturn, 1), (21, .aload_n 0, 1), (22, .ldc 164, 2), (24, .invokevirtual 158, 3), (27, .istore_n 2, 1), (28, .iload_n 2, 1), (29, .iconst (-1), 1), (30, .if_icmp .eq 12, 3), (33, .new 166, 3), (36, .dup, 1), (37, .iload_n 2, 1), (38, .invokespecial 168, 3), (41, .areturn, 1), (42, .aload_n 0, 1), (43, .invokevirtual 169, 3), (46, .istore_n 3, 1), (47, .iload_n 3, 1), (48, .iconst (-1), 1), (49, .if_icmp .ne 12, 3), (52, .new 102, 3), (55, .dup, 1), (56, .iconst 3, 1), (57, .invokespecial 104, 3), (60, .athrow, 1), (61, .new 172, 3), (64, .dup, 1), (65, .iload_n 3, 1), (66, .invokespecial 174, 3), (69, .areturn, 1)]
theorem dtX8_ofWord : chkD (mB tX8_ofWord) DX8_ofWord = true := by decide +kernel
theorem moX8_ofWord : MethOk tX8_ofWord 0 := ⟨Or.inl ⟨rfl, q1345⟩, by decide +kernel, ⟨by decide, by decide⟩, by decide +kernel⟩
def mX8_ofWord (r0 : Nat) (h : Hp) (Q : Rs → Hp → Prop) : Prop := ob h r0 8 ∧ mX8_among r0 19 h (kI Q (fun x103 h102 => if ¬ (x103 = (-1)) then hn h102 + 1 ≤ 878547 ∧ hq h102 + 1 ≤ 6460613 ∧ ∀ r108 : Nat, r108 = hn h102 → ∀ h109 : Hp, h109 = nw h102 13 0 1 → mX13_init r108 x103 h109 (kN Q (fun h110 => Q (rV (vR r108)) h110)) else ob h102 r0 8 ∧ mX8_among r0 18 h102 (kI Q (fun x113 h112 => if ¬ (x113 = (-1)) then hn h112 + 1 ≤ 878547 ∧ hq h112 + 1 ≤ 6460613 ∧ ∀ r118 : Nat, r118 = hn h112 → ∀ h119 : Hp, h119 = nw h112 14 0 1 → mX14_init r118 x113 h119 (kN Q (fun h120 => Q (rV (vR r118)) h120)) else ob h112 r0 8 ∧ mX8_wordNow r0 h112 (kI Q (fun x123 h122 => if ¬ (x123 ≠ (-1)) then hn h122 + 1 ≤ 878547 ∧ hq h122 + 7 ≤ 6460613 ∧ ∀ r128 : Nat, r128 = hn h122 → ∀ h129 : Hp, h129 = nw h122 9 0 7 → mX9_init r128 3 h129 (kN Q (fun h130 => ob h130 r128 9 ∧ Q (rX r128) h130)) else hn h122 + 1 ≤ 878547 ∧ hq h122 + 1 ≤ 6460613 ∧ ∀ r135 : Nat, r135 = hn h122 → ∀ h136 : Hp, h136 = nw h122 15 0 1 → mX15_init r135 x123 h136 (kN Q (fun h137 => Q (rV (vR r135)) h137))))))))
theorem wX8_ofWord {G : Gx} (hg : gF G = true) {d : Nat} {r0 : Nat} {h : Hp} {Q : Rs → Hp → Prop} (hm : mX8_ofWord r0 h Q) : Ct G tX8_ofWord (d + 6) [vR r0] h Q := by
  refine ct_enter (L0 := [some (vR r0), none, none, none]) rfl rfl ?_
  unfold mX8_ofWord at hm
  obtain ⟨o101, hm⟩ := hm
  refine wc_aload_n (pc := 0) (dAt dtX8_ofWord 0 rfl) rfl (wc_ldcS (a := 19) (tx := " wet strip needs lamps night miles fuel flown waits left ") (pc := 1) (dAt dtX8_ofWord 1 rfl) (by decide +kernel) (by decide) (wc_callV (k := 8) (y' := tX8_among) (av := [vR 19]) (st := []) (pc := 3) (dAt dtX8_ofWord 2 rfl) lkX8_158 moX8_among q998 qs15 (by decide) o101 rfl rfl (Nat.le_of_ble_eq_true rfl) (wX8_among hg hm) (kr_I (fun x103 h102 hm => ?_)) (kx_I rfl)))
  refine wc_istore_n (pc := 6) (dAt dtX8_ofWord 3 rfl) (by decide) (wc_L (L' := [some (vR r0), some (vI x103), none, none]) rfl (wc_iload_n (pc := 7) (dAt dtX8_ofWord 4 rfl) rfl (wc_iconst (pc := 8) (dAt dtX8_ofWord 5 rfl) ⟨by decide, by decide⟩ (wc_icmp_eq (pc := 9) (tgt := 21) (dAt dtX8_ofWord 6 rfl) (by decide) (fun c104 => ?_) (fun c104 => ?_)))))
  · replace hm := ite_f (fun z => z c104) hm
    obtain ⟨o111, hm⟩ := hm
    refine wc_aload_n (pc := 21) (dAt dtX8_ofWord 12 rfl) rfl (wc_ldcS (a := 18) (tx := " rest duty reserve ground fetch ") (pc := 22) (dAt dtX8_ofWord 13 rfl) (by decide +kernel) (by decide) (wc_callV (k := 8) (y' := tX8_among) (av := [vR 18]) (st := []) (pc := 24) (dAt dtX8_ofWord 14 rfl) lkX8_158 moX8_among q998 qs15 (by decide) o111 rfl rfl (Nat.le_of_ble_eq_true rfl) (wX8_among hg hm) (kr_I (fun x113 h112 hm => ?_)) (kx_I rfl)))
    refine wc_istore_n (pc := 27) (dAt dtX8_ofWord 15 rfl) (by decide) (wc_L (L' := [some (vR r0), some (vI x103), some (vI x113), none]) rfl (wc_iload_n (pc := 28) (dAt dtX8_ofWord 16 rfl) rfl (wc_iconst (pc := 29) (dAt dtX8_ofWord 17 rfl) ⟨by decide, by decide⟩ (wc_icmp_eq (pc := 30) (tgt := 42) (dAt dtX8_ofWord 18 rfl) (by decide) (fun c114 => ?_) (fun c114 => ?_)))))
    · replace hm := ite_f (fun z => z c114) hm
      obtain ⟨o121, hm⟩ := hm
      refine wc_aload_n (pc := 42) (dAt dtX8_ofWord 24 rfl) rfl (wc_callV (k := 8) (y' := tX8_wordNow) (av := []) (st := []) (pc := 43) (dAt dtX8_ofWord 25 rfl) lkX8_169 moX8_wordNow q1368 qs29 (by decide) o121 rfl rfl (Nat.le_of_ble_eq_true rfl) (wX8_wordNow hg hm) (kr_I (fun x123 h122 hm => ?_)) (kx_I rfl))
      refine wc_istore_n (pc := 46) (dAt dtX8_ofWord 26 rfl) (by decide) (wc_L (L' := [some (vR r0), some (vI x103), some (vI x113), some (vI x123)]) rfl (wc_iload_n (pc := 47) (dAt dtX8_ofWord 27 rfl) rfl (wc_iconst (pc := 48) (dAt dtX8_ofWord 28 rfl) ⟨by decide, by decide⟩ (wc_icmp_ne (pc := 49) (tgt := 61) (dAt dtX8_ofWord 29 rfl) (by decide) (fun c124 => ?_) (fun c124 => ?_)))))
      · replace hm := ite_f (fun z => z c124) hm
        obtain ⟨o132, o133, hm⟩ := hm
        obtain ⟨r135, er135⟩ : ∃ r135 : Nat, r135 = hn h122 := ⟨_, rfl⟩
        replace hm := hm r135 er135
        obtain ⟨h136, eh136⟩ : ∃ h136 : Hp, h136 = nw h122 15 0 1 := ⟨_, rfl⟩
        replace hm := hm h136 eh136
        refine wc_k0 fun n134 => (wc_new (k := 15) (pc := 61) (dAt dtX8_ofWord 35 rfl) q1384 q1385 q164 (by decide) o132 o133 (wc_hp eh136 (wc_vr er135 (wc_dup (pc := 64) (dAt dtX8_ofWord 36 rfl) rfl (wc_iload_n (pc := 65) (dAt dtX8_ofWord 37 rfl) rfl (wc_callI (y' := tX15_init) (av := [vI x123]) (st := [vR r135]) (pc := 66) (dAt dtX8_ofWord 38 rfl) lkX8_174 moX15_init q1387 rfl q1388 (k0_at er135 n134) rfl rfl (Nat.le_of_ble_eq_true rfl) (wX15_init hg hm) (kr_N (fun h137 hm => ?_)) (kx_N rfl)))))))
        exact wc_aret (pc := 69) (dAt dtX8_ofWord 39 rfl) rfl (Or.inl ⟨_, rfl⟩) hm
      · replace hm := ite_t c124 hm
        obtain ⟨o125, o126, hm⟩ := hm
        obtain ⟨r128, er128⟩ : ∃ r128 : Nat, r128 = hn h122 := ⟨_, rfl⟩
        replace hm := hm r128 er128
        obtain ⟨h129, eh129⟩ : ∃ h129 : Hp, h129 = nw h122 9 0 7 := ⟨_, rfl⟩
        replace hm := hm h129 eh129
        refine wc_k0 fun n127 => (wc_new (k := 9) (pc := 52) (dAt dtX8_ofWord 30 rfl) q965 q966 q154 (by decide) o125 o126 (wc_hp eh129 (wc_vr er128 (wc_dup (pc := 55) (dAt dtX8_ofWord 31 rfl) rfl (wc_iconst (pc := 56) (dAt dtX8_ofWord 32 rfl) ⟨by decide, by decide⟩ (wc_callI (y' := tX9_init) (av := [vI 3]) (st := [vR r128]) (pc := 57) (dAt dtX8_ofWord 33 rfl) lkX8_104 moX9_init q975 rfl q976 (k0_at er128 n127) rfl rfl (Nat.le_of_ble_eq_true rfl) (wX9_init hg hm) (kr_N (fun h130 hm => ?_)) (kx_N rfl)))))))
        obtain ⟨o131, hm⟩ := hm
        exact wc_athrow (pc := 60) (dAt dtX8_ofWord 34 rfl) (by decide) o131 rfl hm
    · replace hm := ite_t c114 hm
      obtain ⟨o115, o116, hm⟩ := hm
      obtain ⟨r118, er118⟩ : ∃ r118 : Nat, r118 = hn h112 := ⟨_, rfl⟩
      replace hm := hm r118 er118
      obtain ⟨h119, eh119⟩ : ∃ h119 : Hp, h119 = nw h112 14 0 1 := ⟨_, rfl⟩
      replace hm := hm h119 eh119
      refine wc_k0 fun n117 => (wc_new (k := 14) (pc := 33) (dAt dtX8_ofWord 19 rfl) q1356 q1357 q163 (by decide) o115 o116 (wc_hp eh119 (wc_vr er118 (wc_dup (pc := 36) (dAt dtX8_ofWord 20 rfl) rfl (wc_iload_n (pc := 37) (dAt dtX8_ofWord 21 rfl) rfl (wc_callI (y' := tX14_init) (av := [vI x113]) (st := [vR r118]) (pc := 38) (dAt dtX8_ofWord 22 rfl) lkX8_168 moX14_init q1359 rfl q1360 (k0_at er118 n117) rfl rfl (Nat.le_of_ble_eq_true rfl) (wX14_init hg hm) (kr_N (fun h120 hm => ?_)) (kx_N rfl)))))))
      exact wc_aret (pc := 41) (dAt dtX8_ofWord 23 rfl) rfl (Or.inl ⟨_, rfl⟩) hm
  · replace hm := ite_t c104 hm
    obtain ⟨o105, o106, hm⟩ := hm
    obtain ⟨r108, er108⟩ : ∃ r108 : Nat, r108 = hn h102 := ⟨_, rfl⟩
    replace hm := hm r108 er108
    obtain ⟨h109, eh109⟩ : ∃ h109 : Hp, h109 = nw h102 13 0 1 := ⟨_, rfl⟩
    replace hm := hm h109 eh109
    refine wc_k0 fun n107 => (wc_new (k := 13) (pc := 12) (dAt dtX8_ofWord 7 rfl) q1346 q1347 q162 (by decide) o105 o106 (wc_hp eh109 (wc_vr er108 (wc_dup (pc := 15) (dAt dtX8_ofWord 8 rfl) rfl (wc_iload_n (pc := 16) (dAt dtX8_ofWord 9 rfl) rfl (wc_callI (y' := tX13_init) (av := [vI x103]) (st := [vR r108]) (pc := 17) (dAt dtX8_ofWord 10 rfl) lkX8_163 moX13_init q1349 rfl q1350 (k0_at er108 n107) rfl rfl (Nat.le_of_ble_eq_true rfl) (wX13_init hg hm) (kr_N (fun h110 hm => ?_)) (kx_N rfl)))))))
    exact wc_aret (pc := 20) (dAt dtX8_ofWord 11 rfl) rfl (Or.inl ⟨_, rfl⟩) hm
def tX8_part : Mt := (⟨"FlyingDoctors$Reader", "part", "(I)LFlyingDoctors$Ex;"⟩, prog_16_method_16_code, 3, (Option.some (Jvm.ClassFile.FieldType.object "FlyingDoctors$Ex")), [])
def DX8_part : List (Nat × Instr × Nat) := [(0, .aload_n 0, 1), (1, .getfield 47, 3), (4, .iconst 2, 1), (5, .if_icmp .ne 15, 3), (8, .new 140, 3), (11, .dup, 1), (12, .aload_n 0, 1), (13, .invokevirtual 142, 3), (16, .invokespecial 144, 3), (19, .areturn, 1), (20, .aload_n 0, 1), (21, .getfield 47, 3), (24, .iconst 1, 1), (25, .if_icmp .ne 14, 3), (28, .aload_n 0, 1), (29, .invokevirtual 145, 3), (32, .astore_n 2, 1), (33, .aload_n 0, 1), (34, .invokevirtual 115, 3), (37, .aload_n 2, 1), (38, .areturn, 1), (39, .aload_n 0, 1), (40, .aload_n 0, 1), (41, .bipush 40, 2), (43, .invokevirtual 107, 3), (46, .invokevirtual 111, 3), (49, .aload_n 0, 1), (50, .invokevirtual 115, 3), (53, .aload_n 0, 1), (54, .iload_n 1, 1), (55, .iconst 1, 1), (56, .iadd, 1), (57, .invokevirtual 149, 3), (60, .astore_n 2, 1), (61, .aload_n 0, 1), (62, .bipush 41, 2), (64, .invokevirtual 153, 3), (67, .aload_n 2, 1), (68, .areturn, 1)]
theorem dtX8_part : chkD (mB tX8_part) DX8_part = true := by decide +kernel
theorem moX8_part : MethOk tX8_part 1 := ⟨Or.inl ⟨rfl, q1324⟩, by decide +kernel, ⟨by decide, by decide⟩, by decide +kernel⟩
def mX8_part (E : Nat → Int → Hp → (Rs → Hp → Prop) → Prop) (r0 : Nat) (x1 : Int) (h : Hp) (Q : Rs → Hp → Prop) : Prop := ob h r0 8 ∧ if ¬ ((hI h r0 4) ≠ 2) then hn h + 1 ≤ 878547 ∧ hq h + 1 ≤ 6460613 ∧ ∀ r106 : Nat, r106 = hn h → ∀ h107 : Hp, h107 = nw h 12 0 1 → mX8_number r0 h107 (kI Q (fun x109 h108 => mX12_init r106 x109 h108 (kN Q (fun h110 => Q (rV (vR r106)) h110)))) else if ¬ ((hI h r0 4) ≠ 1) then mX8_ofWord r0 h (kR Q (fun r113 h112 => ob h112 r0 8 ∧ mX8_next r0 h112 (kN Q (fun h115 => Q (rV (vR r113)) h115)))) else oX8_isSign r0 40 h ∧ mX8_want r0 (vX8_isSign r0 40 h) h (kN Q (fun h117 => ob h117 r0 8 ∧ mX8_next r0 h117 (kN Q (fun h119 => nm (x1 + 1) ∧ ob h119 r0 8 ∧ E r0 (x1 + 1) h119 (kR Q (fun r123 h122 => ob h122 r0 8 ∧ mX8_need r0 41 h122 (kN Q (fun h125 => Q (rV (vR r123)) h125))))))))
theorem wX8_part {G : Gx} (hg : gF G = true) {d : Nat} {E : Nat → Int → Hp → (Rs → Hp → Prop) → Prop} (hE : ∀ (r : Nat) (x : Int) (h : Hp) (P : Rs → Hp → Prop), E r x h P → Ct G tX8_expression d [vR r, vI x] h P) {r0 : Nat} {x1 : Int} {h : Hp} {Q : Rs → Hp → Prop} (hm : mX8_part E r0 x1 h Q) : Ct G tX8_part (d + 7) [vR r0, vI x1] h Q := by
  refine ct_enter (L0 := [some (vR r0), some (vI x1), none]) rfl rfl ?_
  unfold mX8_part at hm
  obtain ⟨o101, hm⟩ := hm
  refine wc_aload_n (pc := 0) (dAt dtX8_part 0 rfl) rfl (wc_getI (pc := 1) (dAt dtX8_part 1 rfl) flX8_47_8 rfl o101 (wc_iconst (pc := 4) (dAt dtX8_part 2 rfl) ⟨by decide, by decide⟩ (wc_icmp_ne (pc := 5) (tgt := 20) (dAt dtX8_part 3 rfl) (by decide) (fun c102 => ?_) (fun c102 => ?_))))
  · replace hm := ite_f (fun z => z c102) hm
    refine wc_aload_n (pc := 20) (dAt dtX8_part 10 rfl) rfl (wc_getI (pc := 21) (dAt dtX8_part 11 rfl) flX8_47_8 rfl o101 (wc_iconst (pc := 24) (dAt dtX8_part 12 rfl) ⟨by decide, by decide⟩ (wc_icmp_ne (pc := 25) (tgt := 39) (dAt dtX8_part 13 rfl) (by decide) (fun c111 => ?_) (fun c111 => ?_))))
    · replace hm := ite_f (fun z => z c111) hm
      obtain ⟨o116, hm⟩ := hm
      refine wc_aload_n (pc := 39) (dAt dtX8_part 21 rfl) rfl (wc_aload_n (pc := 40) (dAt dtX8_part 22 rfl) rfl (wc_bipush (pc := 41) (dAt dtX8_part 23 rfl) ⟨by decide, by decide, by decide⟩ (wc_callV (k := 8) (y' := tX8_isSign) (P := eI (vX8_isSign r0 40 h) h) (pc := 43) (dAt dtX8_part 24 rfl) lkX8_107 moX8_isSign q1292 qs19 (by decide) o101 rfl rfl (Nat.le_of_ble_eq_true rfl) (wX8_isSign hg o116 ⟨rfl, rfl⟩) (ep_I (wc_callV (k := 8) (y' := tX8_want) (av := [vI (vX8_isSign r0 40 h)]) (st := []) (pc := 46) (dAt dtX8_part 25 rfl) lkX8_111 moX8_want q963 qs13 (by decide) o101 rfl rfl (Nat.le_of_ble_eq_true rfl) (wX8_want hg hm) (kr_N (fun h117 hm => ?_)) (kx_N rfl))) ex_I)))
      obtain ⟨o118, hm⟩ := hm
      refine wc_aload_n (pc := 49) (dAt dtX8_part 26 rfl) rfl (wc_callV (k := 8) (y' := tX8_next) (av := []) (st := []) (pc := 50) (dAt dtX8_part 27 rfl) lkX8_115 moX8_next q829 qs7 (by decide) o118 rfl rfl (Nat.le_of_ble_eq_true rfl) (wX8_next hg hm) (kr_N (fun h119 hm => ?_)) (kx_N rfl))
      obtain ⟨o120, o121, hm⟩ := hm
      refine wc_aload_n (pc := 53) (dAt dtX8_part 28 rfl) rfl (wc_iload_n (pc := 54) (dAt dtX8_part 29 rfl) rfl (wc_iconst (pc := 55) (dAt dtX8_part 30 rfl) ⟨by decide, by decide⟩ (wc_iadd (pc := 56) (dAt dtX8_part 31 rfl) o120 (wc_callV (k := 8) (y' := tX8_expression) (av := [vI (x1 + 1)]) (st := []) (pc := 57) (dAt dtX8_part 32 rfl) lkX8_149 moX8_expression q1300 qs21 (by decide) o121 rfl rfl (Nat.le_of_ble_eq_true rfl) ((hE _ _ _ _ hm).deep (by omega)) (kr_R (fun r123 h122 hm => ?_)) (kx_R rfl)))))
      obtain ⟨o124, hm⟩ := hm
      refine wc_astore_n (pc := 60) (dAt dtX8_part 33 rfl) (by decide) (wc_L (L' := [some (vR r0), some (vI x1), some (vR r123)]) rfl (wc_aload_n (pc := 61) (dAt dtX8_part 34 rfl) rfl (wc_bipush (pc := 62) (dAt dtX8_part 35 rfl) ⟨by decide, by decide, by decide⟩ (wc_callV (k := 8) (y' := tX8_need) (av := [vI 41]) (st := []) (pc := 64) (dAt dtX8_part 36 rfl) lkX8_153 moX8_need q1288 qs18 (by decide) o124 rfl rfl (Nat.le_of_ble_eq_true rfl) (wX8_need hg hm) (kr_N (fun h125 hm => ?_)) (kx_N rfl)))))
      exact wc_aload_n (pc := 67) (dAt dtX8_part 37 rfl) rfl (wc_aret (pc := 68) (dAt dtX8_part 38 rfl) rfl (Or.inl ⟨_, rfl⟩) hm)
    · replace hm := ite_t c111 hm
      refine wc_aload_n (pc := 28) (dAt dtX8_part 14 rfl) rfl (wc_callV (k := 8) (y' := tX8_ofWord) (av := []) (st := []) (pc := 29) (dAt dtX8_part 15 rfl) lkX8_145 moX8_ofWord q1344 qs28 (by decide) o101 rfl rfl (Nat.le_of_ble_eq_true rfl) (wX8_ofWord hg hm) (kr_R (fun r113 h112 hm => ?_)) (kx_R rfl))
      obtain ⟨o114, hm⟩ := hm
      refine wc_astore_n (pc := 32) (dAt dtX8_part 16 rfl) (by decide) (wc_L (L' := [some (vR r0), some (vI x1), some (vR r113)]) rfl (wc_aload_n (pc := 33) (dAt dtX8_part 17 rfl) rfl (wc_callV (k := 8) (y' := tX8_next) (av := []) (st := []) (pc := 34) (dAt dtX8_part 18 rfl) lkX8_115 moX8_next q829 qs7 (by decide) o114 rfl rfl (Nat.le_of_ble_eq_true rfl) (wX8_next hg hm) (kr_N (fun h115 hm => ?_)) (kx_N rfl))))
      exact wc_aload_n (pc := 37) (dAt dtX8_part 19 rfl) rfl (wc_aret (pc := 38) (dAt dtX8_part 20 rfl) rfl (Or.inl ⟨_, rfl⟩) hm)
  · replace hm := ite_t c102 hm
    obtain ⟨o103, o104, hm⟩ := hm
    obtain ⟨r106, er106⟩ : ∃ r106 : Nat, r106 = hn h := ⟨_, rfl⟩
    replace hm := hm r106 er106
    obtain ⟨h107, eh107⟩ : ∃ h107 : Hp, h107 = nw h 12 0 1 := ⟨_, rfl⟩
    replace hm := hm h107 eh107
    refine wc_k0 fun n105 => (wc_new (k := 12) (pc := 8) (dAt dtX8_part 4 rfl) q1325 q1326 q161 (by decide) o103 o104 (wc_hp eh107 (wc_vr er106 (wc_dup (pc := 11) (dAt dtX8_part 5 rfl) rfl (wc_aload_n (pc := 12) (dAt dtX8_part 6 rfl) rfl (wc_callV (k := 8) (y' := tX8_number) (av := []) (st := [vR r106, vR r106]) (pc := 13) (dAt dtX8_part 7 rfl) lkX8_142 moX8_number q1329 qs27 (by decide) (ob_nw eh107 o101) rfl rfl (Nat.le_of_ble_eq_true rfl) (wX8_number hg hm) (kr_I (fun x109 h108 hm => ?_)) (kx_I rfl)))))))
    refine wc_callI (y' := tX12_init) (av := [vI x109]) (st := [vR r106]) (pc := 16) (dAt dtX8_part 8 rfl) lkX8_144 moX12_init q1332 rfl q1333 (k0_at er106 n105) rfl rfl (Nat.le_of_ble_eq_true rfl) (wX12_init hg hm) (kr_N (fun h110 hm => ?_)) (kx_N rfl)
    exact wc_aret (pc := 19) (dAt dtX8_part 9 rfl) rfl (Or.inl ⟨_, rfl⟩) hm
def tX11_init : Mt := (⟨"FlyingDoctors$Chain", "<init>", "(LFlyingDoctors$Ex;)V"⟩, prog_4_method_1_code, 2, (Option.none : Option Jvm.ClassFile.FieldType), [])
def DX11_init : List (Nat × Instr × Nat) := [(0, .aload_n 0, 1), (1, .invokespecial 1, 3), (4, .aload_n 0, 1), (5, .new 7, 3), (8, .dup, 1), (9, .invokespecial 9, 3), (12, .putfield 10, 3), (15, .aload_n 0, 1), (16, .new 16, 3), (19, .dup, 1), (20, .invokespecial 18, 3), (23, .putfield 19, 3), (26, .aload_n 0, 1), (27, .getfield 10, 3), (30, .aload_n 1, 1), (31, .invokeinterface 23 2, 5), (36, .pop, 1), (37, .return_, 1)]
theorem dtX11_init : chkD (mB tX11_init) DX11_init = true := by decide +kernel
theorem moX11_init : MethOk tX11_init 1 := ⟨Or.inl ⟨rfl, q1396⟩, by decide +kernel, ⟨by decide, by decide⟩, by decide +kernel⟩
def mX11_init (r0 : Nat) (r1 : Nat) (h : Hp) (Q : Rs → Hp → Prop) : Prop := 50 ≤ r0 ∧ mX10_init r0 h (kN Q (fun h102 => hn h102 + 1 ≤ 878547 ∧ hq h102 + 3 ≤ 6460613 ∧ ∀ r106 : Nat, r106 = hn h102 → ∀ h107 : Hp, h107 = nw h102 32 0 3 → mJ2_init r106 h107 (kN Q (fun h108 => ob h108 r0 11 ∧ ∀ h110 : Hp, h110 = sR h108 r0 0 r106 → hn h110 + 1 ≤ 878547 ∧ hq h110 + 4 ≤ 6460613 ∧ ∀ r114 : Nat, r114 = hn h110 → ∀ h115 : Hp, h115 = nw h110 48 0 4 → mJ18_init r114 h115 (kN Q (fun h116 => ob h116 r0 11 ∧ ∀ h118 : Hp, h118 = sR h116 r0 1 r114 → ob h118 (hR h118 r0 0) 32 ∧ mJ2_add (hR h118 r0 0) r1 h118 (kI Q (fun x121 h120 => Q rN h120))))))))
theorem wX11_init {G : Gx} (hg : gF G = true) {d : Nat} {r0 : Nat} {r1 : Nat} {h : Hp} {Q : Rs → Hp → Prop} (hm : mX11_init r0 r1 h Q) : Ct G tX11_init (d + 7) [vR r0, vR r1] h Q := by
  refine ct_enter (L0 := [some (vR r0), some (vR r1)]) rfl rfl ?_
  unfold mX11_init at hm
  obtain ⟨o101, hm⟩ := hm
  refine wc_aload_n (pc := 0) (dAt dtX11_init 0 rfl) rfl (wc_callI (y' := tX10_init) (av := []) (st := []) (pc := 1) (dAt dtX11_init 1 rfl) lkX11_1 moX10_init q1335 rfl q1336 o101 rfl rfl (Nat.le_of_ble_eq_true rfl) (wX10_init hg hm) (kr_N (fun h102 hm => ?_)) (kx_N rfl))
  obtain ⟨o103, o104, hm⟩ := hm
  obtain ⟨r106, er106⟩ : ∃ r106 : Nat, r106 = hn h102 := ⟨_, rfl⟩
  replace hm := hm r106 er106
  obtain ⟨h107, eh107⟩ : ∃ h107 : Hp, h107 = nw h102 32 0 3 := ⟨_, rfl⟩
  replace hm := hm h107 eh107
  refine wc_aload_n (pc := 4) (dAt dtX11_init 2 rfl) rfl (wc_k0 fun n105 => (wc_new (k := 32) (pc := 5) (dAt dtX11_init 3 rfl) q1398 q185 q131 (by decide) o103 o104 (wc_hp eh107 (wc_vr er106 (wc_dup (pc := 8) (dAt dtX11_init 4 rfl) rfl (wc_callI (y' := tJ2_init) (av := []) (st := [vR r106, vR r0]) (pc := 9) (dAt dtX11_init 5 rfl) lkX11_9 moJ2_init q187 rfl q188 (k0_at er106 n105) rfl rfl (Nat.le_of_ble_eq_true rfl) (wJ2_init hg hm) (kr_N (fun h108 hm => ?_)) (kx_N rfl)))))))
  obtain ⟨o109, hm⟩ := hm
  obtain ⟨h110, eh110⟩ : ∃ h110 : Hp, h110 = sR h108 r0 0 r106 := ⟨_, rfl⟩
  replace hm := hm h110 eh110
  obtain ⟨o111, o112, hm⟩ := hm
  obtain ⟨r114, er114⟩ : ∃ r114 : Nat, r114 = hn h110 := ⟨_, rfl⟩
  replace hm := hm r114 er114
  obtain ⟨h115, eh115⟩ : ∃ h115 : Hp, h115 = nw h110 48 0 4 := ⟨_, rfl⟩
  replace hm := hm h115 eh115
  refine wc_putR (pc := 12) (dAt dtX11_init 6 rfl) flX11_10_11 (Or.inr ⟨rfl, rfl, rfl⟩) rfl o109 o101 (fun _ => ⟨by decide, by decide, by decide⟩) (wc_hp eh110 (wc_aload_n (pc := 15) (dAt dtX11_init 7 rfl) rfl (wc_k0 fun n113 => (wc_new (k := 48) (pc := 16) (dAt dtX11_init 8 rfl) q1400 q1012 q156 (by decide) o111 o112 (wc_hp eh115 (wc_vr er114 (wc_dup (pc := 19) (dAt dtX11_init 9 rfl) rfl (wc_callI (y' := tJ18_init) (av := []) (st := [vR r114, vR r0]) (pc := 20) (dAt dtX11_init 10 rfl) lkX11_18 moJ18_init q1014 rfl q1015 (k0_at er114 n113) rfl rfl (Nat.le_of_ble_eq_true rfl) (wJ18_init hg hm) (kr_N (fun h116 hm => ?_)) (kx_N rfl)))))))))
  obtain ⟨o117, hm⟩ := hm
  obtain ⟨h118, eh118⟩ : ∃ h118 : Hp, h118 = sR h116 r0 1 r114 := ⟨_, rfl⟩
  replace hm := hm h118 eh118
  obtain ⟨o119, hm⟩ := hm
  refine wc_putR (pc := 23) (dAt dtX11_init 11 rfl) flX11_19_11 (Or.inr ⟨rfl, rfl, rfl⟩) rfl o117 o101 (fun _ => ⟨by decide, by decide, by decide⟩) (wc_hp eh118 (wc_aload_n (pc := 26) (dAt dtX11_init 12 rfl) rfl (wc_getR (pc := 27) (dAt dtX11_init 13 rfl) flX11_10_11 rfl (ob_sR eh118 o117) (wc_aload_n (pc := 30) (dAt dtX11_init 14 rfl) rfl (wc_callF (k := 32) (x := ⟨"java/util/List", "add", "(Ljava/lang/Object;)Z"⟩) (y' := tJ2_add) (av := [vR r1]) (st := []) (pc := 31) (dAt dtX11_init 15 rfl) q1403 q424 q423 ⟨by decide, by decide⟩ moJ2_add rfl q427 q428 q426 q367 q425 (by decide) o119 rfl rfl (Nat.le_of_ble_eq_true rfl) (wJ2_add hg hm) (kr_I (fun x121 h120 hm => ?_)) (kx_I rfl))))))
  exact wc_pop (pc := 36) (dAt dtX11_init 16 rfl) rfl (wc_vret (pc := 37) (dAt dtX11_init 17 rfl) rfl hm)
def tX11_add : Mt := (⟨"FlyingDoctors$Chain", "add", "(CLFlyingDoctors$Ex;)V"⟩, prog_4_method_2_code, 3, (Option.none : Option Jvm.ClassFile.FieldType), [])
def DX11_add : List (Nat × Instr × Nat) := [(0, .aload_n 0, 1), (1, .getfield 19, 3), (4, .iload_n 1, 1), (5, .invokevirtual 29, 3), (8, .pop, 1), (9, .aload_n 0, 1), (10, .getfield 10, 3), (13, .aload_n 2, 1), (14, .invokeinterface 23 2, 5), (19, .pop, 1), (20, .return_, 1)]
theorem dtX11_add : chkD (mB tX11_add) DX11_add = true := by decide +kernel
theorem moX11_add : MethOk tX11_add 2 := ⟨Or.inl ⟨rfl, q1414⟩, by decide +kernel, ⟨by decide, by decide⟩, by decide +kernel⟩
def mX11_add (r0 : Nat) (x1 : Int) (r2 : Nat) (h : Hp) (Q : Rs → Hp → Prop) : Prop := ob h r0 11 ∧ ob h (hR h r0 1) 48 ∧ mJ18_append (hR h r0 1) x1 h (kR Q (fun r104 h103 => ob h103 r0 11 ∧ ob h103 (hR h103 r0 0) 32 ∧ mJ2_add (hR h103 r0 0) r2 h103 (kI Q (fun x108 h107 => Q rN h107))))
theorem wX11_add {G : Gx} (hg : gF G = true) {d : Nat} {r0 : Nat} {x1 : Int} {r2 : Nat} {h : Hp} {Q : Rs → Hp → Prop} (hm : mX11_add r0 x1 r2 h Q) : Ct G tX11_add (d + 7) [vR r0, vI x1, vR r2] h Q := by
  refine ct_enter (L0 := [some (vR r0), some (vI x1), some (vR r2)]) rfl rfl ?_
  unfold mX11_add at hm
  obtain ⟨o101, o102, hm⟩ := hm
  refine wc_aload_n (pc := 0) (dAt dtX11_add 0 rfl) rfl (wc_getR (pc := 1) (dAt dtX11_add 1 rfl) flX11_19_11 rfl o101 (wc_iload_n (pc := 4) (dAt dtX11_add 2 rfl) rfl (wc_callV (k := 48) (y' := tJ18_append) (av := [vI x1]) (st := []) (pc := 5) (dAt dtX11_add 3 rfl) lkX11_29 moJ18_append q1042 q1043 (by decide) o102 rfl rfl (Nat.le_of_ble_eq_true rfl) (wJ18_append hg hm) (kr_R (fun r104 h103 hm => ?_)) (kx_R rfl))))
  obtain ⟨o105, o106, hm⟩ := hm
  refine wc_pop (pc := 8) (dAt dtX11_add 4 rfl) rfl (wc_aload_n (pc := 9) (dAt dtX11_add 5 rfl) rfl (wc_getR (pc := 10) (dAt dtX11_add 6 rfl) flX11_10_11 rfl o105 (wc_aload_n (pc := 13) (dAt dtX11_add 7 rfl) rfl (wc_callF (k := 32) (x := ⟨"java/util/List", "add", "(Ljava/lang/Object;)Z"⟩) (y' := tJ2_add) (av := [vR r2]) (st := []) (pc := 14) (dAt dtX11_add 8 rfl) q1403 q424 q423 ⟨by decide, by decide⟩ moJ2_add rfl q427 q428 q426 q367 q425 (by decide) o106 rfl rfl (Nat.le_of_ble_eq_true rfl) (wJ2_add hg hm) (kr_I (fun x108 h107 hm => ?_)) (kx_I rfl)))))
  exact wc_pop (pc := 19) (dAt dtX11_add 9 rfl) rfl (wc_vret (pc := 20) (dAt dtX11_add 10 rfl) rfl hm)
def tX8_product : Mt := (⟨"FlyingDoctors$Reader", "product", "(I)LFlyingDoctors$Ex;"⟩, prog_16_method_18_code, 4, (Option.some (Jvm.ClassFile.FieldType.object "FlyingDoctors$Ex")), [])
def DX8_product : List (Nat × Instr × Nat) := [(0, .new 175, 3), (3, .dup, 1), (4, .aload_n 0, 1), (5, .iload_n 1, 1), (6, .invokevirtual 177, 3), (9, .invokespecial 180, 3), (12, .astore_n 2, 1), (13, .aload_n 0, 1), (14, .bipush 42, 2), (16, .invokevirtual 107, 3), (19, .ifCond .ne 12, 3), (22, .aload_n 0, 1), (23, .bipush 47, 2), (25, .invokevirtual 107, 3), (28, .ifCond .eq 34, 3), (31, .aload_n 0, 1), (32, .getfield 3, 3), (35, .getfield 32, 3), (38, .aload_n 0, 1), (39, .getfield 44, 3), (42, .baload, 1), (43, .i2c, 1), (44, .istore_n 3, 1), (45, .aload_n 0, 1), (46, .invokevirtual 115, 3), (49, .aload_n 2, 1), (50, .iload_n 3, 1), (51, .aload_n 0, 1), (52, .iload_n 1, 1), (53, .invokevirtual 177, 3), (56, .invokevirtual 183, 3), (59, .goto (-46), 3), (62, .aload_n 2, 1), (63, .areturn, 1)]
theorem dtX8_product : chkD (mB tX8_product) DX8_product = true := by decide +kernel
theorem moX8_product : MethOk tX8_product 1 := ⟨Or.inl ⟨rfl, q1320⟩, by decide +kernel, ⟨by decide, by decide⟩, by decide +kernel⟩
def mX8_product (E : Nat → Int → Hp → (Rs → Hp → Prop) → Prop) (r0 : Nat) (x1 : Int) (h : Hp) (Q : Rs → Hp → Prop) : Prop := hn h + 1 ≤ 878547 ∧ hq h + 2 ≤ 6460613 ∧ ∀ r104 : Nat, r104 = hn h → ∀ h105 : Hp, h105 = nw h 11 0 2 → ob h105 r0 8 ∧ mX8_part E r0 x1 h105 (kR Q (fun r108 h107 => mX11_init r104 r108 h107 (kN Q (fun h109 => wh1 (fun (C111 : Hp → Prop) (h110 : Hp) => oX8_isSign r0 42 h110 ∧ ob h110 r0 8 ∧ ((¬ ((vX8_isSign r0 42 h110) ≠ 0) → oX8_isSign r0 47 h110)) ∧ if ((vX8_isSign r0 42 h110) ≠ 0) ∨ (¬ ((vX8_isSign r0 47 h110) = 0)) then hR h110 r0 9 = 50 ∧ 0 ≤ (hI h110 r0 5) ∧ (hI h110 r0 5) < 800 ∧ ∀ v121 : Int, v121 = (i2c (hI h110 65 (Int.toNat (hI h110 r0 5)))) → mX8_next r0 h110 (kN Q (fun h122 => ob h122 r0 8 ∧ mX8_part E r0 x1 h122 (kR Q (fun r125 h124 => ob h124 r104 11 ∧ mX11_add r104 v121 r125 h124 (kN Q (fun h127 => C111 h127)))))) else Q (rV (vR r104)) h110) h109))))
theorem wX8_product {G : Gx} (hg : gF G = true) {d : Nat} {E : Nat → Int → Hp → (Rs → Hp → Prop) → Prop} (hE : ∀ (r : Nat) (x : Int) (h : Hp) (P : Rs → Hp → Prop), E r x h P → Ct G tX8_expression d [vR r, vI x] h P) {r0 : Nat} {x1 : Int} {h : Hp} {Q : Rs → Hp → Prop} (hm : mX8_product E r0 x1 h Q) : Ct G tX8_product (d + 8) [vR r0, vI x1] h Q := by
  refine ct_enter (L0 := [some (vR r0), some (vI x1), none, none]) rfl rfl ?_
  unfold mX8_product at hm
  obtain ⟨o101, o102, hm⟩ := hm
  obtain ⟨r104, er104⟩ : ∃ r104 : Nat, r104 = hn h := ⟨_, rfl⟩
  replace hm := hm r104 er104
  obtain ⟨h105, eh105⟩ : ∃ h105 : Hp, h105 = nw h 11 0 2 := ⟨_, rfl⟩
  replace hm := hm h105 eh105
  obtain ⟨o106, hm⟩ := hm
  refine wc_k0 fun n103 => (wc_new (k := 11) (pc := 0) (dAt dtX8_product 0 rfl) q1302 q1303 q160 (by decide) o101 o102 (wc_hp eh105 (wc_vr er104 (wc_dup (pc := 3) (dAt dtX8_product 1 rfl) rfl (wc_aload_n (pc := 4) (dAt dtX8_product 2 rfl) rfl (wc_iload_n (pc := 5) (dAt dtX8_product 3 rfl) rfl (wc_callV (k := 8) (y' := tX8_part) (av := [vI x1]) (st := [vR r104, vR r104]) (pc := 6) (dAt dtX8_product 4 rfl) lkX8_177 moX8_part q1323 qs26 (by decide) o106 rfl rfl (Nat.le_of_ble_eq_true rfl) (wX8_part hg (d := d + 0) (fun r x h P z => (hE r x h P z).deep (by omega)) hm) (kr_R (fun r108 h107 hm => ?_)) (kx_R rfl))))))))
  refine wc_callI (y' := tX11_init) (av := [vR r108]) (st := [vR r104]) (pc := 9) (dAt dtX8_product 5 rfl) lkX8_180 moX11_init q1395 rfl q1396 (k0_at er104 n103) rfl rfl (Nat.le_of_ble_eq_true rfl) (wX11_init hg hm) (kr_N (fun h109 hm => ?_)) (kx_N rfl)
  refine wc_astore_n (pc := 12) (dAt dtX8_product 6 rfl) (by decide) (wc_L (L' := [some (vR r0), some (vI x1), some (vR r104), none]) rfl (?_))
  refine wh1_ind (P := fun (h110 : Hp) => Wc G tX8_product (d + 8) h Q 13 [some (vR r0), some (vI x1), some (vR r104), none] [] h110) (fun C111 ih112 h110 hm => ?_) hm
  obtain ⟨o113, o114, o116, hm⟩ := hm
  refine wc_aload_n (pc := 13) (dAt dtX8_product 7 rfl) rfl (wc_bipush (pc := 14) (dAt dtX8_product 8 rfl) ⟨by decide, by decide, by decide⟩ (wc_callV (k := 8) (y' := tX8_isSign) (P := eI (vX8_isSign r0 42 h110) h110) (pc := 16) (dAt dtX8_product 9 rfl) lkX8_107 moX8_isSign q1292 qs19 (by decide) o114 rfl rfl (Nat.le_of_ble_eq_true rfl) (wX8_isSign hg o113 ⟨rfl, rfl⟩) (ep_I (?_)) ex_I))
  have k128 : (((vX8_isSign r0 42 h110) ≠ 0) ∨ (¬ ((vX8_isSign r0 47 h110) = 0))) → Wc G tX8_product (d + 8) h Q 31 [some (vR r0), some (vI x1), some (vR r104), none] [] h110 := fun c117 => by
    replace hm := ite_t c117 hm
    obtain ⟨o118, o119, o120, hm⟩ := hm
    obtain ⟨v121, ev121⟩ : ∃ v121 : Int, v121 = (i2c (hI h110 65 (Int.toNat (hI h110 r0 5)))) := ⟨_, rfl⟩
    replace hm := hm v121 ev121
    refine wc_aload_n (pc := 31) (dAt dtX8_product 15 rfl) rfl (wc_getR (pc := 32) (dAt dtX8_product 16 rfl) flX8_3_8 rfl o114 (wc_vr o118.symm (wc_getKR hg (pc := 35) (dAt dtX8_product 17 rfl) flX8_32_1 rfl ka50 kf50_15 (wc_aload_n (pc := 38) (dAt dtX8_product 18 rfl) rfl (wc_getI (pc := 39) (dAt dtX8_product 19 rfl) flX8_44_8 rfl o114 (wc_baldK hg (pc := 42) (dAt dtX8_product 20 rfl) kr65 o119 o120 (wc_i2c (pc := 43) (dAt dtX8_product 21 rfl) (wc_vi ev121 (wc_istore_n (pc := 44) (dAt dtX8_product 22 rfl) (by decide) (wc_L (L' := [some (vR r0), some (vI x1), some (vR r104), some (vI v121)]) rfl (wc_aload_n (pc := 45) (dAt dtX8_product 23 rfl) rfl (wc_callV (k := 8) (y' := tX8_next) (av := []) (st := []) (pc := 46) (dAt dtX8_product 24 rfl) lkX8_115 moX8_next q829 qs7 (by decide) o114 rfl rfl (Nat.le_of_ble_eq_true rfl) (wX8_next hg hm) (kr_N (fun h122 hm => ?_)) (kx_N rfl)))))))))))))
    obtain ⟨o123, hm⟩ := hm
    refine wc_aload_n (pc := 49) (dAt dtX8_product 25 rfl) rfl (wc_iload_n (pc := 50) (dAt dtX8_product 26 rfl) rfl (wc_aload_n (pc := 51) (dAt dtX8_product 27 rfl) rfl (wc_iload_n (pc := 52) (dAt dtX8_product 28 rfl) rfl (wc_callV (k := 8) (y' := tX8_part) (av := [vI x1]) (st := [vI v121, vR r104]) (pc := 53) (dAt dtX8_product 29 rfl) lkX8_177 moX8_part q1323 qs26 (by decide) o123 rfl rfl (Nat.le_of_ble_eq_true rfl) (wX8_part hg (d := d + 0) (fun r x h P z => (hE r x h P z).deep (by omega)) hm) (kr_R (fun r125 h124 hm => ?_)) (kx_R rfl)))))
    obtain ⟨o126, hm⟩ := hm
    refine wc_callV (k := 11) (y' := tX11_add) (av := [vI v121, vR r125]) (st := []) (pc := 56) (dAt dtX8_product 30 rfl) lkX8_183 moX11_add q1412 q1413 (by decide) o126 rfl rfl (Nat.le_of_ble_eq_true rfl) (wX11_add hg hm) (kr_N (fun h127 hm => ?_)) (kx_N rfl)
    exact wc_goto (pc := 59) (tgt := 13) (dAt dtX8_product 31 rfl) (by decide) (wc_drp [3] rfl (ih112 _ hm))
  have k129 : ¬ (((vX8_isSign r0 42 h110) ≠ 0) ∨ (¬ ((vX8_isSign r0 47 h110) = 0))) → Wc G tX8_product (d + 8) h Q 62 [some (vR r0), some (vI x1), some (vR r104), none] [] h110 := fun c117 => by
    replace hm := ite_f c117 hm
    exact wc_aload_n (pc := 62) (dAt dtX8_product 32 rfl) rfl (wc_aret (pc := 63) (dAt dtX8_product 33 rfl) rfl (Or.inl ⟨_, rfl⟩) hm)
  exact wc_if_ne (pc := 19) (tgt := 31) (dAt dtX8_product 10 rfl) (by decide) (fun c130 => (k128 (Or.inl c130))) (fun c130 => wc_aload_n (pc := 22) (dAt dtX8_product 11 rfl) rfl (wc_bipush (pc := 23) (dAt dtX8_product 12 rfl) ⟨by decide, by decide, by decide⟩ (wc_callV (k := 8) (y' := tX8_isSign) (P := eI (vX8_isSign r0 47 h110) h110) (pc := 25) (dAt dtX8_product 13 rfl) lkX8_107 moX8_isSign q1292 qs19 (by decide) o114 rfl rfl (Nat.le_of_ble_eq_true rfl) (wX8_isSign hg (o116 c130) ⟨rfl, rfl⟩) (ep_I (wc_if_eq (pc := 28) (tgt := 62) (dAt dtX8_product 14 rfl) (by decide) (fun c131 => (k129 (fun z => z.elim c130 (fun z => z c131)))) (fun c131 => (k128 (Or.inr c131))))) ex_I)))
def tX8_sum : Mt := (⟨"FlyingDoctors$Reader", "sum", "(I)LFlyingDoctors$Ex;"⟩, prog_16_method_19_code, 4, (Option.some (Jvm.ClassFile.FieldType.object "FlyingDoctors$Ex")), [])
def DX8_sum : List (Nat × Instr × Nat) := [(0, .new 175, 3), (3, .dup, 1), (4, .aload_n 0, 1), (5, .iload_n 1, 1), (6, .invokevirtual 187, 3), (9, .invokespecial 180, 3), (12, .astore_n 2, 1), (13, .aload_n 0, 1), (14, .bipush 43, 2), (16, .invokevirtual 107, 3), (19, .ifCond .ne 12, 3), (22, .aload_n 0, 1), (23, .bipush 45, 2), (25, .invokevirtual 107, 3), (28, .ifCond .eq 34, 3), (31, .aload_n 0, 1), (32, .getfield 3, 3), (35, .getfield 32, 3), (38, .aload_n 0, 1), (39, .getfield 44, 3), (42, .baload, 1), (43, .i2c, 1), (44, .istore_n 3, 1), (45, .aload_n 0, 1), (46, .invokevirtual 115, 3), (49, .aload_n 2, 1), (50, .iload_n 3, 1), (51, .aload_n 0, 1), (52, .iload_n 1, 1), (53, .invokevirtual 187, 3), (56, .invokevirtual 183, 3), (59, .goto (-46), 3), (62, .aload_n 2, 1), (63, .areturn, 1)]
theorem dtX8_sum : chkD (mB tX8_sum) DX8_sum = true := by decide +kernel
theorem moX8_sum : MethOk tX8_sum 1 := ⟨Or.inl ⟨rfl, q1316⟩, by decide +kernel, ⟨by decide, by decide⟩, by decide +kernel⟩
def mX8_sum (E : Nat → Int → Hp → (Rs → Hp → Prop) → Prop) (r0 : Nat) (x1 : Int) (h : Hp) (Q : Rs → Hp → Prop) : Prop := hn h + 1 ≤ 878547 ∧ hq h + 2 ≤ 6460613 ∧ ∀ r104 : Nat, r104 = hn h → ∀ h105 : Hp, h105 = nw h 11 0 2 → ob h105 r0 8 ∧ mX8_product E r0 x1 h105 (kR Q (fun r108 h107 => mX11_init r104 r108 h107 (kN Q (fun h109 => wh1 (fun (C111 : Hp → Prop) (h110 : Hp) => oX8_isSign r0 43 h110 ∧ ob h110 r0 8 ∧ ((¬ ((vX8_isSign r0 43 h110) ≠ 0) → oX8_isSign r0 45 h110)) ∧ if ((vX8_isSign r0 43 h110) ≠ 0) ∨ (¬ ((vX8_isSign r0 45 h110) = 0)) then hR h110 r0 9 = 50 ∧ 0 ≤ (hI h110 r0 5) ∧ (hI h110 r0 5) < 800 ∧ ∀ v121 : Int, v121 = (i2c (hI h110 65 (Int.toNat (hI h110 r0 5)))) → mX8_next r0 h110 (kN Q (fun h122 => ob h122 r0 8 ∧ mX8_product E r0 x1 h122 (kR Q (fun r125 h124 => ob h124 r104 11 ∧ mX11_add r104 v121 r125 h124 (kN Q (fun h127 => C111 h127)))))) else Q (rV (vR r104)) h110) h109))))
theorem wX8_sum {G : Gx} (hg : gF G = true) {d : Nat} {E : Nat → Int → Hp → (Rs → Hp → Prop) → Prop} (hE : ∀ (r : Nat) (x : Int) (h : Hp) (P : Rs → Hp → Prop), E r x h P → Ct G tX8_expression d [vR r, vI x] h P) {r0 : Nat} {x1 : Int} {h : Hp} {Q : Rs → Hp → Prop} (hm : mX8_sum E r0 x1 h Q) : Ct G tX8_sum (d + 9) [vR r0, vI x1] h Q := by
  refine ct_enter (L0 := [some (vR r0), some (vI x1), none, none]) rfl rfl ?_
  unfold mX8_sum at hm
  obtain ⟨o101, o102, hm⟩ := hm
  obtain ⟨r104, er104⟩ : ∃ r104 : Nat, r104 = hn h := ⟨_, rfl⟩
  replace hm := hm r104 er104
  obtain ⟨h105, eh105⟩ : ∃ h105 : Hp, h105 = nw h 11 0 2 := ⟨_, rfl⟩
  replace hm := hm h105 eh105
  obtain ⟨o106, hm⟩ := hm
  refine wc_k0 fun n103 => (wc_new (k := 11) (pc := 0) (dAt dtX8_sum 0 rfl) q1302 q1303 q160 (by decide) o101 o102 (wc_hp eh105 (wc_vr er104 (wc_dup (pc := 3) (dAt dtX8_sum 1 rfl) rfl (wc_aload_n (pc := 4) (dAt dtX8_sum 2 rfl) rfl (wc_iload_n (pc := 5) (dAt dtX8_sum 3 rfl) rfl (wc_callV (k := 8) (y' := tX8_product) (av := [vI x1]) (st := [vR r104, vR r104]) (pc := 6) (dAt dtX8_sum 4 rfl) lkX8_187 moX8_product q1319 qs25 (by decide) o106 rfl rfl (Nat.le_of_ble_eq_true rfl) (wX8_product hg (d := d + 0) (fun r x h P z => (hE r x h P z).deep (by omega)) hm) (kr_R (fun r108 h107 hm => ?_)) (kx_R rfl))))))))
  refine wc_callI (y' := tX11_init) (av := [vR r108]) (st := [vR r104]) (pc := 9) (dAt dtX8_sum 5 rfl) lkX8_180 moX11_init q1395 rfl q1396 (k0_at er104 n103) rfl rfl (Nat.le_of_ble_eq_true rfl) (wX11_init hg hm) (kr_N (fun h109 hm => ?_)) (kx_N rfl)
  refine wc_astore_n (pc := 12) (dAt dtX8_sum 6 rfl) (by decide) (wc_L (L' := [some (vR r0), some (vI x1), some (vR r104), none]) rfl (?_))
  refine wh1_ind (P := fun (h110 : Hp) => Wc G tX8_sum (d + 9) h Q 13 [some (vR r0), some (vI x1), some (vR r104), none] [] h110) (fun C111 ih112 h110 hm => ?_) hm
  obtain ⟨o113, o114, o116, hm⟩ := hm
  refine wc_aload_n (pc := 13) (dAt dtX8_sum 7 rfl) rfl (wc_bipush (pc := 14) (dAt dtX8_sum 8 rfl) ⟨by decide, by decide, by decide⟩ (wc_callV (k := 8) (y' := tX8_isSign) (P := eI (vX8_isSign r0 43 h110) h110) (pc := 16) (dAt dtX8_sum 9 rfl) lkX8_107 moX8_isSign q1292 qs19 (by decide) o114 rfl rfl (Nat.le_of_ble_eq_true rfl) (wX8_isSign hg o113 ⟨rfl, rfl⟩) (ep_I (?_)) ex_I))
  have k128 : (((vX8_isSign r0 43 h110) ≠ 0) ∨ (¬ ((vX8_isSign r0 45 h110) = 0))) → Wc G tX8_sum (d + 9) h Q 31 [some (vR r0), some (vI x1), some (vR r104), none] [] h110 := fun c117 => by
    replace hm := ite_t c117 hm
    obtain ⟨o118, o119, o120, hm⟩ := hm
    obtain ⟨v121, ev121⟩ : ∃ v121 : Int, v121 = (i2c (hI h110 65 (Int.toNat (hI h110 r0 5)))) := ⟨_, rfl⟩
    replace hm := hm v121 ev121
    refine wc_aload_n (pc := 31) (dAt dtX8_sum 15 rfl) rfl (wc_getR (pc := 32) (dAt dtX8_sum 16 rfl) flX8_3_8 rfl o114 (wc_vr o118.symm (wc_getKR hg (pc := 35) (dAt dtX8_sum 17 rfl) flX8_32_1 rfl ka50 kf50_15 (wc_aload_n (pc := 38) (dAt dtX8_sum 18 rfl) rfl (wc_getI (pc := 39) (dAt dtX8_sum 19 rfl) flX8_44_8 rfl o114 (wc_baldK hg (pc := 42) (dAt dtX8_sum 20 rfl) kr65 o119 o120 (wc_i2c (pc := 43) (dAt dtX8_sum 21 rfl) (wc_vi ev121 (wc_istore_n (pc := 44) (dAt dtX8_sum 22 rfl) (by decide) (wc_L (L' := [some (vR r0), some (vI x1), some (vR r104), some (vI v121)]) rfl (wc_aload_n (pc := 45) (dAt dtX8_sum 23 rfl) rfl (wc_callV (k := 8) (y' := tX8_next) (av := []) (st := []) (pc := 46) (dAt dtX8_sum 24 rfl) lkX8_115 moX8_next q829 qs7 (by decide) o114 rfl rfl (Nat.le_of_ble_eq_true rfl) (wX8_next hg hm) (kr_N (fun h122 hm => ?_)) (kx_N rfl)))))))))))))
    obtain ⟨o123, hm⟩ := hm
    refine wc_aload_n (pc := 49) (dAt dtX8_sum 25 rfl) rfl (wc_iload_n (pc := 50) (dAt dtX8_sum 26 rfl) rfl (wc_aload_n (pc := 51) (dAt dtX8_sum 27 rfl) rfl (wc_iload_n (pc := 52) (dAt dtX8_sum 28 rfl) rfl (wc_callV (k := 8) (y' := tX8_product) (av := [vI x1]) (st := [vI v121, vR r104]) (pc := 53) (dAt dtX8_sum 29 rfl) lkX8_187 moX8_product q1319 qs25 (by decide) o123 rfl rfl (Nat.le_of_ble_eq_true rfl) (wX8_product hg (d := d + 0) (fun r x h P z => (hE r x h P z).deep (by omega)) hm) (kr_R (fun r125 h124 hm => ?_)) (kx_R rfl)))))
    obtain ⟨o126, hm⟩ := hm
    refine wc_callV (k := 11) (y' := tX11_add) (av := [vI v121, vR r125]) (st := []) (pc := 56) (dAt dtX8_sum 30 rfl) lkX8_183 moX11_add q1412 q1413 (by decide) o126 rfl rfl (Nat.le_of_ble_eq_true rfl) (wX11_add hg hm) (kr_N (fun h127 hm => ?_)) (kx_N rfl)
    exact wc_goto (pc := 59) (tgt := 13) (dAt dtX8_sum 31 rfl) (by decide) (wc_drp [3] rfl (ih112 _ hm))
  have k129 : ¬ (((vX8_isSign r0 43 h110) ≠ 0) ∨ (¬ ((vX8_isSign r0 45 h110) = 0))) → Wc G tX8_sum (d + 9) h Q 62 [some (vR r0), some (vI x1), some (vR r104), none] [] h110 := fun c117 => by
    replace hm := ite_f c117 hm
    exact wc_aload_n (pc := 62) (dAt dtX8_sum 32 rfl) rfl (wc_aret (pc := 63) (dAt dtX8_sum 33 rfl) rfl (Or.inl ⟨_, rfl⟩) hm)
  exact wc_if_ne (pc := 19) (tgt := 31) (dAt dtX8_sum 10 rfl) (by decide) (fun c130 => (k128 (Or.inl c130))) (fun c130 => wc_aload_n (pc := 22) (dAt dtX8_sum 11 rfl) rfl (wc_bipush (pc := 23) (dAt dtX8_sum 12 rfl) ⟨by decide, by decide, by decide⟩ (wc_callV (k := 8) (y' := tX8_isSign) (P := eI (vX8_isSign r0 45 h110) h110) (pc := 25) (dAt dtX8_sum 13 rfl) lkX8_107 moX8_isSign q1292 qs19 (by decide) o114 rfl rfl (Nat.le_of_ble_eq_true rfl) (wX8_isSign hg (o116 c130) ⟨rfl, rfl⟩) (ep_I (wc_if_eq (pc := 28) (tgt := 62) (dAt dtX8_sum 14 rfl) (by decide) (fun c131 => (k129 (fun z => z.elim c130 (fun z => z c131)))) (fun c131 => (k128 (Or.inr c131))))) ex_I)))
def tX16_init : Mt := (⟨"FlyingDoctors$Not", "<init>", "(LFlyingDoctors$Ex;)V"⟩, prog_10_method_1_code, 2, (Option.none : Option Jvm.ClassFile.FieldType), [])
def DX16_init : List (Nat × Instr × Nat) := [(0, .aload_n 0, 1), (1, .invokespecial 1, 3), (4, .aload_n 0, 1), (5, .aload_n 1, 1), (6, .putfield 7, 3), (9, .return_, 1)]
theorem dtX16_init : chkD (mB tX16_init) DX16_init = true := by decide +kernel
theorem moX16_init : MethOk tX16_init 1 := ⟨Or.inl ⟨rfl, q1420⟩, by decide +kernel, ⟨by decide, by decide⟩, by decide +kernel⟩
def mX16_init (r0 : Nat) (r1 : Nat) (h : Hp) (Q : Rs → Hp → Prop) : Prop := 50 ≤ r0 ∧ mX10_init r0 h (kN Q (fun h102 => ob h102 r0 16 ∧ ∀ h104 : Hp, h104 = sR h102 r0 0 r1 → Q rN h104))
theorem wX16_init {G : Gx} (hg : gF G = true) {d : Nat} {r0 : Nat} {r1 : Nat} {h : Hp} {Q : Rs → Hp → Prop} (hm : mX16_init r0 r1 h Q) : Ct G tX16_init (d + 2) [vR r0, vR r1] h Q := by
  refine ct_enter (L0 := [some (vR r0), some (vR r1)]) rfl rfl ?_
  unfold mX16_init at hm
  obtain ⟨o101, hm⟩ := hm
  refine wc_aload_n (pc := 0) (dAt dtX16_init 0 rfl) rfl (wc_callI (y' := tX10_init) (av := []) (st := []) (pc := 1) (dAt dtX16_init 1 rfl) lkX16_1 moX10_init q1335 rfl q1336 o101 rfl rfl (Nat.le_of_ble_eq_true rfl) (wX10_init hg hm) (kr_N (fun h102 hm => ?_)) (kx_N rfl))
  obtain ⟨o103, hm⟩ := hm
  obtain ⟨h104, eh104⟩ : ∃ h104 : Hp, h104 = sR h102 r0 0 r1 := ⟨_, rfl⟩
  replace hm := hm h104 eh104
  exact wc_aload_n (pc := 4) (dAt dtX16_init 2 rfl) rfl (wc_aload_n (pc := 5) (dAt dtX16_init 3 rfl) rfl (wc_putR (pc := 6) (dAt dtX16_init 4 rfl) flX16_7_16 (Or.inr ⟨rfl, rfl, rfl⟩) rfl o103 o101 (fun _ => ⟨by decide, by decide, by decide⟩) (wc_hp eh104 (wc_vret (pc := 9) (dAt dtX16_init 5 rfl) rfl hm))))
def tX8_not : Mt := (⟨"FlyingDoctors$Reader", "not", "(I)LFlyingDoctors$Ex;"⟩, prog_16_method_20_code, 6, (Option.some (Jvm.ClassFile.FieldType.object "FlyingDoctors$Ex")), [])
def DX8_not : List (Nat × Instr × Nat) := [(0, .iconst 0, 1), (1, .istore_n 2, 1), (2, .aload_n 0, 1), (3, .ldc 190, 2), (5, .invokevirtual 126, 3), (8, .ifCond .eq 28, 3), (11, .iload_n 2, 1), (12, .bipush 6, 2), (14, .if_icmp .ne 12, 3), (17, .new 102, 3), (20, .dup, 1), (21, .iconst 2, 1), (22, .invokespecial 104, 3), (25, .athrow, 1), (26, .iinc 2 1, 3), (29, .aload_n 0, 1), (30, .invokevirtual 115, 3), (33, .goto (-31), 3), (36, .new 175, 3), (39, .dup, 1), (40, .aload_n 0, 1), (41, .iload_n 1, 1), (42, .invokevirtual 192, 3), (45, .invokespecial 180, 3), (48, .astore_n 3, 1), (49, .aload_n 0, 1), (50, .bipush 60, 2), (52, .invokevirtual 107, 3), (55, .ifCond .ne 12, 3), (58, .aload_n 0, 1), (59, .bipush 61, 2), (61, .invokevirtual 107, 3), (64, .ifCond .eq 33, 3), (67, .aload_n 0, 1), (68, .getfield 3, 3), (71, .getfield 32, 3), (74, .aload_n 0, 1), (75, .getfield 44, 3), (78, .baload, 1), (79, .i2c, 1), (80, .istore 4, 2), (82, .aload_n 0, 1), (83, .invokevirtual 115, 3), (86, .aload_n 3, 1), (87, .iload 4, 2), (89, .aload_n 0, 1), (90, .iload_n 1, 1), (91, .invokevirtual 192, 3), (94, .invokevirtual 183, 3), (97, .aload_n 3, 1), (98, .astore 4, 2), (100, .iconst 0, 1), (101, .istore 5, 2), (103, .iload 5, 2), (105, .iload_n 2, 1), (106, .if_icmp .ge 20, 3), (109, .new 195, 3), (112, .dup, 1), (113, .aload 4, 2), (115, .invokespecial 197, 3), (118, .astore 4, 2), (120, .iinc 5 1, 3), (123, .goto (-20), 3), (126, .aload 4, 2), (128, .areturn, 1)]
theorem dtX8_not : chkD (mB tX8_not) DX8_not = true := by decide +kernel
theorem moX8_not : MethOk tX8_not 1 := ⟨Or.inl ⟨rfl, q1311⟩, by decide +kernel, ⟨by decide, by decide⟩, by decide +kernel⟩
def mX8_not (E : Nat → Int → Hp → (Rs → Hp → Prop) → Prop) (r0 : Nat) (x1 : Int) (h : Hp) (Q : Rs → Hp → Prop) : Prop := wh2 (fun (C103 : Int → Hp → Prop) (x101 : Int) (h102 : Hp) => ob h102 r0 8 ∧ mX8_is r0 20 h102 (kI Q (fun x107 h106 => if ¬ (x107 = 0) then if ¬ (x101 ≠ 6) then hn h106 + 1 ≤ 878547 ∧ hq h106 + 7 ≤ 6460613 ∧ ∀ r113 : Nat, r113 = hn h106 → ∀ h114 : Hp, h114 = nw h106 9 0 7 → mX9_init r113 2 h114 (kN Q (fun h115 => ob h115 r113 9 ∧ Q (rX r113) h115)) else nm (x101 + 1) ∧ ∀ i118 : Int, i118 = (x101 + 1) → ob h106 r0 8 ∧ mX8_next r0 h106 (kN Q (fun h120 => C103 i118 h120)) else hn h106 + 1 ≤ 878547 ∧ hq h106 + 2 ≤ 6460613 ∧ ∀ r124 : Nat, r124 = hn h106 → ∀ h125 : Hp, h125 = nw h106 11 0 2 → ob h125 r0 8 ∧ mX8_sum E r0 x1 h125 (kR Q (fun r128 h127 => mX11_init r124 r128 h127 (kN Q (fun h129 => oX8_isSign r0 60 h129 ∧ ob h129 r0 8 ∧ ((¬ ((vX8_isSign r0 60 h129) ≠ 0) → oX8_isSign r0 61 h129)) ∧ jn (fun (h136 : Hp) => wh3 (fun (C155 : Nat → Int → Hp → Prop) (r152 : Nat) (x153 : Int) (h154 : Hp) => if ¬ (x101 ≤ x153) then hn h154 + 1 ≤ 878547 ∧ hq h154 + 1 ≤ 6460613 ∧ ∀ r161 : Nat, r161 = hn h154 → ∀ h162 : Hp, h162 = nw h154 16 0 1 → mX16_init r161 r152 h162 (kN Q (fun h163 => nm (x153 + 1) ∧ ∀ i165 : Int, i165 = (x153 + 1) → C155 r161 i165 h163)) else Q (rV (vR r152)) h154) r124 0 h136) (fun K134 => if ((vX8_isSign r0 60 h129) ≠ 0) ∨ (¬ ((vX8_isSign r0 61 h129) = 0)) then hR h129 r0 9 = 50 ∧ 0 ≤ (hI h129 r0 5) ∧ (hI h129 r0 5) < 800 ∧ ∀ v141 : Int, v141 = (i2c (hI h129 65 (Int.toNat (hI h129 r0 5)))) → mX8_next r0 h129 (kN Q (fun h142 => ob h142 r0 8 ∧ mX8_sum E r0 x1 h142 (kR Q (fun r145 h144 => ob h144 r124 11 ∧ mX11_add r124 v141 r145 h144 (kN Q (fun h147 => K134 h147)))))) else K134 h129)))))))) 0 h
theorem wX8_not {G : Gx} (hg : gF G = true) {d : Nat} {E : Nat → Int → Hp → (Rs → Hp → Prop) → Prop} (hE : ∀ (r : Nat) (x : Int) (h : Hp) (P : Rs → Hp → Prop), E r x h P → Ct G tX8_expression d [vR r, vI x] h P) {r0 : Nat} {x1 : Int} {h : Hp} {Q : Rs → Hp → Prop} (hm : mX8_not E r0 x1 h Q) : Ct G tX8_not (d + 10) [vR r0, vI x1] h Q := by
  refine ct_enter (L0 := [some (vR r0), some (vI x1), none, none, none, none]) rfl rfl ?_
  unfold mX8_not at hm
  refine wc_iconst (pc := 0) (dAt dtX8_not 0 rfl) ⟨by decide, by decide⟩ (wc_istore_n (pc := 1) (dAt dtX8_not 1 rfl) (by decide) (wc_L (L' := [some (vR r0), some (vI x1), some (vI 0), none, none, none]) rfl (?_)))
  refine wh2_ind (P := fun (x101 : Int) (h102 : Hp) => Wc G tX8_not (d + 10) h Q 2 [some (vR r0), some (vI x1), some (vI x101), none, none, none] [] h102) (fun C103 ih104 x101 h102 hm => ?_) hm
  obtain ⟨o105, hm⟩ := hm
  refine wc_aload_n (pc := 2) (dAt dtX8_not 2 rfl) rfl (wc_ldcS (a := 20) (tx := "not") (pc := 3) (dAt dtX8_not 3 rfl) (by decide +kernel) (by decide) (wc_callV (k := 8) (y' := tX8_is) (av := [vR 20]) (st := []) (pc := 5) (dAt dtX8_not 4 rfl) lkX8_126 moX8_is q936 qs12 (by decide) o105 rfl rfl (Nat.le_of_ble_eq_true rfl) (wX8_is hg hm) (kr_I (fun x107 h106 hm => ?_)) (kx_I rfl)))
  refine wc_if_eq (pc := 8) (tgt := 36) (dAt dtX8_not 5 rfl) (by decide) (fun c108 => ?_) (fun c108 => ?_)
  · replace hm := ite_f (fun z => z c108) hm
    obtain ⟨o121, o122, hm⟩ := hm
    obtain ⟨r124, er124⟩ : ∃ r124 : Nat, r124 = hn h106 := ⟨_, rfl⟩
    replace hm := hm r124 er124
    obtain ⟨h125, eh125⟩ : ∃ h125 : Hp, h125 = nw h106 11 0 2 := ⟨_, rfl⟩
    replace hm := hm h125 eh125
    obtain ⟨o126, hm⟩ := hm
    refine wc_k0 fun n123 => (wc_new (k := 11) (pc := 36) (dAt dtX8_not 18 rfl) q1302 q1303 q160 (by decide) o121 o122 (wc_hp eh125 (wc_vr er124 (wc_dup (pc := 39) (dAt dtX8_not 19 rfl) rfl (wc_aload_n (pc := 40) (dAt dtX8_not 20 rfl) rfl (wc_iload_n (pc := 41) (dAt dtX8_not 21 rfl) rfl (wc_callV (k := 8) (y' := tX8_sum) (av := [vI x1]) (st := [vR r124, vR r124]) (pc := 42) (dAt dtX8_not 22 rfl) lkX8_192 moX8_sum q1315 qs24 (by decide) o126 rfl rfl (Nat.le_of_ble_eq_true rfl) (wX8_sum hg (d := d + 0) (fun r x h P z => (hE r x h P z).deep (by omega)) hm) (kr_R (fun r128 h127 hm => ?_)) (kx_R rfl))))))))
    refine wc_callI (y' := tX11_init) (av := [vR r128]) (st := [vR r124]) (pc := 45) (dAt dtX8_not 23 rfl) lkX8_180 moX11_init q1395 rfl q1396 (k0_at er124 n123) rfl rfl (Nat.le_of_ble_eq_true rfl) (wX11_init hg hm) (kr_N (fun h129 hm => ?_)) (kx_N rfl)
    obtain ⟨o130, o131, o133, hm⟩ := hm
    refine wc_astore_n (pc := 48) (dAt dtX8_not 24 rfl) (by decide) (wc_L (L' := [some (vR r0), some (vI x1), some (vI x101), some (vR r124), none, none]) rfl (wc_aload_n (pc := 49) (dAt dtX8_not 25 rfl) rfl (wc_bipush (pc := 50) (dAt dtX8_not 26 rfl) ⟨by decide, by decide, by decide⟩ (wc_callV (k := 8) (y' := tX8_isSign) (P := eI (vX8_isSign r0 60 h129) h129) (pc := 52) (dAt dtX8_not 27 rfl) lkX8_107 moX8_isSign q1292 qs19 (by decide) o131 rfl rfl (Nat.le_of_ble_eq_true rfl) (wX8_isSign hg o130 ⟨rfl, rfl⟩) (ep_I (?_)) ex_I))))
    refine jn1_ind (P := fun (h136 : Hp) => Wc G tX8_not (d + 10) h Q 97 [some (vR r0), none, some (vI x101), some (vR r124), none, none] [] h136) (fun h136 hm => ?_) (fun K134 kj135 hm => ?_) hm
    · refine wc_aload_n (pc := 97) (dAt dtX8_not 49 rfl) rfl (wc_astore (pc := 98) (dAt dtX8_not 50 rfl) (by decide) (wc_L (L' := [some (vR r0), none, some (vI x101), some (vR r124), some (vR r124), none]) rfl (wc_iconst (pc := 100) (dAt dtX8_not 51 rfl) ⟨by decide, by decide⟩ (wc_istore (pc := 101) (dAt dtX8_not 52 rfl) (by decide) (wc_L (L' := [some (vR r0), none, some (vI x101), some (vR r124), some (vR r124), some (vI 0)]) rfl (wc_drp [3] rfl (wc_L (L' := [some (vR r0), none, some (vI x101), none, some (vR r124), some (vI 0)]) rfl (?_))))))))
      refine wh3_ind (P := fun (r152 : Nat) (x153 : Int) (h154 : Hp) => Wc G tX8_not (d + 10) h Q 103 [some (vR r0), none, some (vI x101), none, some (vR r152), some (vI x153)] [] h154) (fun C155 ih156 r152 x153 h154 hm => ?_) hm
      refine wc_iload (pc := 103) (dAt dtX8_not 53 rfl) rfl (wc_iload_n (pc := 105) (dAt dtX8_not 54 rfl) rfl (wc_icmp_ge (pc := 106) (tgt := 126) (dAt dtX8_not 55 rfl) (by decide) (fun c157 => ?_) (fun c157 => ?_)))
      · replace hm := ite_f (fun z => z c157) hm
        exact wc_aload (pc := 126) (dAt dtX8_not 63 rfl) rfl (wc_aret (pc := 128) (dAt dtX8_not 64 rfl) rfl (Or.inl ⟨_, rfl⟩) hm)
      · replace hm := ite_t c157 hm
        obtain ⟨o158, o159, hm⟩ := hm
        obtain ⟨r161, er161⟩ : ∃ r161 : Nat, r161 = hn h154 := ⟨_, rfl⟩
        replace hm := hm r161 er161
        obtain ⟨h162, eh162⟩ : ∃ h162 : Hp, h162 = nw h154 16 0 1 := ⟨_, rfl⟩
        replace hm := hm h162 eh162
        refine wc_k0 fun n160 => (wc_new (k := 16) (pc := 109) (dAt dtX8_not 56 rfl) q1416 q1417 q165 (by decide) o158 o159 (wc_hp eh162 (wc_vr er161 (wc_dup (pc := 112) (dAt dtX8_not 57 rfl) rfl (wc_aload (pc := 113) (dAt dtX8_not 58 rfl) rfl (wc_callI (y' := tX16_init) (av := [vR r152]) (st := [vR r161]) (pc := 115) (dAt dtX8_not 59 rfl) lkX8_197 moX16_init q1419 rfl q1420 (k0_at er161 n160) rfl rfl (Nat.le_of_ble_eq_true rfl) (wX16_init hg hm) (kr_N (fun h163 hm => ?_)) (kx_N rfl)))))))
        obtain ⟨o164, hm⟩ := hm
        obtain ⟨i165, ei165⟩ : ∃ i165 : Int, i165 = (x153 + 1) := ⟨_, rfl⟩
        replace hm := hm i165 ei165
        exact wc_astore (pc := 118) (dAt dtX8_not 60 rfl) (by decide) (wc_L (L' := [some (vR r0), none, some (vI x101), none, some (vR r161), some (vI x153)]) rfl (wc_iinc (v := i165) (pc := 120) (dAt dtX8_not 61 rfl) rfl ei165 (ei165 ▸ o164) (by decide) (wc_L (L' := [some (vR r0), none, some (vI x101), none, some (vR r161), some (vI i165)]) rfl (wc_goto (pc := 123) (tgt := 103) (dAt dtX8_not 62 rfl) (by decide) (ih156 _ _ _ hm)))))
    · have k148 : (((vX8_isSign r0 60 h129) ≠ 0) ∨ (¬ ((vX8_isSign r0 61 h129) = 0))) → Wc G tX8_not (d + 10) h Q 67 [some (vR r0), some (vI x1), some (vI x101), some (vR r124), none, none] [] h129 := fun c137 => by
        replace hm := ite_t c137 hm
        obtain ⟨o138, o139, o140, hm⟩ := hm
        obtain ⟨v141, ev141⟩ : ∃ v141 : Int, v141 = (i2c (hI h129 65 (Int.toNat (hI h129 r0 5)))) := ⟨_, rfl⟩
        replace hm := hm v141 ev141
        refine wc_aload_n (pc := 67) (dAt dtX8_not 33 rfl) rfl (wc_getR (pc := 68) (dAt dtX8_not 34 rfl) flX8_3_8 rfl o131 (wc_vr o138.symm (wc_getKR hg (pc := 71) (dAt dtX8_not 35 rfl) flX8_32_1 rfl ka50 kf50_15 (wc_aload_n (pc := 74) (dAt dtX8_not 36 rfl) rfl (wc_getI (pc := 75) (dAt dtX8_not 37 rfl) flX8_44_8 rfl o131 (wc_baldK hg (pc := 78) (dAt dtX8_not 38 rfl) kr65 o139 o140 (wc_i2c (pc := 79) (dAt dtX8_not 39 rfl) (wc_vi ev141 (wc_istore (pc := 80) (dAt dtX8_not 40 rfl) (by decide) (wc_L (L' := [some (vR r0), some (vI x1), some (vI x101), some (vR r124), some (vI v141), none]) rfl (wc_aload_n (pc := 82) (dAt dtX8_not 41 rfl) rfl (wc_callV (k := 8) (y' := tX8_next) (av := []) (st := []) (pc := 83) (dAt dtX8_not 42 rfl) lkX8_115 moX8_next q829 qs7 (by decide) o131 rfl rfl (Nat.le_of_ble_eq_true rfl) (wX8_next hg hm) (kr_N (fun h142 hm => ?_)) (kx_N rfl)))))))))))))
        obtain ⟨o143, hm⟩ := hm
        refine wc_aload_n (pc := 86) (dAt dtX8_not 43 rfl) rfl (wc_iload (pc := 87) (dAt dtX8_not 44 rfl) rfl (wc_aload_n (pc := 89) (dAt dtX8_not 45 rfl) rfl (wc_iload_n (pc := 90) (dAt dtX8_not 46 rfl) rfl (wc_callV (k := 8) (y' := tX8_sum) (av := [vI x1]) (st := [vI v141, vR r124]) (pc := 91) (dAt dtX8_not 47 rfl) lkX8_192 moX8_sum q1315 qs24 (by decide) o143 rfl rfl (Nat.le_of_ble_eq_true rfl) (wX8_sum hg (d := d + 0) (fun r x h P z => (hE r x h P z).deep (by omega)) hm) (kr_R (fun r145 h144 hm => ?_)) (kx_R rfl)))))
        obtain ⟨o146, hm⟩ := hm
        refine wc_callV (k := 11) (y' := tX11_add) (av := [vI v141, vR r145]) (st := []) (pc := 94) (dAt dtX8_not 48 rfl) lkX8_183 moX11_add q1412 q1413 (by decide) o146 rfl rfl (Nat.le_of_ble_eq_true rfl) (wX11_add hg hm) (kr_N (fun h147 hm => ?_)) (kx_N rfl)
        exact wc_drp [1, 4] rfl (kj135 _ hm)
      have k149 : ¬ (((vX8_isSign r0 60 h129) ≠ 0) ∨ (¬ ((vX8_isSign r0 61 h129) = 0))) → Wc G tX8_not (d + 10) h Q 97 [some (vR r0), some (vI x1), some (vI x101), some (vR r124), none, none] [] h129 := fun c137 => by
        replace hm := ite_f c137 hm
        exact wc_drp [1] rfl (kj135 _ hm)
      exact wc_if_ne (pc := 55) (tgt := 67) (dAt dtX8_not 28 rfl) (by decide) (fun c150 => (k148 (Or.inl c150))) (fun c150 => wc_aload_n (pc := 58) (dAt dtX8_not 29 rfl) rfl (wc_bipush (pc := 59) (dAt dtX8_not 30 rfl) ⟨by decide, by decide, by decide⟩ (wc_callV (k := 8) (y' := tX8_isSign) (P := eI (vX8_isSign r0 61 h129) h129) (pc := 61) (dAt dtX8_not 31 rfl) lkX8_107 moX8_isSign q1292 qs19 (by decide) o131 rfl rfl (Nat.le_of_ble_eq_true rfl) (wX8_isSign hg (o133 c150) ⟨rfl, rfl⟩) (ep_I (wc_if_eq (pc := 64) (tgt := 97) (dAt dtX8_not 32 rfl) (by decide) (fun c151 => (k149 (fun z => z.elim c150 (fun z => z c151)))) (fun c151 => (k148 (Or.inr c151))))) ex_I)))
  · replace hm := ite_t c108 hm
    refine wc_iload_n (pc := 11) (dAt dtX8_not 6 rfl) rfl (wc_bipush (pc := 12) (dAt dtX8_not 7 rfl) ⟨by decide, by decide, by decide⟩ (wc_icmp_ne (pc := 14) (tgt := 26) (dAt dtX8_not 8 rfl) (by decide) (fun c109 => ?_) (fun c109 => ?_)))
    · replace hm := ite_f (fun z => z c109) hm
      obtain ⟨o117, hm⟩ := hm
      obtain ⟨i118, ei118⟩ : ∃ i118 : Int, i118 = (x101 + 1) := ⟨_, rfl⟩
      replace hm := hm i118 ei118
      obtain ⟨o119, hm⟩ := hm
      refine wc_iinc (v := i118) (pc := 26) (dAt dtX8_not 14 rfl) rfl ei118 (ei118 ▸ o117) (by decide) (wc_L (L' := [some (vR r0), some (vI x1), some (vI i118), none, none, none]) rfl (wc_aload_n (pc := 29) (dAt dtX8_not 15 rfl) rfl (wc_callV (k := 8) (y' := tX8_next) (av := []) (st := []) (pc := 30) (dAt dtX8_not 16 rfl) lkX8_115 moX8_next q829 qs7 (by decide) o119 rfl rfl (Nat.le_of_ble_eq_true rfl) (wX8_next hg hm) (kr_N (fun h120 hm => ?_)) (kx_N rfl))))
      exact wc_goto (pc := 33) (tgt := 2) (dAt dtX8_not 17 rfl) (by decide) (ih104 _ _ hm)
    · replace hm := ite_t c109 hm
      obtain ⟨o110, o111, hm⟩ := hm
      obtain ⟨r113, er113⟩ : ∃ r113 : Nat, r113 = hn h106 := ⟨_, rfl⟩
      replace hm := hm r113 er113
      obtain ⟨h114, eh114⟩ : ∃ h114 : Hp, h114 = nw h106 9 0 7 := ⟨_, rfl⟩
      replace hm := hm h114 eh114
      refine wc_k0 fun n112 => (wc_new (k := 9) (pc := 17) (dAt dtX8_not 9 rfl) q965 q966 q154 (by decide) o110 o111 (wc_hp eh114 (wc_vr er113 (wc_dup (pc := 20) (dAt dtX8_not 10 rfl) rfl (wc_iconst (pc := 21) (dAt dtX8_not 11 rfl) ⟨by decide, by decide⟩ (wc_callI (y' := tX9_init) (av := [vI 2]) (st := [vR r113]) (pc := 22) (dAt dtX8_not 12 rfl) lkX8_104 moX9_init q975 rfl q976 (k0_at er113 n112) rfl rfl (Nat.le_of_ble_eq_true rfl) (wX9_init hg hm) (kr_N (fun h115 hm => ?_)) (kx_N rfl)))))))
      obtain ⟨o116, hm⟩ := hm
      exact wc_athrow (pc := 25) (dAt dtX8_not 13 rfl) (by decide) o116 rfl hm
