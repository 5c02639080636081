set_option maxRecDepth 100000
set_option maxHeartbeats 1000000
/-! what methods do, and their walks, by program -/
def tX4_person : Mt := (⟨"FlyingDoctorsModel", "person", "(II)I"⟩, prog_24_method_13_code, 3, (Option.some Jvm.ClassFile.FieldType.int), [])
def DX4_person : List (Nat × Instr × Nat) := [(0, .aload_n 0, 1), (1, .iconst 0, 1), (2, .putfield 1, 3), (5, .aload_n 0, 1), (6, .getfield 60, 3), (9, .bipush 12, 2), (11, .if_icmp .eq 24, 3), (14, .iload_n 1, 1), (15, .ifCond .lt 20, 3), (18, .iload_n 1, 1), (19, .iconst 2, 1), (20, .if_icmp .gt 15, 3), (23, .iload_n 2, 1), (24, .ifCond .lt 11, 3), (27, .iload_n 2, 1), (28, .aload_n 0, 1), (29, .getfield 7, 3), (32, .if_icmp .lt 5, 3), (35, .iconst (-1), 1), (36, .ireturn, 1), (37, .aload_n 0, 1), (38, .getfield 63, 3), (41, .aload_n 0, 1), (42, .getfield 60, 3), (45, .iload_n 1, 1), (46, .iastore, 1), (47, .aload_n 0, 1), (48, .getfield 66, 3), (51, .aload_n 0, 1), (52, .getfield 60, 3), (55, .iload_n 2, 1), (56, .iastore, 1), (57, .aload_n 0, 1), (58, .getfield 69, 3), (61, .aload_n 0, 1), (62, .getfield 60, 3), (65, .iload_n 2, 1), (66, .iastore, 1), (67, .aload_n 0, 1), (68, .getfield 72, 3), (71, .aload_n 0, 1), (72, .getfield 60, 3), (75, .iconst (-1), 1), (76, .iastore, 1), (77, .aload_n 0, 1), (78, .dup, 1), (79, .getfield 60, 3), (82, .iconst 1, 1), (83, .iadd, 1), (84, .putfield 60, 3), (87, .aload_n 0, 1), (88, .getfield 60, 3), (91, .iconst 1, 1), (92, .isub, 1), (93, .ireturn, 1)]
theorem dtX4_person : chkD (mB tX4_person) DX4_person = true := by decide +kernel
theorem moX4_person : MethOk tX4_person 2 := ⟨Or.inl ⟨rfl, q2141⟩, by decide +kernel, ⟨by decide, by decide⟩, by decide +kernel⟩
def mX4_person (x1 : Int) (x2 : Int) (h : Hp) (Q : Rs → Hp → Prop) : Prop := ∀ h101 : Hp, h101 = sI h 75 0 0 → if ((hI h101 75 4) = 12) ∨ ((x1 < 0) ∨ ((2 < x1) ∨ ((x2 < 0) ∨ (¬ (x2 < (hI h101 75 2)))))) then Q (rV (vI (-1))) h101 else 0 ≤ (hI h101 75 4) ∧ (hI h101 75 4) < 12 ∧ ∀ h105 : Hp, h105 = sI h101 88 (Int.toNat (hI h101 75 4)) x1 → 0 ≤ (hI h105 75 4) ∧ (hI h105 75 4) < 12 ∧ ∀ h108 : Hp, h108 = sI h105 89 (Int.toNat (hI h105 75 4)) x2 → 0 ≤ (hI h108 75 4) ∧ (hI h108 75 4) < 12 ∧ ∀ h111 : Hp, h111 = sI h108 90 (Int.toNat (hI h108 75 4)) x2 → 0 ≤ (hI h111 75 4) ∧ (hI h111 75 4) < 12 ∧ ∀ h114 : Hp, h114 = sI h111 92 (Int.toNat (hI h111 75 4)) (-1) → nm ((hI h114 75 4) + 1) ∧ ∀ h116 : Hp, h116 = sI h114 75 4 ((hI h114 75 4) + 1) → nm ((hI h116 75 4) - 1) ∧ Q (rV (vI ((hI h116 75 4) - 1))) h116
theorem wX4_person {G : Gx} (hg : gF G = true) {d : Nat} {x1 : Int} {x2 : Int} {h : Hp} {Q : Rs → Hp → Prop} (hm : mX4_person x1 x2 h Q) : Ct G tX4_person (d + 0) [vR 75, vI x1, vI x2] h Q := by
  refine ct_enter (L0 := [some (vR 75), some (vI x1), some (vI x2)]) rfl rfl ?_
  unfold mX4_person at hm
  obtain ⟨h101, eh101⟩ : ∃ h101 : Hp, h101 = sI h 75 0 0 := ⟨_, rfl⟩
  replace hm := hm h101 eh101
  refine wc_aload_n (pc := 0) (dAt dtX4_person 0 rfl) rfl (wc_iconst (pc := 1) (dAt dtX4_person 1 rfl) ⟨by decide, by decide⟩ (wc_putKI hg (pc := 2) (dAt dtX4_person 2 rfl) flX4_1_4 (Or.inl rfl) rfl ka75 (by decide) (okI_int _) (wc_hp eh101 (wc_aload_n (pc := 5) (dAt dtX4_person 3 rfl) rfl (wc_getKI hg (pc := 6) (dAt dtX4_person 4 rfl) flX4_60_4 rfl ka75 (wc_bipush (pc := 9) (dAt dtX4_person 5 rfl) ⟨by decide, by decide, by decide⟩ (?_)))))))
  have k118 : (((hI h101 75 4) = 12) ∨ ((x1 < 0) ∨ ((2 < x1) ∨ ((x2 < 0) ∨ (¬ (x2 < (hI h101 75 2))))))) → Wc G tX4_person (d + 0) h Q 35 [some (vR 75), some (vI x1), some (vI x2)] [] h101 := fun c102 => by
    replace hm := ite_t c102 hm
    exact wc_iconst (pc := 35) (dAt dtX4_person 18 rfl) ⟨by decide, by decide⟩ (wc_iret (pc := 36) (dAt dtX4_person 19 rfl) rfl (nar_int _) hm)
  have k119 : ¬ (((hI h101 75 4) = 12) ∨ ((x1 < 0) ∨ ((2 < x1) ∨ ((x2 < 0) ∨ (¬ (x2 < (hI h101 75 2))))))) → Wc G tX4_person (d + 0) h Q 37 [some (vR 75), some (vI x1), some (vI x2)] [] h101 := fun c102 => by
    replace hm := ite_f c102 hm
    obtain ⟨o103, o104, hm⟩ := hm
    obtain ⟨h105, eh105⟩ : ∃ h105 : Hp, h105 = sI h101 88 (Int.toNat (hI h101 75 4)) x1 := ⟨_, rfl⟩
    replace hm := hm h105 eh105
    obtain ⟨o106, o107, hm⟩ := hm
    obtain ⟨h108, eh108⟩ : ∃ h108 : Hp, h108 = sI h105 89 (Int.toNat (hI h105 75 4)) x2 := ⟨_, rfl⟩
    replace hm := hm h108 eh108
    obtain ⟨o109, o110, hm⟩ := hm
    obtain ⟨h111, eh111⟩ : ∃ h111 : Hp, h111 = sI h108 90 (Int.toNat (hI h108 75 4)) x2 := ⟨_, rfl⟩
    replace hm := hm h111 eh111
    obtain ⟨o112, o113, hm⟩ := hm
    obtain ⟨h114, eh114⟩ : ∃ h114 : Hp, h114 = sI h111 92 (Int.toNat (hI h111 75 4)) (-1) := ⟨_, rfl⟩
    replace hm := hm h114 eh114
    obtain ⟨o115, hm⟩ := hm
    obtain ⟨h116, eh116⟩ : ∃ h116 : Hp, h116 = sI h114 75 4 ((hI h114 75 4) + 1) := ⟨_, rfl⟩
    replace hm := hm h116 eh116
    obtain ⟨o117, hm⟩ := hm
    exact wc_aload_n (pc := 37) (dAt dtX4_person 20 rfl) rfl (wc_getKR hg (pc := 38) (dAt dtX4_person 21 rfl) flX4_63_4 rfl ka75 kf75_17 (wc_aload_n (pc := 41) (dAt dtX4_person 22 rfl) rfl (wc_getKI hg (pc := 42) (dAt dtX4_person 23 rfl) flX4_60_4 rfl ka75 (wc_iload_n (pc := 45) (dAt dtX4_person 24 rfl) rfl (wc_iastK hg (pc := 46) (dAt dtX4_person 25 rfl) kr88 (by decide) o103 o104 (wc_hp eh105 (wc_aload_n (pc := 47) (dAt dtX4_person 26 rfl) rfl (wc_getKR hg (pc := 48) (dAt dtX4_person 27 rfl) flX4_66_4 rfl ka75 kf75_18 (wc_aload_n (pc := 51) (dAt dtX4_person 28 rfl) rfl (wc_getKI hg (pc := 52) (dAt dtX4_person 29 rfl) flX4_60_4 rfl ka75 (wc_iload_n (pc := 55) (dAt dtX4_person 30 rfl) rfl (wc_iastK hg (pc := 56) (dAt dtX4_person 31 rfl) kr89 (by decide) o106 o107 (wc_hp eh108 (wc_aload_n (pc := 57) (dAt dtX4_person 32 rfl) rfl (wc_getKR hg (pc := 58) (dAt dtX4_person 33 rfl) flX4_69_4 rfl ka75 kf75_19 (wc_aload_n (pc := 61) (dAt dtX4_person 34 rfl) rfl (wc_getKI hg (pc := 62) (dAt dtX4_person 35 rfl) flX4_60_4 rfl ka75 (wc_iload_n (pc := 65) (dAt dtX4_person 36 rfl) rfl (wc_iastK hg (pc := 66) (dAt dtX4_person 37 rfl) kr90 (by decide) o109 o110 (wc_hp eh111 (wc_aload_n (pc := 67) (dAt dtX4_person 38 rfl) rfl (wc_getKR hg (pc := 68) (dAt dtX4_person 39 rfl) flX4_72_4 rfl ka75 kf75_21 (wc_aload_n (pc := 71) (dAt dtX4_person 40 rfl) rfl (wc_getKI hg (pc := 72) (dAt dtX4_person 41 rfl) flX4_60_4 rfl ka75 (wc_iconst (pc := 75) (dAt dtX4_person 42 rfl) ⟨by decide, by decide⟩ (wc_iastK hg (pc := 76) (dAt dtX4_person 43 rfl) kr92 (by decide) o112 o113 (wc_hp eh114 (wc_aload_n (pc := 77) (dAt dtX4_person 44 rfl) rfl (wc_dup (pc := 78) (dAt dtX4_person 45 rfl) rfl (wc_getKI hg (pc := 79) (dAt dtX4_person 46 rfl) flX4_60_4 rfl ka75 (wc_iconst (pc := 82) (dAt dtX4_person 47 rfl) ⟨by decide, by decide⟩ (wc_iadd (pc := 83) (dAt dtX4_person 48 rfl) o115 (wc_putKI hg (pc := 84) (dAt dtX4_person 49 rfl) flX4_60_4 (Or.inl rfl) rfl ka75 (by decide) (okI_int _) (wc_hp eh116 (wc_aload_n (pc := 87) (dAt dtX4_person 50 rfl) rfl (wc_getKI hg (pc := 88) (dAt dtX4_person 51 rfl) flX4_60_4 rfl ka75 (wc_iconst (pc := 91) (dAt dtX4_person 52 rfl) ⟨by decide, by decide⟩ (wc_isub (pc := 92) (dAt dtX4_person 53 rfl) o117 (wc_iret (pc := 93) (dAt dtX4_person 54 rfl) rfl (nar_int _) hm)))))))))))))))))))))))))))))))))))))))
  exact wc_icmp_eq (pc := 11) (tgt := 35) (dAt dtX4_person 6 rfl) (by decide) (fun c120 => (k118 (Or.inl c120))) (fun c120 => wc_iload_n (pc := 14) (dAt dtX4_person 7 rfl) rfl (wc_if_lt (pc := 15) (tgt := 35) (dAt dtX4_person 8 rfl) (by decide) (fun c121 => (k118 (Or.inr (Or.inl c121)))) (fun c121 => wc_iload_n (pc := 18) (dAt dtX4_person 9 rfl) rfl (wc_iconst (pc := 19) (dAt dtX4_person 10 rfl) ⟨by decide, by decide⟩ (wc_icmp_gt (pc := 20) (tgt := 35) (dAt dtX4_person 11 rfl) (by decide) (fun c122 => (k118 (Or.inr (Or.inr (Or.inl c122))))) (fun c122 => wc_iload_n (pc := 23) (dAt dtX4_person 12 rfl) rfl (wc_if_lt (pc := 24) (tgt := 35) (dAt dtX4_person 13 rfl) (by decide) (fun c123 => (k118 (Or.inr (Or.inr (Or.inr (Or.inl c123)))))) (fun c123 => wc_iload_n (pc := 27) (dAt dtX4_person 14 rfl) rfl (wc_aload_n (pc := 28) (dAt dtX4_person 15 rfl) rfl (wc_getKI hg (pc := 29) (dAt dtX4_person 16 rfl) flX4_7_4 rfl ka75 (wc_icmp_lt (pc := 32) (tgt := 37) (dAt dtX4_person 17 rfl) (by decide) (fun c124 => (k119 (fun z => z.elim c120 (fun z => z.elim c121 (fun z => z.elim c122 (fun z => z.elim c123 (fun z => z c124))))))) (fun c124 => (k118 (Or.inr (Or.inr (Or.inr (Or.inr c124)))))))))))))))))
def tX1_found : Mt := (⟨"FlyingDoctors", "found", "(Z)V"⟩, prog_1_method_2_code, 1, (Option.none : Option Jvm.ClassFile.FieldType), [])
def DX1_found : List (Nat × Instr × Nat) := [(0, .iload_n 0, 1), (1, .ifCond .ne 11, 3), (4, .new 1, 3), (7, .dup, 1), (8, .invokespecial 3, 3), (11, .athrow, 1), (12, .return_, 1)]
theorem dtX1_found : chkD (mB tX1_found) DX1_found = true := by decide +kernel
theorem moX1_found : MethOk tX1_found 1 := ⟨Or.inl ⟨rfl, q688⟩, by decide +kernel, ⟨by decide, by decide⟩, by decide +kernel⟩
def mX1_found (x0 : Int) (h : Hp) (Q : Rs → Hp → Prop) : Prop := if ¬ (x0 ≠ 0) then hn h + 1 ≤ 878547 ∧ hq h + 6 ≤ 6460613 ∧ Q (rX (hn h)) (nw h 41 0 6) else Q rN h
theorem wX1_found {G : Gx} (hg : gF G = true) {d : Nat} {x0 : Int} {h : Hp} {Q : Rs → Hp → Prop} (hm : mX1_found x0 h Q) : Ct G tX1_found (d + 8) [vI x0] h Q := by
  refine ct_enter (L0 := [some (vI x0)]) rfl rfl ?_
  unfold mX1_found at hm
  refine wc_iload_n (pc := 0) (dAt dtX1_found 0 rfl) rfl (wc_if_ne (pc := 1) (tgt := 12) (dAt dtX1_found 1 rfl) (by decide) (fun c101 => ?_) (fun c101 => ?_))
  · replace hm := ite_f (fun z => z c101) hm
    exact wc_vret (pc := 12) (dAt dtX1_found 6 rfl) rfl hm
  · replace hm := ite_t c101 hm
    obtain ⟨o102, o103, hm⟩ := hm
    exact wc_throw41 (pc := 4) (dAt dtX1_found 2 rfl) (dAt dtX1_found 3 rfl) (dAt dtX1_found 4 rfl) (dAt dtX1_found 5 rfl) q689 q731 o102 o103 rfl (Nat.le_of_ble_eq_true rfl) hm
def tX1_placeAt : Mt := (⟨"FlyingDoctors", "placeAt", "(I)LFlyingDoctors$Place;"⟩, prog_1_method_20_code, 2, (Option.some (Jvm.ClassFile.FieldType.object "FlyingDoctors$Place")), [])
def DX1_placeAt : List (Nat × Instr × Nat) := [(0, .iload_n 1, 1), (1, .iconst 0, 1), (2, .aload_n 0, 1), (3, .getfield 12, 3), (6, .invokeinterface 16 1, 5), (11, .iconst 1, 1), (12, .isub, 1), (13, .invokestatic 314, 3), (16, .invokestatic 318, 3), (19, .aload_n 0, 1), (20, .getfield 12, 3), (23, .iload_n 1, 1), (24, .invokeinterface 22 2, 5), (29, .checkcast 26, 3), (32, .areturn, 1)]
theorem dtX1_placeAt : chkD (mB tX1_placeAt) DX1_placeAt = true := by decide +kernel
theorem moX1_placeAt : MethOk tX1_placeAt 1 := ⟨Or.inl ⟨rfl, q685⟩, by decide +kernel, ⟨by decide, by decide⟩, by decide +kernel⟩
def mX1_placeAt (x1 : Int) (h : Hp) (Q : Rs → Hp → Prop) : Prop := oJ2_size 54 h ∧ nm ((vJ2_size 54 h) - 1) ∧ mX1_found (vX1_in x1 0 ((vJ2_size 54 h) - 1) h) h (kN Q (fun h103 => oJ2_get 54 x1 h103 ∧ ob h103 (vJ2_get 54 x1 h103) 5 ∧ Q (rV (vR (vJ2_get 54 x1 h103))) h103))
theorem wX1_placeAt {G : Gx} (hg : gF G = true) {d : Nat} {x1 : Int} {h : Hp} {Q : Rs → Hp → Prop} (hm : mX1_placeAt x1 h Q) : Ct G tX1_placeAt (d + 9) [vR 50, vI x1] h Q := by
  refine ct_enter (L0 := [some (vR 50), some (vI x1)]) rfl rfl ?_
  unfold mX1_placeAt at hm
  obtain ⟨o101, o102, hm⟩ := hm
  refine wc_iload_n (pc := 0) (dAt dtX1_placeAt 0 rfl) rfl (wc_iconst (pc := 1) (dAt dtX1_placeAt 1 rfl) ⟨by decide, by decide⟩ (wc_aload_n (pc := 2) (dAt dtX1_placeAt 2 rfl) rfl (wc_getKR hg (pc := 3) (dAt dtX1_placeAt 3 rfl) flX1_12_1 rfl ka50 kf50_4 (wc_kf hg fun zk => (wc_callF (k := 32) (x := ⟨"java/util/List", "size", "()I"⟩) (y' := tJ2_size) (P := eI (vJ2_size 54 h) h) (pc := 6) (dAt dtX1_placeAt 4 rfl) q364 q366 q365 ⟨by decide, by decide⟩ moJ2_size rfl q370 q371 q369 q367 q368 (by decide) (zk.2 _ ka54).1 rfl rfl (Nat.le_of_ble_eq_true rfl) (wJ2_size hg o101 ⟨rfl, rfl⟩) (ep_I (wc_iconst (pc := 11) (dAt dtX1_placeAt 5 rfl) ⟨by decide, by decide⟩ (wc_isub (pc := 12) (dAt dtX1_placeAt 6 rfl) o102 (wc_callS (y' := tX1_in) (P := eI (vX1_in x1 0 ((vJ2_size 54 h) - 1) h) h) (pc := 13) (dAt dtX1_placeAt 7 rfl) lkX1_314 moX1_in q374 q128 rfl rfl (Nat.le_of_ble_eq_true rfl) (wX1_in hg ⟨rfl, rfl⟩) (ep_I (wc_callS (y' := tX1_found) (av := [vI (vX1_in x1 0 ((vJ2_size 54 h) - 1) h)]) (st := []) (pc := 16) (dAt dtX1_placeAt 8 rfl) lkX1_318 moX1_found q687 q128 rfl rfl (Nat.le_of_ble_eq_true rfl) (wX1_found hg hm) (kr_N (fun h103 hm => ?_)) (kx_N rfl))) ex_I)))) ex_I)))))
  obtain ⟨o104, o105, hm⟩ := hm
  exact wc_aload_n (pc := 19) (dAt dtX1_placeAt 9 rfl) rfl (wc_getKR hg (pc := 20) (dAt dtX1_placeAt 10 rfl) flX1_12_1 rfl ka50 kf50_4 (wc_iload_n (pc := 23) (dAt dtX1_placeAt 11 rfl) rfl (wc_kf hg fun zk => (wc_callF (k := 32) (x := ⟨"java/util/List", "get", "(I)Ljava/lang/Object;"⟩) (y' := tJ2_get) (P := eR (vJ2_get 54 x1 h103) h103) (pc := 24) (dAt dtX1_placeAt 12 rfl) q506 q508 q507 ⟨by decide, by decide⟩ moJ2_get rfl q511 q512 q510 q367 q509 (by decide) (zk.2 _ ka54).1 rfl rfl (Nat.le_of_ble_eq_true rfl) (wJ2_get hg o104 ⟨rfl, rfl⟩) (ep_R (wc_cast (pc := 29) (dAt dtX1_placeAt 13 rfl) q182 (by decide) (Or.inl rfl) o105 (wc_aret (pc := 32) (dAt dtX1_placeAt 14 rfl) rfl (Or.inl ⟨_, rfl⟩) hm))) ex_R))))
def tX1_right : Mt := (⟨"FlyingDoctors", "right", "(Z)V"⟩, prog_1_method_3_code, 1, (Option.none : Option Jvm.ClassFile.FieldType), [])
def DX1_right : List (Nat × Instr × Nat) := [(0, .iload_n 0, 1), (1, .ifCond .ne 11, 3), (4, .new 7, 3), (7, .dup, 1), (8, .invokespecial 9, 3), (11, .athrow, 1), (12, .return_, 1)]
theorem dtX1_right : chkD (mB tX1_right) DX1_right = true := by decide +kernel
theorem moX1_right : MethOk tX1_right 1 := ⟨Or.inl ⟨rfl, q756⟩, by decide +kernel, ⟨by decide, by decide⟩, by decide +kernel⟩
def mX1_right (x0 : Int) (h : Hp) (Q : Rs → Hp → Prop) : Prop := if ¬ (x0 ≠ 0) then hn h + 1 ≤ 878547 ∧ hq h + 6 ≤ 6460613 ∧ Q (rX (hn h)) (nw h 42 0 6) else Q rN h
theorem wX1_right {G : Gx} (hg : gF G = true) {d : Nat} {x0 : Int} {h : Hp} {Q : Rs → Hp → Prop} (hm : mX1_right x0 h Q) : Ct G tX1_right (d + 8) [vI x0] h Q := by
  refine ct_enter (L0 := [some (vI x0)]) rfl rfl ?_
  unfold mX1_right at hm
  refine wc_iload_n (pc := 0) (dAt dtX1_right 0 rfl) rfl (wc_if_ne (pc := 1) (tgt := 12) (dAt dtX1_right 1 rfl) (by decide) (fun c101 => ?_) (fun c101 => ?_))
  · replace hm := ite_f (fun z => z c101) hm
    exact wc_vret (pc := 12) (dAt dtX1_right 6 rfl) rfl hm
  · replace hm := ite_t c101 hm
    obtain ⟨o102, o103, hm⟩ := hm
    exact wc_throw42 (pc := 4) (dAt dtX1_right 2 rfl) (dAt dtX1_right 3 rfl) (dAt dtX1_right 4 rfl) (dAt dtX1_right 5 rfl) q757 q766 o102 o103 rfl (Nat.le_of_ble_eq_true rfl) hm
def tX1_drums : Mt := (⟨"FlyingDoctors", "drums", "(II)I"⟩, prog_1_method_27_code, 5, (Option.some Jvm.ClassFile.FieldType.int), [])
def DX1_drums : List (Nat × Instr × Nat) := [(0, .aload_n 0, 1), (1, .iload_n 1, 1), (2, .invokevirtual 334, 3), (5, .astore_n 3, 1), (6, .iload_n 2, 1), (7, .iconst 0, 1), (8, .sipush 9999, 3), (11, .invokestatic 314, 3), (14, .invokestatic 337, 3), (17, .aload_n 3, 1), (18, .getfield 256, 3), (21, .istore 4, 2), (23, .aload_n 3, 1), (24, .iload_n 2, 1), (25, .putfield 256, 3), (28, .iload 4, 2), (30, .ireturn, 1)]
theorem dtX1_drums : chkD (mB tX1_drums) DX1_drums = true := by decide +kernel
theorem moX1_drums : MethOk tX1_drums 2 := ⟨Or.inl ⟨rfl, q681⟩, by decide +kernel, ⟨by decide, by decide⟩, by decide +kernel⟩
def mX1_drums (x1 : Int) (x2 : Int) (h : Hp) (Q : Rs → Hp → Prop) : Prop := mX1_placeAt x1 h (kR Q (fun r102 h101 => mX1_right (vX1_in x2 0 9999 h101) h101 (kN Q (fun h103 => ob h103 r102 5 ∧ ∀ v105 : Int, v105 = (hI h103 r102 7) → ∀ h107 : Hp, h107 = sI h103 r102 7 x2 → Q (rV (vI v105)) h107))))
theorem wX1_drums {G : Gx} (hg : gF G = true) {d : Nat} {x1 : Int} {x2 : Int} {h : Hp} {Q : Rs → Hp → Prop} (hm : mX1_drums x1 x2 h Q) : Ct G tX1_drums (d + 10) [vR 50, vI x1, vI x2] h Q := by
  refine ct_enter (L0 := [some (vR 50), some (vI x1), some (vI x2), none, none]) rfl rfl ?_
  unfold mX1_drums at hm
  refine wc_aload_n (pc := 0) (dAt dtX1_drums 0 rfl) rfl (wc_iload_n (pc := 1) (dAt dtX1_drums 1 rfl) rfl (wc_kf hg fun zk => wc_callV (k := 1) (y' := tX1_placeAt) (av := [vI x1]) (st := []) (pc := 2) (dAt dtX1_drums 2 rfl) lkX1_334 moX1_placeAt q684 qs5 (by decide) (zk.2 _ ka50).1 rfl rfl (Nat.le_of_ble_eq_true rfl) (wX1_placeAt hg hm) (kr_R (fun r102 h101 hm => ?_)) (kx_R rfl)))
  refine wc_astore_n (pc := 5) (dAt dtX1_drums 3 rfl) (by decide) (wc_L (L' := [some (vR 50), some (vI x1), some (vI x2), some (vR r102), none]) rfl (wc_iload_n (pc := 6) (dAt dtX1_drums 4 rfl) rfl (wc_iconst (pc := 7) (dAt dtX1_drums 5 rfl) ⟨by decide, by decide⟩ (wc_sipush (pc := 8) (dAt dtX1_drums 6 rfl) ⟨by decide, by decide, by decide⟩ (wc_callS (y' := tX1_in) (P := eI (vX1_in x2 0 9999 h101) h101) (pc := 11) (dAt dtX1_drums 7 rfl) lkX1_314 moX1_in q374 q128 rfl rfl (Nat.le_of_ble_eq_true rfl) (wX1_in hg ⟨rfl, rfl⟩) (ep_I (wc_callS (y' := tX1_right) (av := [vI (vX1_in x2 0 9999 h101)]) (st := []) (pc := 14) (dAt dtX1_drums 8 rfl) lkX1_337 moX1_right q755 q128 rfl rfl (Nat.le_of_ble_eq_true rfl) (wX1_right hg hm) (kr_N (fun h103 hm => ?_)) (kx_N rfl))) ex_I)))))
  obtain ⟨o104, hm⟩ := hm
  obtain ⟨v105, ev105⟩ : ∃ v105 : Int, v105 = (hI h103 r102 7) := ⟨_, rfl⟩
  replace hm := hm v105 ev105
  obtain ⟨h107, eh107⟩ : ∃ h107 : Hp, h107 = sI h103 r102 7 x2 := ⟨_, rfl⟩
  replace hm := hm h107 eh107
  exact wc_aload_n (pc := 17) (dAt dtX1_drums 9 rfl) rfl (wc_getI (pc := 18) (dAt dtX1_drums 10 rfl) flX1_256_5 rfl o104 (wc_vi ev105 (wc_istore (pc := 21) (dAt dtX1_drums 11 rfl) (by decide) (wc_L (L' := [some (vR 50), some (vI x1), some (vI x2), some (vR r102), some (vI v105)]) rfl (wc_aload_n (pc := 23) (dAt dtX1_drums 12 rfl) rfl (wc_iload_n (pc := 24) (dAt dtX1_drums 13 rfl) rfl (wc_newer o104 (by decide) fun n106 => (wc_putI (pc := 25) (dAt dtX1_drums 14 rfl) flX1_256_5 (Or.inl rfl) rfl o104 n106 (okI_int _) (wc_hp eh107 (wc_iload (pc := 28) (dAt dtX1_drums 15 rfl) rfl (wc_iret (pc := 30) (dAt dtX1_drums 16 rfl) rfl (nar_int _) hm)))))))))))
def tX0_drums : Mt := (⟨"FlyingDoctorsLaw", "drums", "(LFlyingDoctors;II[J)I"⟩, method_3_code, 5, (Option.some Jvm.ClassFile.FieldType.int), [((0 : Nat), (10 : Nat), (13 : Nat), (13 : Nat)), ((0 : Nat), (10 : Nat), (17 : Nat), (15 : Nat))])
def DX0_drums : List (Nat × Instr × Nat) := [(0, .aload_n 3, 1), (1, .iconst 0, 1), (2, .aload_n 0, 1), (3, .iload_n 1, 1), (4, .iload_n 2, 1), (5, .invokevirtual 7, 3), (8, .i2l, 1), (9, .lastore, 1), (10, .goto 11, 3), (13, .astore 4, 2), (15, .iconst 1, 1), (16, .ireturn, 1), (17, .astore 4, 2), (19, .iconst 2, 1), (20, .ireturn, 1), (21, .iconst 0, 1), (22, .ireturn, 1)]
theorem dtX0_drums : chkD (mB tX0_drums) DX0_drums = true := by decide +kernel
theorem moX0_drums : MethOk tX0_drums 4 := ⟨Or.inr q675, by decide +kernel, ⟨by decide, by decide⟩, by decide +kernel⟩
def mX0_drums (x1 : Int) (x2 : Int) (h : Hp) (Q : Rs → Hp → Prop) : Prop := mX1_drums x1 x2 h (kIx (fun a103 h104 => if hT h104 a103 = 41 then ob h104 a103 41 ∧ (Q (rV (vI 1)) h104) else ob h104 a103 42 ∧ (Q (rV (vI 2)) h104)) (fun x102 h101 => ∀ h108 : Hp, h108 = sL h101 158 0 x102 → Q (rV (vI 0)) h108))
theorem wX0_drums {G : Gx} (hg : gF G = true) {d : Nat} {x1 : Int} {x2 : Int} {h : Hp} {Q : Rs → Hp → Prop} (hm : mX0_drums x1 x2 h Q) : Ct G tX0_drums (d + 11) [vR 50, vI x1, vI x2, vR 158] h Q := by
  refine ct_enter (L0 := [some (vR 50), some (vI x1), some (vI x2), some (vR 158), none]) rfl rfl ?_
  unfold mX0_drums at hm
  refine wc_aload_n (pc := 0) (dAt dtX0_drums 0 rfl) rfl (wc_iconst (pc := 1) (dAt dtX0_drums 1 rfl) ⟨by decide, by decide⟩ (wc_aload_n (pc := 2) (dAt dtX0_drums 2 rfl) rfl (wc_iload_n (pc := 3) (dAt dtX0_drums 3 rfl) rfl (wc_iload_n (pc := 4) (dAt dtX0_drums 4 rfl) rfl (wc_kf hg fun zk => wc_callV (k := 1) (y' := tX1_drums) (av := [vI x1, vI x2]) (st := [vI 0, vR 158]) (pc := 5) (dAt dtX0_drums 5 rfl) lkX0_7 moX1_drums q679 q680 (by decide) (zk.2 _ ka50).1 rfl rfl (Nat.le_of_ble_eq_true rfl) (wX1_drums hg hm) (krx_I (fun x102 h101 hm => ?_)) (kxx_I (fun a103 h104 hm => ?_)))))))
  · obtain ⟨h108, eh108⟩ : ∃ h108 : Hp, h108 = sL h101 158 0 x102 := ⟨_, rfl⟩
    replace hm := hm h108 eh108
    exact wc_i2l (pc := 8) (dAt dtX0_drums 6 rfl) (wc_lastK hg (pc := 9) (dAt dtX0_drums 7 rfl) kr158 (by decide) (by decide) (by decide) (wc_hp eh108 (wc_goto (pc := 10) (tgt := 21) (dAt dtX0_drums 8 rfl) (by decide) (wc_iconst (pc := 21) (dAt dtX0_drums 15 rfl) ⟨by decide, by decide⟩ (wc_iret (pc := 22) (dAt dtX0_drums 16 rfl) rfl (nar_int _) hm)))))
  · by_cases c107 : hT h104 a103 = 41
    · replace hm := ite_t c107 hm
      obtain ⟨o105, hm⟩ := hm
      refine wx_hit rfl rfl (by decide) q676 (by decide) o105 rfl ?_
      exact wc_astore (pc := 13) (dAt dtX0_drums 9 rfl) (by decide) (wc_L (L' := [some (vR 50), some (vI x1), some (vI x2), some (vR 158), some (vR a103)]) rfl (wc_iconst (pc := 15) (dAt dtX0_drums 10 rfl) ⟨by decide, by decide⟩ (wc_iret (pc := 16) (dAt dtX0_drums 11 rfl) rfl (nar_int _) hm)))
    · replace hm := ite_f c107 hm
      obtain ⟨o106, hm⟩ := hm
      refine wx_hit2 rfl rfl rfl (by decide) (by decide) q676 q677 (by decide +kernel) (by decide) o106 rfl ?_
      exact wc_astore (pc := 17) (dAt dtX0_drums 12 rfl) (by decide) (wc_L (L' := [some (vR 50), some (vI x1), some (vI x2), some (vR 158), some (vR a103)]) rfl (wc_iconst (pc := 19) (dAt dtX0_drums 13 rfl) ⟨by decide, by decide⟩ (wc_iret (pc := 20) (dAt dtX0_drums 14 rfl) rfl (nar_int _) hm)))
def tX4_right : Mt := (⟨"FlyingDoctorsModel", "right", "(ZI)Z"⟩, prog_24_method_2_code, 3, (Option.some Jvm.ClassFile.FieldType.boolean), [])
def DX4_right : List (Nat × Instr × Nat) := [(0, .aload_n 0, 1), (1, .getfield 1, 3), (4, .ifCond .ne 12, 3), (7, .iload_n 1, 1), (8, .ifCond .ne 8, 3), (11, .aload_n 0, 1), (12, .iload_n 2, 1), (13, .putfield 1, 3), (16, .aload_n 0, 1), (17, .getfield 1, 3), (20, .ifCond .ne 7, 3), (23, .iconst 1, 1), (24, .goto 4, 3), (27, .iconst 0, 1), (28, .ireturn, 1)]
theorem dtX4_right : chkD (mB tX4_right) DX4_right = true := by decide +kernel
theorem moX4_right : MethOk tX4_right 2 := ⟨Or.inl ⟨rfl, q2153⟩, by decide +kernel, ⟨by decide, by decide⟩, by decide +kernel⟩
def mX4_right (x1 : Int) (x2 : Int) (h : Hp) (Q : Rs → Hp → Prop) : Prop := jn (fun (h103 : Hp) => ∀ v110 : Int, v110 = (b2i (¬ ((hI h103 75 0) ≠ 0))) → Q (rV (vI v110)) h103) (fun K101 => if ¬ ((hI h 75 0) ≠ 0) ∧ (¬ (x1 ≠ 0)) then ∀ h105 : Hp, h105 = sI h 75 0 x2 → K101 h105 else K101 h)
theorem wX4_right {G : Gx} (hg : gF G = true) {d : Nat} {x1 : Int} {x2 : Int} {h : Hp} {Q : Rs → Hp → Prop} (hm : mX4_right x1 x2 h Q) : Ct G tX4_right (d + 0) [vR 75, vI x1, vI x2] h Q := by
  refine ct_enter (L0 := [some (vR 75), some (vI x1), some (vI x2)]) rfl rfl ?_
  unfold mX4_right at hm
  refine wc_aload_n (pc := 0) (dAt dtX4_right 0 rfl) rfl (wc_getKI hg (pc := 1) (dAt dtX4_right 1 rfl) flX4_1_4 rfl ka75 (?_))
  refine jn1_ind (P := fun (h103 : Hp) => Wc G tX4_right (d + 0) h Q 16 [some (vR 75), none, none] [] h103) (fun h103 hm => ?_) (fun K101 kj102 hm => ?_) hm
  · obtain ⟨v110, ev110⟩ : ∃ v110 : Int, v110 = (b2i (¬ ((hI h103 75 0) ≠ 0))) := ⟨_, rfl⟩
    replace hm := hm v110 ev110
    refine wc_aload_n (pc := 16) (dAt dtX4_right 8 rfl) rfl (wc_getKI hg (pc := 17) (dAt dtX4_right 9 rfl) flX4_1_4 rfl ka75 (?_))
    have kj111 : Wc G tX4_right (d + 0) h Q 28 [some (vR 75), none, none] [vI v110] h103 := by
      exact wc_iret (pc := 28) (dAt dtX4_right 14 rfl) rfl (nar_bool (bo_tr ev110.symm (bool_b2i _))) hm
    have k112 : (¬ ((hI h103 75 0) ≠ 0)) → Wc G tX4_right (d + 0) h Q 23 [some (vR 75), none, none] [] h103 := fun c114 => by
      have z115 := kj111
      rw [show v110 = 1 from ev110.trans (b2i_t c114)] at z115
      exact wc_iconst (pc := 23) (dAt dtX4_right 11 rfl) ⟨by decide, by decide⟩ (wc_goto (pc := 24) (tgt := 28) (dAt dtX4_right 12 rfl) (by decide) (z115))
    have k113 : ¬ (¬ ((hI h103 75 0) ≠ 0)) → Wc G tX4_right (d + 0) h Q 27 [some (vR 75), none, none] [] h103 := fun c114 => by
      have z117 := kj111
      rw [show v110 = 0 from ev110.trans (b2i_f c114)] at z117
      exact wc_iconst (pc := 27) (dAt dtX4_right 13 rfl) ⟨by decide, by decide⟩ (z117)
    exact wc_if_ne (pc := 20) (tgt := 27) (dAt dtX4_right 10 rfl) (by decide) (fun c119 => (k113 (fun z => z c119))) (fun c119 => (k112 c119))
  · have k106 : (¬ ((hI h 75 0) ≠ 0) ∧ (¬ (x1 ≠ 0))) → Wc G tX4_right (d + 0) h Q 11 [some (vR 75), some (vI x1), some (vI x2)] [] h := fun c104 => by
      replace hm := ite_t c104 hm
      obtain ⟨h105, eh105⟩ : ∃ h105 : Hp, h105 = sI h 75 0 x2 := ⟨_, rfl⟩
      replace hm := hm h105 eh105
      exact wc_aload_n (pc := 11) (dAt dtX4_right 5 rfl) rfl (wc_iload_n (pc := 12) (dAt dtX4_right 6 rfl) rfl (wc_putKI hg (pc := 13) (dAt dtX4_right 7 rfl) flX4_1_4 (Or.inl rfl) rfl ka75 (by decide) (okI_int _) (wc_hp eh105 (wc_drp [1, 2] rfl (kj102 _ hm)))))
    have k107 : ¬ (¬ ((hI h 75 0) ≠ 0) ∧ (¬ (x1 ≠ 0))) → Wc G tX4_right (d + 0) h Q 16 [some (vR 75), some (vI x1), some (vI x2)] [] h := fun c104 => by
      replace hm := ite_f c104 hm
      exact wc_drp [1, 2] rfl (kj102 _ hm)
    exact wc_if_ne (pc := 4) (tgt := 16) (dAt dtX4_right 2 rfl) (by decide) (fun c108 => (k107 (fun z => z.1 c108))) (fun c108 => wc_iload_n (pc := 7) (dAt dtX4_right 3 rfl) rfl (wc_if_ne (pc := 8) (tgt := 16) (dAt dtX4_right 4 rfl) (by decide) (fun c109 => (k107 (fun z => (fun z => z c109) z.2))) (fun c109 => (k106 ⟨c108, c109⟩))))
def tX4_isPlace : Mt := (⟨"FlyingDoctorsModel", "isPlace", "(I)Z"⟩, prog_24_method_3_code, 2, (Option.some Jvm.ClassFile.FieldType.boolean), [])
def DX4_isPlace : List (Nat × Instr × Nat) := [(0, .aload_n 0, 1), (1, .iconst 0, 1), (2, .putfield 1, 3), (5, .aload_n 0, 1), (6, .iload_n 1, 1), (7, .ifCond .lt 15, 3), (10, .iload_n 1, 1), (11, .aload_n 0, 1), (12, .getfield 7, 3), (15, .if_icmp .ge 7, 3), (18, .iconst 1, 1), (19, .goto 4, 3), (22, .iconst 0, 1), (23, .iconst 1, 1), (24, .invokevirtual 10, 3), (27, .ireturn, 1)]
theorem dtX4_isPlace : chkD (mB tX4_isPlace) DX4_isPlace = true := by decide +kernel
theorem moX4_isPlace : MethOk tX4_isPlace 1 := ⟨Or.inl ⟨rfl, q2149⟩, by decide +kernel, ⟨by decide, by decide⟩, by decide +kernel⟩
def mX4_isPlace (x1 : Int) (h : Hp) (Q : Rs → Hp → Prop) : Prop := ∀ h101 : Hp, h101 = sI h 75 0 0 → ∀ v102 : Int, v102 = (b2i (¬ (x1 < 0) ∧ (¬ ((hI h101 75 2) ≤ x1)))) → mX4_right v102 1 h101 (kI Q (fun x104 h103 => (x104 = 0 ∨ x104 = 1) ∧ Q (rV (vI x104)) h103))
theorem wX4_isPlace {G : Gx} (hg : gF G = true) {d : Nat} {x1 : Int} {h : Hp} {Q : Rs → Hp → Prop} (hm : mX4_isPlace x1 h Q) : Ct G tX4_isPlace (d + 1) [vR 75, vI x1] h Q := by
  refine ct_enter (L0 := [some (vR 75), some (vI x1)]) rfl rfl ?_
  unfold mX4_isPlace at hm
  obtain ⟨h101, eh101⟩ : ∃ h101 : Hp, h101 = sI h 75 0 0 := ⟨_, rfl⟩
  replace hm := hm h101 eh101
  obtain ⟨v102, ev102⟩ : ∃ v102 : Int, v102 = (b2i (¬ (x1 < 0) ∧ (¬ ((hI h101 75 2) ≤ x1)))) := ⟨_, rfl⟩
  replace hm := hm v102 ev102
  refine wc_aload_n (pc := 0) (dAt dtX4_isPlace 0 rfl) rfl (wc_iconst (pc := 1) (dAt dtX4_isPlace 1 rfl) ⟨by decide, by decide⟩ (wc_putKI hg (pc := 2) (dAt dtX4_isPlace 2 rfl) flX4_1_4 (Or.inl rfl) rfl ka75 (by decide) (okI_int _) (wc_hp eh101 (wc_aload_n (pc := 5) (dAt dtX4_isPlace 3 rfl) rfl (wc_iload_n (pc := 6) (dAt dtX4_isPlace 4 rfl) rfl (?_))))))
  have kj106 : Wc G tX4_isPlace (d + 1) h Q 23 [some (vR 75), none] [vI v102, vR 75] h101 := by
    refine wc_iconst (pc := 23) (dAt dtX4_isPlace 13 rfl) ⟨by decide, by decide⟩ (wc_kf hg fun zk => wc_callV (k := 4) (y' := tX4_right) (av := [vI v102, vI 1]) (st := []) (pc := 24) (dAt dtX4_isPlace 14 rfl) lkX4_10 moX4_right q2152 qs64 (by decide) (zk.2 _ ka75).1 rfl rfl (Nat.le_of_ble_eq_true rfl) (wX4_right hg hm) (kr_I (fun x104 h103 hm => ?_)) (kx_I rfl))
    obtain ⟨o105, hm⟩ := hm
    exact wc_iret (pc := 27) (dAt dtX4_isPlace 15 rfl) rfl (nar_bool o105) hm
  have k107 : (¬ (x1 < 0) ∧ (¬ ((hI h101 75 2) ≤ x1))) → Wc G tX4_isPlace (d + 1) h Q 18 [some (vR 75), some (vI x1)] [vR 75] h101 := fun c109 => by
    have z110 := kj106
    rw [show v102 = 1 from ev102.trans (b2i_t c109)] at z110
    exact wc_iconst (pc := 18) (dAt dtX4_isPlace 10 rfl) ⟨by decide, by decide⟩ (wc_goto (pc := 19) (tgt := 23) (dAt dtX4_isPlace 11 rfl) (by decide) (wc_drp [1] rfl (z110)))
  have k108 : ¬ (¬ (x1 < 0) ∧ (¬ ((hI h101 75 2) ≤ x1))) → Wc G tX4_isPlace (d + 1) h Q 22 [some (vR 75), some (vI x1)] [vR 75] h101 := fun c109 => by
    have z112 := kj106
    rw [show v102 = 0 from ev102.trans (b2i_f c109)] at z112
    exact wc_iconst (pc := 22) (dAt dtX4_isPlace 12 rfl) ⟨by decide, by decide⟩ (wc_drp [1] rfl (z112))
  exact wc_if_lt (pc := 7) (tgt := 22) (dAt dtX4_isPlace 5 rfl) (by decide) (fun c114 => (k108 (fun z => z.1 c114))) (fun c114 => wc_iload_n (pc := 10) (dAt dtX4_isPlace 6 rfl) rfl (wc_aload_n (pc := 11) (dAt dtX4_isPlace 7 rfl) rfl (wc_getKI hg (pc := 12) (dAt dtX4_isPlace 8 rfl) flX4_7_4 rfl ka75 (wc_icmp_ge (pc := 15) (tgt := 22) (dAt dtX4_isPlace 9 rfl) (by decide) (fun c115 => (k108 (fun z => (fun z => z c115) z.2))) (fun c115 => (k107 ⟨c114, c115⟩))))))
def tX4_drums : Mt := (⟨"FlyingDoctorsModel", "drums", "(II)I"⟩, prog_24_method_14_code, 4, (Option.some Jvm.ClassFile.FieldType.int), [])
def DX4_drums : List (Nat × Instr × Nat) := [(0, .aload_n 0, 1), (1, .iload_n 1, 1), (2, .invokevirtual 75, 3), (5, .ifCond .eq 27, 3), (8, .aload_n 0, 1), (9, .iload_n 2, 1), (10, .ifCond .lt 14, 3), (13, .iload_n 2, 1), (14, .sipush 9999, 3), (17, .if_icmp .gt 7, 3), (20, .iconst 1, 1), (21, .goto 4, 3), (24, .iconst 0, 1), (25, .iconst 2, 1), (26, .invokevirtual 10, 3), (29, .ifCond .ne 5, 3), (32, .iconst 0, 1), (33, .ireturn, 1), (34, .aload_n 0, 1), (35, .getfield 78, 3), (38, .iload_n 1, 1), (39, .iaload, 1), (40, .istore_n 3, 1), (41, .aload_n 0, 1), (42, .getfield 78, 3), (45, .iload_n 1, 1), (46, .iload_n 2, 1), (47, .iastore, 1), (48, .iload_n 3, 1), (49, .ireturn, 1)]
theorem dtX4_drums : chkD (mB tX4_drums) DX4_drums = true := by decide +kernel
theorem moX4_drums : MethOk tX4_drums 2 := ⟨Or.inl ⟨rfl, q2145⟩, by decide +kernel, ⟨by decide, by decide⟩, by decide +kernel⟩
def mX4_drums (x1 : Int) (x2 : Int) (h : Hp) (Q : Rs → Hp → Prop) : Prop := mX4_isPlace x1 h (kI Q (fun x102 h101 => if ¬ (x102 = 0) then ∀ v104 : Int, v104 = (b2i (¬ (x2 < 0) ∧ (¬ (9999 < x2)))) → mX4_right v104 2 h101 (kI Q (fun x106 h105 => if ¬ (x106 ≠ 0) then Q (rV (vI 0)) h105 else 0 ≤ x1 ∧ x1 < 12 ∧ ∀ v110 : Int, v110 = (hI h105 80 (Int.toNat x1)) → ∀ h111 : Hp, h111 = sI h105 80 (Int.toNat x1) x2 → Q (rV (vI v110)) h111)) else Q (rV (vI 0)) h101))
theorem wX4_drums {G : Gx} (hg : gF G = true) {d : Nat} {x1 : Int} {x2 : Int} {h : Hp} {Q : Rs → Hp → Prop} (hm : mX4_drums x1 x2 h Q) : Ct G tX4_drums (d + 2) [vR 75, vI x1, vI x2] h Q := by
  refine ct_enter (L0 := [some (vR 75), some (vI x1), some (vI x2), none]) rfl rfl ?_
  unfold mX4_drums at hm
  refine wc_aload_n (pc := 0) (dAt dtX4_drums 0 rfl) rfl (wc_iload_n (pc := 1) (dAt dtX4_drums 1 rfl) rfl (wc_kf hg fun zk => wc_callV (k := 4) (y' := tX4_isPlace) (av := [vI x1]) (st := []) (pc := 2) (dAt dtX4_drums 2 rfl) lkX4_75 moX4_isPlace q2148 qs63 (by decide) (zk.2 _ ka75).1 rfl rfl (Nat.le_of_ble_eq_true rfl) (wX4_isPlace hg hm) (kr_I (fun x102 h101 hm => ?_)) (kx_I rfl)))
  refine wc_if_eq (pc := 5) (tgt := 32) (dAt dtX4_drums 3 rfl) (by decide) (fun c103 => ?_) (fun c103 => ?_)
  · replace hm := ite_f (fun z => z c103) hm
    exact wc_iconst (pc := 32) (dAt dtX4_drums 16 rfl) ⟨by decide, by decide⟩ (wc_iret (pc := 33) (dAt dtX4_drums 17 rfl) rfl (nar_int _) hm)
  · replace hm := ite_t c103 hm
    obtain ⟨v104, ev104⟩ : ∃ v104 : Int, v104 = (b2i (¬ (x2 < 0) ∧ (¬ (9999 < x2)))) := ⟨_, rfl⟩
    replace hm := hm v104 ev104
    refine wc_aload_n (pc := 8) (dAt dtX4_drums 4 rfl) rfl (wc_iload_n (pc := 9) (dAt dtX4_drums 5 rfl) rfl (?_))
    have kj112 : Wc G tX4_drums (d + 2) h Q 25 [some (vR 75), some (vI x1), some (vI x2), none] [vI v104, vR 75] h101 := by
      refine wc_iconst (pc := 25) (dAt dtX4_drums 13 rfl) ⟨by decide, by decide⟩ (wc_kf hg fun zk => wc_callV (k := 4) (y' := tX4_right) (av := [vI v104, vI 2]) (st := []) (pc := 26) (dAt dtX4_drums 14 rfl) lkX4_10 moX4_right q2152 qs64 (by decide) (zk.2 _ ka75).1 rfl rfl (Nat.le_of_ble_eq_true rfl) (wX4_right hg hm) (kr_I (fun x106 h105 hm => ?_)) (kx_I rfl))
      refine wc_if_ne (pc := 29) (tgt := 34) (dAt dtX4_drums 15 rfl) (by decide) (fun c107 => ?_) (fun c107 => ?_)
      · replace hm := ite_f (fun z => z c107) hm
        obtain ⟨o108, o109, hm⟩ := hm
        obtain ⟨v110, ev110⟩ : ∃ v110 : Int, v110 = (hI h105 80 (Int.toNat x1)) := ⟨_, rfl⟩
        replace hm := hm v110 ev110
        obtain ⟨h111, eh111⟩ : ∃ h111 : Hp, h111 = sI h105 80 (Int.toNat x1) x2 := ⟨_, rfl⟩
        replace hm := hm h111 eh111
        exact wc_aload_n (pc := 34) (dAt dtX4_drums 18 rfl) rfl (wc_getKR hg (pc := 35) (dAt dtX4_drums 19 rfl) flX4_78_4 rfl ka75 kf75_9 (wc_iload_n (pc := 38) (dAt dtX4_drums 20 rfl) rfl (wc_ialdK hg (pc := 39) (dAt dtX4_drums 21 rfl) kr80 o108 o109 (wc_vi ev110 (wc_istore_n (pc := 40) (dAt dtX4_drums 22 rfl) (by decide) (wc_L (L' := [some (vR 75), some (vI x1), some (vI x2), some (vI v110)]) rfl (wc_aload_n (pc := 41) (dAt dtX4_drums 23 rfl) rfl (wc_getKR hg (pc := 42) (dAt dtX4_drums 24 rfl) flX4_78_4 rfl ka75 kf75_9 (wc_iload_n (pc := 45) (dAt dtX4_drums 25 rfl) rfl (wc_iload_n (pc := 46) (dAt dtX4_drums 26 rfl) rfl (wc_iastK hg (pc := 47) (dAt dtX4_drums 27 rfl) kr80 (by decide) o108 o109 (wc_hp eh111 (wc_iload_n (pc := 48) (dAt dtX4_drums 28 rfl) rfl (wc_iret (pc := 49) (dAt dtX4_drums 29 rfl) rfl (nar_int _) hm))))))))))))))
      · replace hm := ite_t c107 hm
        exact wc_iconst (pc := 32) (dAt dtX4_drums 16 rfl) ⟨by decide, by decide⟩ (wc_iret (pc := 33) (dAt dtX4_drums 17 rfl) rfl (nar_int _) hm)
    have k113 : (¬ (x2 < 0) ∧ (¬ (9999 < x2))) → Wc G tX4_drums (d + 2) h Q 20 [some (vR 75), some (vI x1), some (vI x2), none] [vR 75] h101 := fun c115 => by
      have z116 := kj112
      rw [show v104 = 1 from ev104.trans (b2i_t c115)] at z116
      exact wc_iconst (pc := 20) (dAt dtX4_drums 10 rfl) ⟨by decide, by decide⟩ (wc_goto (pc := 21) (tgt := 25) (dAt dtX4_drums 11 rfl) (by decide) (z116))
    have k114 : ¬ (¬ (x2 < 0) ∧ (¬ (9999 < x2))) → Wc G tX4_drums (d + 2) h Q 24 [some (vR 75), some (vI x1), some (vI x2), none] [vR 75] h101 := fun c115 => by
      have z118 := kj112
      rw [show v104 = 0 from ev104.trans (b2i_f c115)] at z118
      exact wc_iconst (pc := 24) (dAt dtX4_drums 12 rfl) ⟨by decide, by decide⟩ (z118)
    exact wc_if_lt (pc := 10) (tgt := 24) (dAt dtX4_drums 6 rfl) (by decide) (fun c120 => (k114 (fun z => z.1 c120))) (fun c120 => wc_iload_n (pc := 13) (dAt dtX4_drums 7 rfl) rfl (wc_sipush (pc := 14) (dAt dtX4_drums 8 rfl) ⟨by decide, by decide, by decide⟩ (wc_icmp_gt (pc := 17) (tgt := 24) (dAt dtX4_drums 9 rfl) (by decide) (fun c121 => (k114 (fun z => (fun z => z c121) z.2))) (fun c121 => (k113 ⟨c120, c121⟩)))))
def tX4_thrown : Mt := (⟨"FlyingDoctorsModel", "thrown", "()I"⟩, prog_24_method_1_code, 1, (Option.some Jvm.ClassFile.FieldType.int), [])
def DX4_thrown : List (Nat × Instr × Nat) := [(0, .aload_n 0, 1), (1, .getfield 1, 3), (4, .ireturn, 1)]
theorem dtX4_thrown : chkD (mB tX4_thrown) DX4_thrown = true := by decide +kernel
theorem moX4_thrown : MethOk tX4_thrown 0 := ⟨Or.inl ⟨rfl, q2124⟩, by decide +kernel, ⟨by decide, by decide⟩, by decide +kernel⟩
def vX4_thrown  (h : Hp) : Int := (hI h 75 0)
theorem wX4_thrown {G : Gx} (hg : gF G = true) {d : Nat}  {h : Hp} {Q : Rs → Hp → Prop} (hq : Q (rV (vI (vX4_thrown h))) h) : Ct G tX4_thrown (d + 0) [vR 75] h Q := by
  refine ct_enter (L0 := [some (vR 75)]) rfl rfl ?_
  have z : Q (rV (vI (hI h 75 0))) h := by
    rw [show (vX4_thrown h) = (hI h 75 0) from rfl] at hq
    exact hq
  exact wc_aload_n (pc := 0) (dAt dtX4_thrown 0 rfl) rfl (wc_getKI hg (pc := 1) (dAt dtX4_thrown 1 rfl) flX4_1_4 rfl ka75 (wc_iret (pc := 4) (dAt dtX4_thrown 2 rfl) rfl (nar_int _) z))
def tX1_feed : Mt := (⟨"FlyingDoctors", "feed", "(IIIII)I"⟩, prog_1_method_28_code, 8, (Option.some Jvm.ClassFile.FieldType.int), [])
def DX1_feed : List (Nat × Instr × Nat) := [(0, .aload_n 0, 1), (1, .getfield 340, 3), (4, .bipush 20, 2), (6, .iadd, 1), (7, .sipush 800, 3), (10, .if_icmp .le 5, 3), (13, .iconst (-1), 1), (14, .ireturn, 1), (15, .iconst 0, 1), (16, .istore 6, 2), (18, .iload 6, 2), (20, .bipush 20, 2), (22, .if_icmp .ge 83, 3), (25, .iload 6, 2), (27, .iconst 4, 1), (28, .if_icmp .ge 7, 3), (31, .iload_n 1, 1), (32, .goto 39, 3), (35, .iload 6, 2), (37, .bipush 8, 2), (39, .if_icmp .ge 7, 3), (42, .iload_n 2, 1), (43, .goto 28, 3), (46, .iload 6, 2), (48, .bipush 12, 2), (50, .if_icmp .ge 7, 3), (53, .iload_n 3, 1), (54, .goto 17, 3), (57, .iload 6, 2), (59, .bipush 16, 2), (61, .if_icmp .ge 8, 3), (64, .iload 4, 2), (66, .goto 5, 3), (69, .iload 5, 2), (71, .istore 7, 2), (73, .aload_n 0, 1), (74, .getfield 290, 3), (77, .aload_n 0, 1), (78, .getfield 340, 3), (81, .iload 6, 2), (83, .iadd, 1), (84, .iload 7, 2), (86, .bipush 24, 2), (88, .bipush 8, 2), (90, .iload 6, 2), (92, .iconst 4, 1), (93, .irem, 1), (94, .imul, 1), (95, .isub, 1), (96, .ishr, 1), (97, .i2b, 1), (98, .bastore, 1), (99, .iinc 6 1, 3), (102, .goto (-84), 3), (105, .aload_n 0, 1), (106, .dup, 1), (107, .getfield 340, 3), (110, .bipush 20, 2), (112, .iadd, 1), (113, .putfield 340, 3), (116, .aload_n 0, 1), (117, .getfield 340, 3), (120, .ireturn, 1)]
theorem dtX1_feed : chkD (mB tX1_feed) DX1_feed = true := by decide +kernel
theorem moX1_feed : MethOk tX1_feed 5 := ⟨Or.inl ⟨rfl, q603⟩, by decide +kernel, ⟨by decide, by decide⟩, by decide +kernel⟩
def mX1_feed (x1 : Int) (x2 : Int) (x3 : Int) (x4 : Int) (x5 : Int) (h : Hp) (Q : Rs → Hp → Prop) : Prop := nm ((hI h 50 21) + 20) ∧ if ¬ (((hI h 50 21) + 20) ≤ 800) then Q (rV (vI (-1))) h else wh2 (fun (C105 : Int → Hp → Prop) (x103 : Int) (h104 : Hp) => if ¬ (20 ≤ x103) then ∀ v108 : Int, v108 = (if ¬ (4 ≤ x103) then x1 else (if ¬ (8 ≤ x103) then x2 else (if ¬ (12 ≤ x103) then x3 else (if ¬ (16 ≤ x103) then x4 else x5)))) → nm ((hI h104 50 21) + x103) ∧ nm (8 * (Int.tmod x103 4)) ∧ nm (24 - (8 * (Int.tmod x103 4))) ∧ okI .byte (i2b (ishr v108 (24 - (8 * (Int.tmod x103 4))))) ∧ 0 ≤ ((hI h104 50 21) + x103) ∧ ((hI h104 50 21) + x103) < 800 ∧ ∀ h115 : Hp, h115 = sI h104 65 (Int.toNat ((hI h104 50 21) + x103)) (i2b (ishr v108 (24 - (8 * (Int.tmod x103 4))))) → nm (x103 + 1) ∧ ∀ i117 : Int, i117 = (x103 + 1) → C105 i117 h115 else nm ((hI h104 50 21) + 20) ∧ ∀ h146 : Hp, h146 = sI h104 50 21 ((hI h104 50 21) + 20) → Q (rV (vI (hI h146 50 21))) h146) 0 h
theorem wX1_feed {G : Gx} (hg : gF G = true) {d : Nat} {x1 : Int} {x2 : Int} {x3 : Int} {x4 : Int} {x5 : Int} {h : Hp} {Q : Rs → Hp → Prop} (hm : mX1_feed x1 x2 x3 x4 x5 h Q) : Ct G tX1_feed (d + 0) [vR 50, vI x1, vI x2, vI x3, vI x4, vI x5] h Q := by
  refine ct_enter (L0 := [some (vR 50), some (vI x1), some (vI x2), some (vI x3), some (vI x4), some (vI x5), none, none]) rfl rfl ?_
  unfold mX1_feed at hm
  obtain ⟨o101, hm⟩ := hm
  refine wc_aload_n (pc := 0) (dAt dtX1_feed 0 rfl) rfl (wc_getKI hg (pc := 1) (dAt dtX1_feed 1 rfl) flX1_340_1 rfl ka50 (wc_bipush (pc := 4) (dAt dtX1_feed 2 rfl) ⟨by decide, by decide, by decide⟩ (wc_iadd (pc := 6) (dAt dtX1_feed 3 rfl) o101 (wc_sipush (pc := 7) (dAt dtX1_feed 4 rfl) ⟨by decide, by decide, by decide⟩ (wc_icmp_le (pc := 10) (tgt := 15) (dAt dtX1_feed 5 rfl) (by decide) (fun c102 => ?_) (fun c102 => ?_))))))
  · replace hm := ite_f (fun z => z c102) hm
    refine wc_iconst (pc := 15) (dAt dtX1_feed 8 rfl) ⟨by decide, by decide⟩ (wc_istore (pc := 16) (dAt dtX1_feed 9 rfl) (by decide) (wc_L (L' := [some (vR 50), some (vI x1), some (vI x2), some (vI x3), some (vI x4), some (vI x5), some (vI 0), none]) rfl (?_)))
    refine wh2_ind (P := fun (x103 : Int) (h104 : Hp) => Wc G tX1_feed (d + 0) h Q 18 [some (vR 50), some (vI x1), some (vI x2), some (vI x3), some (vI x4), some (vI x5), some (vI x103), none] [] h104) (fun C105 ih106 x103 h104 hm => ?_) hm
    refine wc_iload (pc := 18) (dAt dtX1_feed 10 rfl) rfl (wc_bipush (pc := 20) (dAt dtX1_feed 11 rfl) ⟨by decide, by decide, by decide⟩ (wc_icmp_ge (pc := 22) (tgt := 105) (dAt dtX1_feed 12 rfl) (by decide) (fun c107 => ?_) (fun c107 => ?_)))
    · replace hm := ite_f (fun z => z c107) hm
      obtain ⟨o145, hm⟩ := hm
      obtain ⟨h146, eh146⟩ : ∃ h146 : Hp, h146 = sI h104 50 21 ((hI h104 50 21) + 20) := ⟨_, rfl⟩
      replace hm := hm h146 eh146
      exact wc_aload_n (pc := 105) (dAt dtX1_feed 54 rfl) rfl (wc_dup (pc := 106) (dAt dtX1_feed 55 rfl) rfl (wc_getKI hg (pc := 107) (dAt dtX1_feed 56 rfl) flX1_340_1 rfl ka50 (wc_bipush (pc := 110) (dAt dtX1_feed 57 rfl) ⟨by decide, by decide, by decide⟩ (wc_iadd (pc := 112) (dAt dtX1_feed 58 rfl) o145 (wc_putKI hg (pc := 113) (dAt dtX1_feed 59 rfl) flX1_340_1 (Or.inl rfl) rfl ka50 (by decide) (okI_int _) (wc_hp eh146 (wc_aload_n (pc := 116) (dAt dtX1_feed 60 rfl) rfl (wc_getKI hg (pc := 117) (dAt dtX1_feed 61 rfl) flX1_340_1 rfl ka50 (wc_iret (pc := 120) (dAt dtX1_feed 62 rfl) rfl (nar_int _) hm)))))))))
    · replace hm := ite_t c107 hm
      obtain ⟨v108, ev108⟩ : ∃ v108 : Int, v108 = (if ¬ (4 ≤ x103) then x1 else (if ¬ (8 ≤ x103) then x2 else (if ¬ (12 ≤ x103) then x3 else (if ¬ (16 ≤ x103) then x4 else x5)))) := ⟨_, rfl⟩
      replace hm := hm v108 ev108
      refine wc_iload (pc := 25) (dAt dtX1_feed 13 rfl) rfl (wc_iconst (pc := 27) (dAt dtX1_feed 14 rfl) ⟨by decide, by decide⟩ (?_))
      have kj118 : Wc G tX1_feed (d + 0) h Q 71 [some (vR 50), some (vI x1), some (vI x2), some (vI x3), some (vI x4), some (vI x5), some (vI x103), none] [vI v108] h104 := by
        obtain ⟨o109, o110, o111, o112, o113, o114, hm⟩ := hm
        obtain ⟨h115, eh115⟩ : ∃ h115 : Hp, h115 = sI h104 65 (Int.toNat ((hI h104 50 21) + x103)) (i2b (ishr v108 (24 - (8 * (Int.tmod x103 4))))) := ⟨_, rfl⟩
        replace hm := hm h115 eh115
        obtain ⟨o116, hm⟩ := hm
        obtain ⟨i117, ei117⟩ : ∃ i117 : Int, i117 = (x103 + 1) := ⟨_, rfl⟩
        replace hm := hm i117 ei117
        exact wc_istore (pc := 71) (dAt dtX1_feed 34 rfl) (by decide) (wc_L (L' := [some (vR 50), some (vI x1), some (vI x2), some (vI x3), some (vI x4), some (vI x5), some (vI x103), some (vI v108)]) rfl (wc_aload_n (pc := 73) (dAt dtX1_feed 35 rfl) rfl (wc_getKR hg (pc := 74) (dAt dtX1_feed 36 rfl) flX1_290_1 rfl ka50 kf50_15 (wc_aload_n (pc := 77) (dAt dtX1_feed 37 rfl) rfl (wc_getKI hg (pc := 78) (dAt dtX1_feed 38 rfl) flX1_340_1 rfl ka50 (wc_iload (pc := 81) (dAt dtX1_feed 39 rfl) rfl (wc_iadd (pc := 83) (dAt dtX1_feed 40 rfl) o109 (wc_iload (pc := 84) (dAt dtX1_feed 41 rfl) rfl (wc_bipush (pc := 86) (dAt dtX1_feed 42 rfl) ⟨by decide, by decide, by decide⟩ (wc_bipush (pc := 88) (dAt dtX1_feed 43 rfl) ⟨by decide, by decide, by decide⟩ (wc_iload (pc := 90) (dAt dtX1_feed 44 rfl) rfl (wc_iconst (pc := 92) (dAt dtX1_feed 45 rfl) ⟨by decide, by decide⟩ (wc_irem (pc := 93) (dAt dtX1_feed 46 rfl) (by decide) (wc_imul (pc := 94) (dAt dtX1_feed 47 rfl) o110 (wc_isub (pc := 95) (dAt dtX1_feed 48 rfl) o111 (wc_ishr (pc := 96) (dAt dtX1_feed 49 rfl) (wc_i2b (pc := 97) (dAt dtX1_feed 50 rfl) (wc_bastK hg (pc := 98) (dAt dtX1_feed 51 rfl) kr65 (by decide) o113 o114 o112 (wc_hp eh115 (wc_iinc (v := i117) (pc := 99) (dAt dtX1_feed 52 rfl) rfl ei117 (ei117 ▸ o116) (by decide) (wc_L (L' := [some (vR 50), some (vI x1), some (vI x2), some (vI x3), some (vI x4), some (vI x5), some (vI i117), some (vI v108)]) rfl (wc_goto (pc := 102) (tgt := 18) (dAt dtX1_feed 53 rfl) (by decide) (wc_drp [7] rfl (ih106 _ _ hm))))))))))))))))))))))))
      have k119 : (¬ (4 ≤ x103)) → Wc G tX1_feed (d + 0) h Q 31 [some (vR 50), some (vI x1), some (vI x2), some (vI x3), some (vI x4), some (vI x5), some (vI x103), none] [] h104 := fun c121 => by
        have z122 := kj118
        rw [show v108 = x1 from ev108.trans (if_pos c121)] at z122
        exact wc_iload_n (pc := 31) (dAt dtX1_feed 16 rfl) rfl (wc_goto (pc := 32) (tgt := 71) (dAt dtX1_feed 17 rfl) (by decide) (z122))
      have k120 : ¬ (¬ (4 ≤ x103)) → Wc G tX1_feed (d + 0) h Q 35 [some (vR 50), some (vI x1), some (vI x2), some (vI x3), some (vI x4), some (vI x5), some (vI x103), none] [] h104 := fun c121 => by
        have k124 : (¬ (8 ≤ x103)) → Wc G tX1_feed (d + 0) h Q 42 [some (vR 50), some (vI x1), some (vI x2), some (vI x3), some (vI x4), some (vI x5), some (vI x103), none] [] h104 := fun c126 => by
          have z127 := kj118
          rw [show v108 = x2 from ev108.trans ((if_neg c121).trans (if_pos c126))] at z127
          exact wc_iload_n (pc := 42) (dAt dtX1_feed 21 rfl) rfl (wc_goto (pc := 43) (tgt := 71) (dAt dtX1_feed 22 rfl) (by decide) (z127))
        have k125 : ¬ (¬ (8 ≤ x103)) → Wc G tX1_feed (d + 0) h Q 46 [some (vR 50), some (vI x1), some (vI x2), some (vI x3), some (vI x4), some (vI x5), some (vI x103), none] [] h104 := fun c126 => by
          have k129 : (¬ (12 ≤ x103)) → Wc G tX1_feed (d + 0) h Q 53 [some (vR 50), some (vI x1), some (vI x2), some (vI x3), some (vI x4), some (vI x5), some (vI x103), none] [] h104 := fun c131 => by
            have z132 := kj118
            rw [show v108 = x3 from ev108.trans ((if_neg c121).trans ((if_neg c126).trans (if_pos c131)))] at z132
            exact wc_iload_n (pc := 53) (dAt dtX1_feed 26 rfl) rfl (wc_goto (pc := 54) (tgt := 71) (dAt dtX1_feed 27 rfl) (by decide) (z132))
          have k130 : ¬ (¬ (12 ≤ x103)) → Wc G tX1_feed (d + 0) h Q 57 [some (vR 50), some (vI x1), some (vI x2), some (vI x3), some (vI x4), some (vI x5), some (vI x103), none] [] h104 := fun c131 => by
            have k134 : (¬ (16 ≤ x103)) → Wc G tX1_feed (d + 0) h Q 64 [some (vR 50), some (vI x1), some (vI x2), some (vI x3), some (vI x4), some (vI x5), some (vI x103), none] [] h104 := fun c136 => by
              have z137 := kj118
              rw [show v108 = x4 from ev108.trans ((if_neg c121).trans ((if_neg c126).trans ((if_neg c131).trans (if_pos c136))))] at z137
              exact wc_iload (pc := 64) (dAt dtX1_feed 31 rfl) rfl (wc_goto (pc := 66) (tgt := 71) (dAt dtX1_feed 32 rfl) (by decide) (z137))
            have k135 : ¬ (¬ (16 ≤ x103)) → Wc G tX1_feed (d + 0) h Q 69 [some (vR 50), some (vI x1), some (vI x2), some (vI x3), some (vI x4), some (vI x5), some (vI x103), none] [] h104 := fun c136 => by
              have z139 := kj118
              rw [show v108 = x5 from ev108.trans ((if_neg c121).trans ((if_neg c126).trans ((if_neg c131).trans (if_neg c136))))] at z139
              exact wc_iload (pc := 69) (dAt dtX1_feed 33 rfl) rfl (z139)
            exact wc_iload (pc := 57) (dAt dtX1_feed 28 rfl) rfl (wc_bipush (pc := 59) (dAt dtX1_feed 29 rfl) ⟨by decide, by decide, by decide⟩ (wc_icmp_ge (pc := 61) (tgt := 69) (dAt dtX1_feed 30 rfl) (by decide) (fun c141 => (k135 (fun z => z c141))) (fun c141 => (k134 c141))))
          exact wc_iload (pc := 46) (dAt dtX1_feed 23 rfl) rfl (wc_bipush (pc := 48) (dAt dtX1_feed 24 rfl) ⟨by decide, by decide, by decide⟩ (wc_icmp_ge (pc := 50) (tgt := 57) (dAt dtX1_feed 25 rfl) (by decide) (fun c142 => (k130 (fun z => z c142))) (fun c142 => (k129 c142))))
        exact wc_iload (pc := 35) (dAt dtX1_feed 18 rfl) rfl (wc_bipush (pc := 37) (dAt dtX1_feed 19 rfl) ⟨by decide, by decide, by decide⟩ (wc_icmp_ge (pc := 39) (tgt := 46) (dAt dtX1_feed 20 rfl) (by decide) (fun c143 => (k125 (fun z => z c143))) (fun c143 => (k124 c143))))
      exact wc_icmp_ge (pc := 28) (tgt := 35) (dAt dtX1_feed 15 rfl) (by decide) (fun c144 => (k120 (fun z => z c144))) (fun c144 => (k119 c144))
  · replace hm := ite_t c102 hm
    exact wc_iconst (pc := 13) (dAt dtX1_feed 6 rfl) ⟨by decide, by decide⟩ (wc_iret (pc := 14) (dAt dtX1_feed 7 rfl) rfl (nar_int _) hm)
def tX4_lays : Mt := (⟨"FlyingDoctorsModel", "lays", "(I)V"⟩, prog_24_method_17_code, 3, (Option.none : Option Jvm.ClassFile.FieldType), [])
def DX4_lays : List (Nat × Instr × Nat) := [(0, .bipush 24, 2), (2, .istore_n 2, 1), (3, .iload_n 2, 1), (4, .ifCond .lt 35, 3), (7, .aload_n 0, 1), (8, .getfield 91, 3), (11, .aload_n 0, 1), (12, .getfield 84, 3), (15, .iload_n 1, 1), (16, .iload_n 2, 1), (17, .ishr, 1), (18, .sipush 255, 3), (21, .iand, 1), (22, .iastore, 1), (23, .aload_n 0, 1), (24, .dup, 1), (25, .getfield 84, 3), (28, .iconst 1, 1), (29, .iadd, 1), (30, .putfield 84, 3), (33, .iinc 2 (-8), 3), (36, .goto (-33), 3), (39, .return_, 1)]
theorem dtX4_lays : chkD (mB tX4_lays) DX4_lays = true := by decide +kernel
theorem moX4_lays : MethOk tX4_lays 1 := ⟨Or.inl ⟨rfl, q2165⟩, by decide +kernel, ⟨by decide, by decide⟩, by decide +kernel⟩
def mX4_lays (x1 : Int) (h : Hp) (Q : Rs → Hp → Prop) : Prop := wh2 (fun (C103 : Int → Hp → Prop) (x101 : Int) (h102 : Hp) => if ¬ (x101 < 0) then 0 ≤ (hI h102 75 23) ∧ (hI h102 75 23) < 800 ∧ ∀ h108 : Hp, h108 = sI h102 93 (Int.toNat (hI h102 75 23)) (iand (ishr x1 x101) 255) → nm ((hI h108 75 23) + 1) ∧ ∀ h110 : Hp, h110 = sI h108 75 23 ((hI h108 75 23) + 1) → nm (x101 + (-8)) ∧ ∀ i112 : Int, i112 = (x101 + (-8)) → C103 i112 h110 else Q rN h102) 24 h
theorem wX4_lays {G : Gx} (hg : gF G = true) {d : Nat} {x1 : Int} {h : Hp} {Q : Rs → Hp → Prop} (hm : mX4_lays x1 h Q) : Ct G tX4_lays (d + 0) [vR 75, vI x1] h Q := by
  refine ct_enter (L0 := [some (vR 75), some (vI x1), none]) rfl rfl ?_
  unfold mX4_lays at hm
  refine wc_bipush (pc := 0) (dAt dtX4_lays 0 rfl) ⟨by decide, by decide, by decide⟩ (wc_istore_n (pc := 2) (dAt dtX4_lays 1 rfl) (by decide) (wc_L (L' := [some (vR 75), some (vI x1), some (vI 24)]) rfl (?_)))
  refine wh2_ind (P := fun (x101 : Int) (h102 : Hp) => Wc G tX4_lays (d + 0) h Q 3 [some (vR 75), some (vI x1), some (vI x101)] [] h102) (fun C103 ih104 x101 h102 hm => ?_) hm
  refine wc_iload_n (pc := 3) (dAt dtX4_lays 2 rfl) rfl (wc_if_lt (pc := 4) (tgt := 39) (dAt dtX4_lays 3 rfl) (by decide) (fun c105 => ?_) (fun c105 => ?_))
  · replace hm := ite_f (fun z => z c105) hm
    exact wc_vret (pc := 39) (dAt dtX4_lays 22 rfl) rfl hm
  · replace hm := ite_t c105 hm
    obtain ⟨o106, o107, hm⟩ := hm
    obtain ⟨h108, eh108⟩ : ∃ h108 : Hp, h108 = sI h102 93 (Int.toNat (hI h102 75 23)) (iand (ishr x1 x101) 255) := ⟨_, rfl⟩
    replace hm := hm h108 eh108
    obtain ⟨o109, hm⟩ := hm
    obtain ⟨h110, eh110⟩ : ∃ h110 : Hp, h110 = sI h108 75 23 ((hI h108 75 23) + 1) := ⟨_, rfl⟩
    replace hm := hm h110 eh110
    obtain ⟨o111, hm⟩ := hm
    obtain ⟨i112, ei112⟩ : ∃ i112 : Int, i112 = (x101 + (-8)) := ⟨_, rfl⟩
    replace hm := hm i112 ei112
    exact wc_aload_n (pc := 7) (dAt dtX4_lays 4 rfl) rfl (wc_getKR hg (pc := 8) (dAt dtX4_lays 5 rfl) flX4_91_4 rfl ka75 kf75_22 (wc_aload_n (pc := 11) (dAt dtX4_lays 6 rfl) rfl (wc_getKI hg (pc := 12) (dAt dtX4_lays 7 rfl) flX4_84_4 rfl ka75 (wc_iload_n (pc := 15) (dAt dtX4_lays 8 rfl) rfl (wc_iload_n (pc := 16) (dAt dtX4_lays 9 rfl) rfl (wc_ishr (pc := 17) (dAt dtX4_lays 10 rfl) (wc_sipush (pc := 18) (dAt dtX4_lays 11 rfl) ⟨by decide, by decide, by decide⟩ (wc_iand (pc := 21) (dAt dtX4_lays 12 rfl) (wc_iastK hg (pc := 22) (dAt dtX4_lays 13 rfl) kr93 (by decide) o106 o107 (wc_hp eh108 (wc_aload_n (pc := 23) (dAt dtX4_lays 14 rfl) rfl (wc_dup (pc := 24) (dAt dtX4_lays 15 rfl) rfl (wc_getKI hg (pc := 25) (dAt dtX4_lays 16 rfl) flX4_84_4 rfl ka75 (wc_iconst (pc := 28) (dAt dtX4_lays 17 rfl) ⟨by decide, by decide⟩ (wc_iadd (pc := 29) (dAt dtX4_lays 18 rfl) o109 (wc_putKI hg (pc := 30) (dAt dtX4_lays 19 rfl) flX4_84_4 (Or.inl rfl) rfl ka75 (by decide) (okI_int _) (wc_hp eh110 (wc_iinc (v := i112) (pc := 33) (dAt dtX4_lays 20 rfl) rfl ei112 (ei112 ▸ o111) (by decide) (wc_L (L' := [some (vR 75), some (vI x1), some (vI i112)]) rfl (wc_goto (pc := 36) (tgt := 3) (dAt dtX4_lays 21 rfl) (by decide) (ih104 _ _ hm)))))))))))))))))))))
def tX4_feed : Mt := (⟨"FlyingDoctorsModel", "feed", "(IIIII)I"⟩, prog_24_method_16_code, 6, (Option.some Jvm.ClassFile.FieldType.int), [])
def DX4_feed : List (Nat × Instr × Nat) := [(0, .aload_n 0, 1), (1, .iconst 0, 1), (2, .putfield 1, 3), (5, .aload_n 0, 1), (6, .getfield 84, 3), (9, .bipush 20, 2), (11, .iadd, 1), (12, .sipush 800, 3), (15, .if_icmp .le 5, 3), (18, .iconst (-1), 1), (19, .ireturn, 1), (20, .aload_n 0, 1), (21, .iload_n 1, 1), (22, .invokevirtual 87, 3), (25, .aload_n 0, 1), (26, .iload_n 2, 1), (27, .invokevirtual 87, 3), (30, .aload_n 0, 1), (31, .iload_n 3, 1), (32, .invokevirtual 87, 3), (35, .aload_n 0, 1), (36, .iload 4, 2), (38, .invokevirtual 87, 3), (41, .aload_n 0, 1), (42, .iload 5, 2), (44, .invokevirtual 87, 3), (47, .aload_n 0, 1), (48, .getfield 84, 3), (51, .ireturn, 1)]
theorem dtX4_feed : chkD (mB tX4_feed) DX4_feed = true := by decide +kernel
theorem moX4_feed : MethOk tX4_feed 5 := ⟨Or.inl ⟨rfl, q2161⟩, by decide +kernel, ⟨by decide, by decide⟩, by decide +kernel⟩
def mX4_feed (x1 : Int) (x2 : Int) (x3 : Int) (x4 : Int) (x5 : Int) (h : Hp) (Q : Rs → Hp → Prop) : Prop := ∀ h101 : Hp, h101 = sI h 75 0 0 → nm ((hI h101 75 23) + 20) ∧ if ¬ (((hI h101 75 23) + 20) ≤ 800) then Q (rV (vI (-1))) h101 else mX4_lays x1 h101 (kN Q (fun h104 => mX4_lays x2 h104 (kN Q (fun h105 => mX4_lays x3 h105 (kN Q (fun h106 => mX4_lays x4 h106 (kN Q (fun h107 => mX4_lays x5 h107 (kN Q (fun h108 => Q (rV (vI (hI h108 75 23))) h108))))))))))
theorem wX4_feed {G : Gx} (hg : gF G = true) {d : Nat} {x1 : Int} {x2 : Int} {x3 : Int} {x4 : Int} {x5 : Int} {h : Hp} {Q : Rs → Hp → Prop} (hm : mX4_feed x1 x2 x3 x4 x5 h Q) : Ct G tX4_feed (d + 1) [vR 75, vI x1, vI x2, vI x3, vI x4, vI x5] h Q := by
  refine ct_enter (L0 := [some (vR 75), some (vI x1), some (vI x2), some (vI x3), some (vI x4), some (vI x5)]) rfl rfl ?_
  unfold mX4_feed at hm
  obtain ⟨h101, eh101⟩ : ∃ h101 : Hp, h101 = sI h 75 0 0 := ⟨_, rfl⟩
  replace hm := hm h101 eh101
  obtain ⟨o102, hm⟩ := hm
  refine wc_aload_n (pc := 0) (dAt dtX4_feed 0 rfl) rfl (wc_iconst (pc := 1) (dAt dtX4_feed 1 rfl) ⟨by decide, by decide⟩ (wc_putKI hg (pc := 2) (dAt dtX4_feed 2 rfl) flX4_1_4 (Or.inl rfl) rfl ka75 (by decide) (okI_int _) (wc_hp eh101 (wc_aload_n (pc := 5) (dAt dtX4_feed 3 rfl) rfl (wc_getKI hg (pc := 6) (dAt dtX4_feed 4 rfl) flX4_84_4 rfl ka75 (wc_bipush (pc := 9) (dAt dtX4_feed 5 rfl) ⟨by decide, by decide, by decide⟩ (wc_iadd (pc := 11) (dAt dtX4_feed 6 rfl) o102 (wc_sipush (pc := 12) (dAt dtX4_feed 7 rfl) ⟨by decide, by decide, by decide⟩ (wc_icmp_le (pc := 15) (tgt := 20) (dAt dtX4_feed 8 rfl) (by decide) (fun c103 => ?_) (fun c103 => ?_))))))))))
  · replace hm := ite_f (fun z => z c103) hm
    refine wc_aload_n (pc := 20) (dAt dtX4_feed 11 rfl) rfl (wc_iload_n (pc := 21) (dAt dtX4_feed 12 rfl) rfl (wc_kf hg fun zk => wc_callV (k := 4) (y' := tX4_lays) (av := [vI x1]) (st := []) (pc := 22) (dAt dtX4_feed 13 rfl) lkX4_87 moX4_lays q2164 qs65 (by decide) (zk.2 _ ka75).1 rfl rfl (Nat.le_of_ble_eq_true rfl) (wX4_lays hg hm) (kr_N (fun h104 hm => ?_)) (kx_N rfl)))
    refine wc_aload_n (pc := 25) (dAt dtX4_feed 14 rfl) rfl (wc_iload_n (pc := 26) (dAt dtX4_feed 15 rfl) rfl (wc_kf hg fun zk => wc_callV (k := 4) (y' := tX4_lays) (av := [vI x2]) (st := []) (pc := 27) (dAt dtX4_feed 16 rfl) lkX4_87 moX4_lays q2164 qs65 (by decide) (zk.2 _ ka75).1 rfl rfl (Nat.le_of_ble_eq_true rfl) (wX4_lays hg hm) (kr_N (fun h105 hm => ?_)) (kx_N rfl)))
    refine wc_aload_n (pc := 30) (dAt dtX4_feed 17 rfl) rfl (wc_iload_n (pc := 31) (dAt dtX4_feed 18 rfl) rfl (wc_kf hg fun zk => wc_callV (k := 4) (y' := tX4_lays) (av := [vI x3]) (st := []) (pc := 32) (dAt dtX4_feed 19 rfl) lkX4_87 moX4_lays q2164 qs65 (by decide) (zk.2 _ ka75).1 rfl rfl (Nat.le_of_ble_eq_true rfl) (wX4_lays hg hm) (kr_N (fun h106 hm => ?_)) (kx_N rfl)))
    refine wc_aload_n (pc := 35) (dAt dtX4_feed 20 rfl) rfl (wc_iload (pc := 36) (dAt dtX4_feed 21 rfl) rfl (wc_kf hg fun zk => wc_callV (k := 4) (y' := tX4_lays) (av := [vI x4]) (st := []) (pc := 38) (dAt dtX4_feed 22 rfl) lkX4_87 moX4_lays q2164 qs65 (by decide) (zk.2 _ ka75).1 rfl rfl (Nat.le_of_ble_eq_true rfl) (wX4_lays hg hm) (kr_N (fun h107 hm => ?_)) (kx_N rfl)))
    refine wc_aload_n (pc := 41) (dAt dtX4_feed 23 rfl) rfl (wc_iload (pc := 42) (dAt dtX4_feed 24 rfl) rfl (wc_kf hg fun zk => wc_callV (k := 4) (y' := tX4_lays) (av := [vI x5]) (st := []) (pc := 44) (dAt dtX4_feed 25 rfl) lkX4_87 moX4_lays q2164 qs65 (by decide) (zk.2 _ ka75).1 rfl rfl (Nat.le_of_ble_eq_true rfl) (wX4_lays hg hm) (kr_N (fun h108 hm => ?_)) (kx_N rfl)))
    exact wc_aload_n (pc := 47) (dAt dtX4_feed 26 rfl) rfl (wc_getKI hg (pc := 48) (dAt dtX4_feed 27 rfl) flX4_84_4 rfl ka75 (wc_iret (pc := 51) (dAt dtX4_feed 28 rfl) rfl (nar_int _) hm))
  · replace hm := ite_t c103 hm
    exact wc_iconst (pc := 18) (dAt dtX4_feed 9 rfl) ⟨by decide, by decide⟩ (wc_iret (pc := 19) (dAt dtX4_feed 10 rfl) rfl (nar_int _) hm)
