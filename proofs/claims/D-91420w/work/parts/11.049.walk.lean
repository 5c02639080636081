set_option maxRecDepth 100000
set_option maxHeartbeats 1000000
/-! what methods do, and their walks, by program -/
def tX0_round : Mt := (⟨"FlyingDoctorsLaw", "round", "(LFlyingDoctors;III[J)I"⟩, method_26_code, 6, (Option.some Jvm.ClassFile.FieldType.int), [((0 : Nat), (12 : Nat), (15 : Nat), (13 : Nat))])
def DX0_round : List (Nat × Instr × Nat) := [(0, .aload 4, 2), (2, .iconst 0, 1), (3, .aload_n 0, 1), (4, .iload_n 1, 1), (5, .iload_n 2, 1), (6, .iload_n 3, 1), (7, .invokevirtual 92, 3), (10, .i2l, 1), (11, .lastore, 1), (12, .goto 7, 3), (15, .astore 5, 2), (17, .iconst 1, 1), (18, .ireturn, 1), (19, .iconst 0, 1), (20, .ireturn, 1)]
theorem dtX0_round : chkD (mB tX0_round) DX0_round = true := by decide +kernel
theorem moX0_round : MethOk tX0_round 5 := ⟨Or.inr q2069, by decide +kernel, ⟨by decide, by decide⟩, by decide +kernel⟩
def mX0_round (x1 : Int) (x2 : Int) (x3 : Int) (h : Hp) (Q : Rs → Hp → Prop) : Prop := mX1_round x1 x2 x3 h (kIx (fun a103 h104 => ob h104 a103 41 ∧ (Q (rV (vI 1)) h104)) (fun x102 h101 => ∀ h106 : Hp, h106 = sL h101 158 0 x102 → Q (rV (vI 0)) h106))
theorem wX0_round {G : Gx} (hg : gF G = true) {d : Nat} {x1 : Int} {x2 : Int} {x3 : Int} {h : Hp} {Q : Rs → Hp → Prop} (hm : mX0_round x1 x2 x3 h Q) : Ct G tX0_round (d + 11) [vR 50, vI x1, vI x2, vI x3, vR 158] h Q := by
  refine ct_enter (L0 := [some (vR 50), some (vI x1), some (vI x2), some (vI x3), some (vR 158), none]) rfl rfl ?_
  unfold mX0_round at hm
  refine wc_aload (pc := 0) (dAt dtX0_round 0 rfl) rfl (wc_iconst (pc := 2) (dAt dtX0_round 1 rfl) ⟨by decide, by decide⟩ (wc_aload_n (pc := 3) (dAt dtX0_round 2 rfl) rfl (wc_iload_n (pc := 4) (dAt dtX0_round 3 rfl) rfl (wc_iload_n (pc := 5) (dAt dtX0_round 4 rfl) rfl (wc_iload_n (pc := 6) (dAt dtX0_round 5 rfl) rfl (wc_kf hg fun zk => wc_callV (k := 1) (y' := tX1_round) (av := [vI x1, vI x2, vI x3]) (st := [vI 0, vR 158]) (pc := 7) (dAt dtX0_round 6 rfl) lkX0_92 moX1_round q2071 q2072 (by decide) (zk.2 _ ka50).1 rfl rfl (Nat.le_of_ble_eq_true rfl) (wX1_round hg hm) (krx_I (fun x102 h101 hm => ?_)) (kxx_I (fun a103 h104 hm => ?_))))))))
  · obtain ⟨h106, eh106⟩ : ∃ h106 : Hp, h106 = sL h101 158 0 x102 := ⟨_, rfl⟩
    replace hm := hm h106 eh106
    exact wc_i2l (pc := 10) (dAt dtX0_round 7 rfl) (wc_lastK hg (pc := 11) (dAt dtX0_round 8 rfl) kr158 (by decide) (by decide) (by decide) (wc_hp eh106 (wc_goto (pc := 12) (tgt := 19) (dAt dtX0_round 9 rfl) (by decide) (wc_iconst (pc := 19) (dAt dtX0_round 13 rfl) ⟨by decide, by decide⟩ (wc_iret (pc := 20) (dAt dtX0_round 14 rfl) rfl (nar_int _) hm)))))
  · obtain ⟨o105, hm⟩ := hm
    refine wx_hit rfl rfl (by decide) q676 (by decide) o105 rfl ?_
    exact wc_astore (pc := 15) (dAt dtX0_round 10 rfl) (by decide) (wc_L (L' := [some (vR 50), some (vI x1), some (vI x2), some (vI x3), some (vR 158), some (vR a103)]) rfl (wc_iconst (pc := 17) (dAt dtX0_round 11 rfl) ⟨by decide, by decide⟩ (wc_iret (pc := 18) (dAt dtX0_round 12 rfl) rfl (nar_int _) hm)))
def tX4_round : Mt := (⟨"FlyingDoctorsModel", "round", "(III)I"⟩, prog_24_method_100_code, 4, (Option.some Jvm.ClassFile.FieldType.int), [])
def DX4_round : List (Nat × Instr × Nat) := [(0, .aload_n 0, 1), (1, .iconst 0, 1), (2, .putfield 1, 3), (5, .aload_n 0, 1), (6, .iload_n 1, 1), (7, .invokevirtual 475, 3), (10, .ifCond .eq 41, 3), (13, .aload_n 0, 1), (14, .iload_n 2, 1), (15, .ifCond .lt 28, 3), (18, .iload_n 2, 1), (19, .aload_n 0, 1), (20, .getfield 7, 3), (23, .if_icmp .ge 20, 3), (26, .iload_n 3, 1), (27, .ifCond .lt 16, 3), (30, .iload_n 3, 1), (31, .aload_n 0, 1), (32, .getfield 577, 3), (35, .ishr, 1), (36, .ifCond .ne 7, 3), (39, .iconst 1, 1), (40, .goto 4, 3), (43, .iconst 0, 1), (44, .iconst 1, 1), (45, .invokevirtual 10, 3), (48, .ifCond .ne 5, 3), (51, .iconst 0, 1), (52, .ireturn, 1), (53, .aload_n 0, 1), (54, .iload_n 1, 1), (55, .iload_n 2, 1), (56, .invokevirtual 580, 3), (59, .aload_n 0, 1), (60, .getfield 310, 3), (63, .iload_n 3, 1), (64, .iaload, 1), (65, .ireturn, 1)]
theorem dtX4_round : chkD (mB tX4_round) DX4_round = true := by decide +kernel
theorem moX4_round : MethOk tX4_round 3 := ⟨Or.inl ⟨rfl, q2866⟩, by decide +kernel, ⟨by decide, by decide⟩, by decide +kernel⟩
def mX4_round (x1 : Int) (x2 : Int) (x3 : Int) (h : Hp) (Q : Rs → Hp → Prop) : Prop := ∀ h101 : Hp, h101 = sI h 75 0 0 → mX4_isPlane x1 h101 (kI Q (fun x103 h102 => if ¬ (x103 = 0) then ∀ v105 : Int, v105 = (b2i (¬ (x2 < 0) ∧ (¬ ((hI h102 75 2) ≤ x2) ∧ (¬ (x3 < 0) ∧ (¬ ((ishr x3 (hI h102 75 98)) ≠ 0)))))) → mX4_right v105 1 h102 (kI Q (fun x107 h106 => if ¬ (x107 ≠ 0) then Q (rV (vI 0)) h106 else mX4_roundsOf x1 x2 h106 (kN Q (fun h109 => 0 ≤ x3 ∧ x3 < 256 ∧ Q (rV (vI (hI h109 148 (Int.toNat x3)))) h109)))) else Q (rV (vI 0)) h102))
theorem wX4_round {G : Gx} (hg : gF G = true) {d : Nat} {x1 : Int} {x2 : Int} {x3 : Int} {h : Hp} {Q : Rs → Hp → Prop} (hm : mX4_round x1 x2 x3 h Q) : Ct G tX4_round (d + 4) [vR 75, vI x1, vI x2, vI x3] h Q := by
  refine ct_enter (L0 := [some (vR 75), some (vI x1), some (vI x2), some (vI x3)]) rfl rfl ?_
  unfold mX4_round at hm
  obtain ⟨h101, eh101⟩ : ∃ h101 : Hp, h101 = sI h 75 0 0 := ⟨_, rfl⟩
  replace hm := hm h101 eh101
  refine wc_aload_n (pc := 0) (dAt dtX4_round 0 rfl) rfl (wc_iconst (pc := 1) (dAt dtX4_round 1 rfl) ⟨by decide, by decide⟩ (wc_putKI hg (pc := 2) (dAt dtX4_round 2 rfl) flX4_1_4 (Or.inl rfl) rfl ka75 (by decide) (okI_int _) (wc_hp eh101 (wc_aload_n (pc := 5) (dAt dtX4_round 3 rfl) rfl (wc_iload_n (pc := 6) (dAt dtX4_round 4 rfl) rfl (wc_kf hg fun zk => wc_callV (k := 4) (y' := tX4_isPlane) (av := [vI x1]) (st := []) (pc := 7) (dAt dtX4_round 5 rfl) lkX4_475 moX4_isPlane q2667 qs91 (by decide) (zk.2 _ ka75).1 rfl rfl (Nat.le_of_ble_eq_true rfl) (wX4_isPlane hg hm) (kr_I (fun x103 h102 hm => ?_)) (kx_I rfl)))))))
  refine wc_if_eq (pc := 10) (tgt := 51) (dAt dtX4_round 6 rfl) (by decide) (fun c104 => ?_) (fun c104 => ?_)
  · replace hm := ite_f (fun z => z c104) hm
    exact wc_iconst (pc := 51) (dAt dtX4_round 27 rfl) ⟨by decide, by decide⟩ (wc_iret (pc := 52) (dAt dtX4_round 28 rfl) rfl (nar_int _) hm)
  · replace hm := ite_t c104 hm
    obtain ⟨v105, ev105⟩ : ∃ v105 : Int, v105 = (b2i (¬ (x2 < 0) ∧ (¬ ((hI h102 75 2) ≤ x2) ∧ (¬ (x3 < 0) ∧ (¬ ((ishr x3 (hI h102 75 98)) ≠ 0)))))) := ⟨_, rfl⟩
    replace hm := hm v105 ev105
    refine wc_aload_n (pc := 13) (dAt dtX4_round 7 rfl) rfl (wc_iload_n (pc := 14) (dAt dtX4_round 8 rfl) rfl (?_))
    have kj112 : Wc G tX4_round (d + 4) h Q 44 [some (vR 75), some (vI x1), some (vI x2), some (vI x3)] [vI v105, vR 75] h102 := by
      refine wc_iconst (pc := 44) (dAt dtX4_round 24 rfl) ⟨by decide, by decide⟩ (wc_kf hg fun zk => wc_callV (k := 4) (y' := tX4_right) (av := [vI v105, vI 1]) (st := []) (pc := 45) (dAt dtX4_round 25 rfl) lkX4_10 moX4_right q2152 qs64 (by decide) (zk.2 _ ka75).1 rfl rfl (Nat.le_of_ble_eq_true rfl) (wX4_right hg hm) (kr_I (fun x107 h106 hm => ?_)) (kx_I rfl))
      refine wc_if_ne (pc := 48) (tgt := 53) (dAt dtX4_round 26 rfl) (by decide) (fun c108 => ?_) (fun c108 => ?_)
      · replace hm := ite_f (fun z => z c108) hm
        refine wc_aload_n (pc := 53) (dAt dtX4_round 29 rfl) rfl (wc_iload_n (pc := 54) (dAt dtX4_round 30 rfl) rfl (wc_iload_n (pc := 55) (dAt dtX4_round 31 rfl) rfl (wc_kf hg fun zk => wc_callV (k := 4) (y' := tX4_roundsOf) (av := [vI x1, vI x2]) (st := []) (pc := 56) (dAt dtX4_round 32 rfl) lkX4_580 moX4_roundsOf q2869 qs119 (by decide) (zk.2 _ ka75).1 rfl rfl (Nat.le_of_ble_eq_true rfl) (wX4_roundsOf hg hm) (kr_N (fun h109 hm => ?_)) (kx_N rfl))))
        obtain ⟨o110, o111, hm⟩ := hm
        exact wc_aload_n (pc := 59) (dAt dtX4_round 33 rfl) rfl (wc_getKR hg (pc := 60) (dAt dtX4_round 34 rfl) flX4_310_4 rfl ka75 kf75_105 (wc_iload_n (pc := 63) (dAt dtX4_round 35 rfl) rfl (wc_ialdK hg (pc := 64) (dAt dtX4_round 36 rfl) kr148 o110 o111 (wc_iret (pc := 65) (dAt dtX4_round 37 rfl) rfl (nar_int _) hm))))
      · replace hm := ite_t c108 hm
        exact wc_iconst (pc := 51) (dAt dtX4_round 27 rfl) ⟨by decide, by decide⟩ (wc_iret (pc := 52) (dAt dtX4_round 28 rfl) rfl (nar_int _) hm)
    have k113 : (¬ (x2 < 0) ∧ (¬ ((hI h102 75 2) ≤ x2) ∧ (¬ (x3 < 0) ∧ (¬ ((ishr x3 (hI h102 75 98)) ≠ 0))))) → Wc G tX4_round (d + 4) h Q 39 [some (vR 75), some (vI x1), some (vI x2), some (vI x3)] [vR 75] h102 := fun c115 => by
      have z116 := kj112
      rw [show v105 = 1 from ev105.trans (b2i_t c115)] at z116
      exact wc_iconst (pc := 39) (dAt dtX4_round 21 rfl) ⟨by decide, by decide⟩ (wc_goto (pc := 40) (tgt := 44) (dAt dtX4_round 22 rfl) (by decide) (z116))
    have k114 : ¬ (¬ (x2 < 0) ∧ (¬ ((hI h102 75 2) ≤ x2) ∧ (¬ (x3 < 0) ∧ (¬ ((ishr x3 (hI h102 75 98)) ≠ 0))))) → Wc G tX4_round (d + 4) h Q 43 [some (vR 75), some (vI x1), some (vI x2), some (vI x3)] [vR 75] h102 := fun c115 => by
      have z118 := kj112
      rw [show v105 = 0 from ev105.trans (b2i_f c115)] at z118
      exact wc_iconst (pc := 43) (dAt dtX4_round 23 rfl) ⟨by decide, by decide⟩ (z118)
    exact wc_if_lt (pc := 15) (tgt := 43) (dAt dtX4_round 9 rfl) (by decide) (fun c120 => (k114 (fun z => z.1 c120))) (fun c120 => wc_iload_n (pc := 18) (dAt dtX4_round 10 rfl) rfl (wc_aload_n (pc := 19) (dAt dtX4_round 11 rfl) rfl (wc_getKI hg (pc := 20) (dAt dtX4_round 12 rfl) flX4_7_4 rfl ka75 (wc_icmp_ge (pc := 23) (tgt := 43) (dAt dtX4_round 13 rfl) (by decide) (fun c121 => (k114 (fun z => (fun z => z.1 c121) z.2))) (fun c121 => wc_iload_n (pc := 26) (dAt dtX4_round 14 rfl) rfl (wc_if_lt (pc := 27) (tgt := 43) (dAt dtX4_round 15 rfl) (by decide) (fun c122 => (k114 (fun z => (fun z => (fun z => z.1 c122) z.2) z.2))) (fun c122 => wc_iload_n (pc := 30) (dAt dtX4_round 16 rfl) rfl (wc_aload_n (pc := 31) (dAt dtX4_round 17 rfl) rfl (wc_getKI hg (pc := 32) (dAt dtX4_round 18 rfl) flX4_577_4 rfl ka75 (wc_ishr (pc := 35) (dAt dtX4_round 19 rfl) (wc_if_ne (pc := 36) (tgt := 43) (dAt dtX4_round 20 rfl) (by decide) (fun c123 => (k114 (fun z => (fun z => (fun z => (fun z => z c123) z.2) z.2) z.2))) (fun c123 => (k113 ⟨c120, ⟨c121, ⟨c122, c123⟩⟩⟩)))))))))))))
def tX1_number : Mt := (⟨"FlyingDoctors", "number", "(I)V"⟩, prog_1_method_64_code, 1, (Option.none : Option Jvm.ClassFile.FieldType), [])
def DX1_number : List (Nat × Instr × Nat) := [(0, .iload_n 0, 1), (1, .iconst 1, 1), (2, .bipush 30, 2), (4, .invokestatic 314, 3), (7, .invokestatic 318, 3), (10, .return_, 1)]
theorem dtX1_number : chkD (mB tX1_number) DX1_number = true := by decide +kernel
theorem moX1_number : MethOk tX1_number 1 := ⟨Or.inl ⟨rfl, q2083⟩, by decide +kernel, ⟨by decide, by decide⟩, by decide +kernel⟩
def mX1_number (x0 : Int) (h : Hp) (Q : Rs → Hp → Prop) : Prop := mX1_found (vX1_in x0 1 30 h) h (kN Q (fun h101 => Q rN h101))
theorem wX1_number {G : Gx} (hg : gF G = true) {d : Nat} {x0 : Int} {h : Hp} {Q : Rs → Hp → Prop} (hm : mX1_number x0 h Q) : Ct G tX1_number (d + 9) [vI x0] h Q := by
  refine ct_enter (L0 := [some (vI x0)]) rfl rfl ?_
  unfold mX1_number at hm
  refine wc_iload_n (pc := 0) (dAt dtX1_number 0 rfl) rfl (wc_iconst (pc := 1) (dAt dtX1_number 1 rfl) ⟨by decide, by decide⟩ (wc_bipush (pc := 2) (dAt dtX1_number 2 rfl) ⟨by decide, by decide, by decide⟩ (wc_callS (y' := tX1_in) (P := eI (vX1_in x0 1 30 h) h) (pc := 4) (dAt dtX1_number 3 rfl) lkX1_314 moX1_in q374 q128 rfl rfl (Nat.le_of_ble_eq_true rfl) (wX1_in hg ⟨rfl, rfl⟩) (ep_I (wc_callS (y' := tX1_found) (av := [vI (vX1_in x0 1 30 h)]) (st := []) (pc := 7) (dAt dtX1_number 4 rfl) lkX1_318 moX1_found q687 q128 rfl rfl (Nat.le_of_ble_eq_true rfl) (wX1_found hg hm) (kr_N (fun h101 hm => ?_)) (kx_N rfl))) ex_I)))
  exact wc_vret (pc := 10) (dAt dtX1_number 5 rfl) rfl hm
def tX1_chest : Mt := (⟨"FlyingDoctors", "chest", "(III)I"⟩, prog_1_method_65_code, 6, (Option.some Jvm.ClassFile.FieldType.int), [])
def DX1_chest : List (Nat × Instr × Nat) := [(0, .aload_n 0, 1), (1, .iload_n 1, 1), (2, .invokevirtual 334, 3), (5, .astore 4, 2), (7, .iload_n 2, 1), (8, .invokestatic 527, 3), (11, .iload_n 3, 1), (12, .iconst 0, 1), (13, .sipush 999, 3), (16, .invokestatic 314, 3), (19, .invokestatic 337, 3), (22, .aload 4, 2), (24, .getfield 530, 3), (27, .iload_n 2, 1), (28, .iaload, 1), (29, .istore 5, 2), (31, .aload 4, 2), (33, .getfield 530, 3), (36, .iload_n 2, 1), (37, .iload_n 3, 1), (38, .iastore, 1), (39, .iload 5, 2), (41, .ireturn, 1)]
theorem dtX1_chest : chkD (mB tX1_chest) DX1_chest = true := by decide +kernel
theorem moX1_chest : MethOk tX1_chest 3 := ⟨Or.inl ⟨rfl, q2080⟩, by decide +kernel, ⟨by decide, by decide⟩, by decide +kernel⟩
def mX1_chest (x1 : Int) (x2 : Int) (x3 : Int) (h : Hp) (Q : Rs → Hp → Prop) : Prop := mX1_placeAt x1 h (kR Q (fun r102 h101 => mX1_number x2 h101 (kN Q (fun h103 => mX1_right (vX1_in x3 0 999 h103) h103 (kN Q (fun h104 => ob h104 r102 5 ∧ ob h104 (hR h104 r102 6) 70 ∧ 0 ≤ x2 ∧ x2 < (hN h104 (hR h104 r102 6)) ∧ ∀ v109 : Int, v109 = (hI h104 (hR h104 r102 6) (Int.toNat x2)) → 50 ≤ (hR h104 r102 6) ∧ ∀ h111 : Hp, h111 = sI h104 (hR h104 r102 6) (Int.toNat x2) x3 → Q (rV (vI v109)) h111))))))
theorem wX1_chest {G : Gx} (hg : gF G = true) {d : Nat} {x1 : Int} {x2 : Int} {x3 : Int} {h : Hp} {Q : Rs → Hp → Prop} (hm : mX1_chest x1 x2 x3 h Q) : Ct G tX1_chest (d + 10) [vR 50, vI x1, vI x2, vI x3] h Q := by
  refine ct_enter (L0 := [some (vR 50), some (vI x1), some (vI x2), some (vI x3), none, none]) rfl rfl ?_
  unfold mX1_chest at hm
  refine wc_aload_n (pc := 0) (dAt dtX1_chest 0 rfl) rfl (wc_iload_n (pc := 1) (dAt dtX1_chest 1 rfl) rfl (wc_kf hg fun zk => wc_callV (k := 1) (y' := tX1_placeAt) (av := [vI x1]) (st := []) (pc := 2) (dAt dtX1_chest 2 rfl) lkX1_334 moX1_placeAt q684 qs5 (by decide) (zk.2 _ ka50).1 rfl rfl (Nat.le_of_ble_eq_true rfl) (wX1_placeAt hg hm) (kr_R (fun r102 h101 hm => ?_)) (kx_R rfl)))
  refine wc_astore (pc := 5) (dAt dtX1_chest 3 rfl) (by decide) (wc_L (L' := [some (vR 50), some (vI x1), some (vI x2), some (vI x3), some (vR r102), none]) rfl (wc_iload_n (pc := 7) (dAt dtX1_chest 4 rfl) rfl (wc_callS (y' := tX1_number) (av := [vI x2]) (st := []) (pc := 8) (dAt dtX1_chest 5 rfl) lkX1_527 moX1_number q2082 q128 rfl rfl (Nat.le_of_ble_eq_true rfl) (wX1_number hg hm) (kr_N (fun h103 hm => ?_)) (kx_N rfl))))
  refine wc_iload_n (pc := 11) (dAt dtX1_chest 6 rfl) rfl (wc_iconst (pc := 12) (dAt dtX1_chest 7 rfl) ⟨by decide, by decide⟩ (wc_sipush (pc := 13) (dAt dtX1_chest 8 rfl) ⟨by decide, by decide, by decide⟩ (wc_callS (y' := tX1_in) (P := eI (vX1_in x3 0 999 h103) h103) (pc := 16) (dAt dtX1_chest 9 rfl) lkX1_314 moX1_in q374 q128 rfl rfl (Nat.le_of_ble_eq_true rfl) (wX1_in hg ⟨rfl, rfl⟩) (ep_I (wc_callS (y' := tX1_right) (av := [vI (vX1_in x3 0 999 h103)]) (st := []) (pc := 19) (dAt dtX1_chest 10 rfl) lkX1_337 moX1_right q755 q128 rfl rfl (Nat.le_of_ble_eq_true rfl) (wX1_right hg hm) (kr_N (fun h104 hm => ?_)) (kx_N rfl))) ex_I)))
  obtain ⟨o105, o106, o107, o108, hm⟩ := hm
  obtain ⟨v109, ev109⟩ : ∃ v109 : Int, v109 = (hI h104 (hR h104 r102 6) (Int.toNat x2)) := ⟨_, rfl⟩
  replace hm := hm v109 ev109
  obtain ⟨o110, hm⟩ := hm
  obtain ⟨h111, eh111⟩ : ∃ h111 : Hp, h111 = sI h104 (hR h104 r102 6) (Int.toNat x2) x3 := ⟨_, rfl⟩
  replace hm := hm h111 eh111
  exact wc_aload (pc := 22) (dAt dtX1_chest 11 rfl) rfl (wc_getR (pc := 24) (dAt dtX1_chest 12 rfl) flX1_530_5 rfl o105 (wc_iload_n (pc := 27) (dAt dtX1_chest 13 rfl) rfl (wc_iald (pc := 28) (dAt dtX1_chest 14 rfl) o106 o107 o108 (wc_vi ev109 (wc_istore (pc := 29) (dAt dtX1_chest 15 rfl) (by decide) (wc_L (L' := [some (vR 50), some (vI x1), some (vI x2), some (vI x3), some (vR r102), some (vI v109)]) rfl (wc_aload (pc := 31) (dAt dtX1_chest 16 rfl) rfl (wc_getR (pc := 33) (dAt dtX1_chest 17 rfl) flX1_530_5 rfl o105 (wc_iload_n (pc := 36) (dAt dtX1_chest 18 rfl) rfl (wc_iload_n (pc := 37) (dAt dtX1_chest 19 rfl) rfl (wc_iast (pc := 38) (dAt dtX1_chest 20 rfl) o106 o110 o107 o108 (wc_hp eh111 (wc_iload (pc := 39) (dAt dtX1_chest 21 rfl) rfl (wc_iret (pc := 41) (dAt dtX1_chest 22 rfl) rfl (nar_int _) hm))))))))))))))
def tX0_chest : Mt := (⟨"FlyingDoctorsLaw", "chest", "(LFlyingDoctors;III[J)I"⟩, method_27_code, 6, (Option.some Jvm.ClassFile.FieldType.int), [((0 : Nat), (12 : Nat), (15 : Nat), (13 : Nat)), ((0 : Nat), (12 : Nat), (19 : Nat), (15 : Nat))])
def DX0_chest : List (Nat × Instr × Nat) := [(0, .aload 4, 2), (2, .iconst 0, 1), (3, .aload_n 0, 1), (4, .iload_n 1, 1), (5, .iload_n 2, 1), (6, .iload_n 3, 1), (7, .invokevirtual 95, 3), (10, .i2l, 1), (11, .lastore, 1), (12, .goto 11, 3), (15, .astore 5, 2), (17, .iconst 1, 1), (18, .ireturn, 1), (19, .astore 5, 2), (21, .iconst 2, 1), (22, .ireturn, 1), (23, .iconst 0, 1), (24, .ireturn, 1)]
theorem dtX0_chest : chkD (mB tX0_chest) DX0_chest = true := by decide +kernel
theorem moX0_chest : MethOk tX0_chest 5 := ⟨Or.inr q2076, by decide +kernel, ⟨by decide, by decide⟩, by decide +kernel⟩
def mX0_chest (x1 : Int) (x2 : Int) (x3 : Int) (h : Hp) (Q : Rs → Hp → Prop) : Prop := mX1_chest x1 x2 x3 h (kIx (fun a103 h104 => if hT h104 a103 = 41 then ob h104 a103 41 ∧ (Q (rV (vI 1)) h104) else ob h104 a103 42 ∧ (Q (rV (vI 2)) h104)) (fun x102 h101 => ∀ h108 : Hp, h108 = sL h101 158 0 x102 → Q (rV (vI 0)) h108))
theorem wX0_chest {G : Gx} (hg : gF G = true) {d : Nat} {x1 : Int} {x2 : Int} {x3 : Int} {h : Hp} {Q : Rs → Hp → Prop} (hm : mX0_chest x1 x2 x3 h Q) : Ct G tX0_chest (d + 11) [vR 50, vI x1, vI x2, vI x3, vR 158] h Q := by
  refine ct_enter (L0 := [some (vR 50), some (vI x1), some (vI x2), some (vI x3), some (vR 158), none]) rfl rfl ?_
  unfold mX0_chest at hm
  refine wc_aload (pc := 0) (dAt dtX0_chest 0 rfl) rfl (wc_iconst (pc := 2) (dAt dtX0_chest 1 rfl) ⟨by decide, by decide⟩ (wc_aload_n (pc := 3) (dAt dtX0_chest 2 rfl) rfl (wc_iload_n (pc := 4) (dAt dtX0_chest 3 rfl) rfl (wc_iload_n (pc := 5) (dAt dtX0_chest 4 rfl) rfl (wc_iload_n (pc := 6) (dAt dtX0_chest 5 rfl) rfl (wc_kf hg fun zk => wc_callV (k := 1) (y' := tX1_chest) (av := [vI x1, vI x2, vI x3]) (st := [vI 0, vR 158]) (pc := 7) (dAt dtX0_chest 6 rfl) lkX0_95 moX1_chest q2078 q2079 (by decide) (zk.2 _ ka50).1 rfl rfl (Nat.le_of_ble_eq_true rfl) (wX1_chest hg hm) (krx_I (fun x102 h101 hm => ?_)) (kxx_I (fun a103 h104 hm => ?_))))))))
  · obtain ⟨h108, eh108⟩ : ∃ h108 : Hp, h108 = sL h101 158 0 x102 := ⟨_, rfl⟩
    replace hm := hm h108 eh108
    exact wc_i2l (pc := 10) (dAt dtX0_chest 7 rfl) (wc_lastK hg (pc := 11) (dAt dtX0_chest 8 rfl) kr158 (by decide) (by decide) (by decide) (wc_hp eh108 (wc_goto (pc := 12) (tgt := 23) (dAt dtX0_chest 9 rfl) (by decide) (wc_iconst (pc := 23) (dAt dtX0_chest 16 rfl) ⟨by decide, by decide⟩ (wc_iret (pc := 24) (dAt dtX0_chest 17 rfl) rfl (nar_int _) hm)))))
  · by_cases c107 : hT h104 a103 = 41
    · replace hm := ite_t c107 hm
      obtain ⟨o105, hm⟩ := hm
      refine wx_hit rfl rfl (by decide) q676 (by decide) o105 rfl ?_
      exact wc_astore (pc := 15) (dAt dtX0_chest 10 rfl) (by decide) (wc_L (L' := [some (vR 50), some (vI x1), some (vI x2), some (vI x3), some (vR 158), some (vR a103)]) rfl (wc_iconst (pc := 17) (dAt dtX0_chest 11 rfl) ⟨by decide, by decide⟩ (wc_iret (pc := 18) (dAt dtX0_chest 12 rfl) rfl (nar_int _) hm)))
    · replace hm := ite_f c107 hm
      obtain ⟨o106, hm⟩ := hm
      refine wx_hit2 rfl rfl rfl (by decide) (by decide) q676 q677 (by decide +kernel) (by decide) o106 rfl ?_
      exact wc_astore (pc := 19) (dAt dtX0_chest 13 rfl) (by decide) (wc_L (L' := [some (vR 50), some (vI x1), some (vI x2), some (vI x3), some (vR 158), some (vR a103)]) rfl (wc_iconst (pc := 21) (dAt dtX0_chest 14 rfl) ⟨by decide, by decide⟩ (wc_iret (pc := 22) (dAt dtX0_chest 15 rfl) rfl (nar_int _) hm)))
def tX4_isChest : Mt := (⟨"FlyingDoctorsModel", "isChest", "(II)Z"⟩, prog_24_method_107_code, 3, (Option.some Jvm.ClassFile.FieldType.boolean), [])
def DX4_isChest : List (Nat × Instr × Nat) := [(0, .aload_n 0, 1), (1, .iload_n 1, 1), (2, .invokevirtual 75, 3), (5, .ifCond .eq 31, 3), (8, .aload_n 0, 1), (9, .iload_n 2, 1), (10, .iconst 1, 1), (11, .if_icmp .lt 13, 3), (14, .iload_n 2, 1), (15, .bipush 30, 2), (17, .if_icmp .gt 7, 3), (20, .iconst 1, 1), (21, .goto 4, 3), (24, .iconst 0, 1), (25, .iconst 1, 1), (26, .invokevirtual 10, 3), (29, .ifCond .eq 7, 3), (32, .iconst 1, 1), (33, .goto 4, 3), (36, .iconst 0, 1), (37, .ireturn, 1)]
theorem dtX4_isChest : chkD (mB tX4_isChest) DX4_isChest = true := by decide +kernel
theorem moX4_isChest : MethOk tX4_isChest 2 := ⟨Or.inl ⟨rfl, q2902⟩, by decide +kernel, ⟨by decide, by decide⟩, by decide +kernel⟩
def mX4_isChest (x1 : Int) (x2 : Int) (h : Hp) (Q : Rs → Hp → Prop) : Prop := mX4_isPlace x1 h (kI Q (fun x102 h101 => if ¬ (x102 = 0) then ∀ v104 : Int, v104 = (b2i (¬ (x2 < 1) ∧ (¬ (30 < x2)))) → mX4_right v104 1 h101 (kI Q (fun x106 h105 => ∀ v107 : Int, v107 = (b2i (¬ (x106 = 0))) → Q (rV (vI v107)) h105)) else Q (rV (vI 0)) h101))
theorem wX4_isChest {G : Gx} (hg : gF G = true) {d : Nat} {x1 : Int} {x2 : Int} {h : Hp} {Q : Rs → Hp → Prop} (hm : mX4_isChest x1 x2 h Q) : Ct G tX4_isChest (d + 2) [vR 75, vI x1, vI x2] h Q := by
  refine ct_enter (L0 := [some (vR 75), some (vI x1), some (vI x2)]) rfl rfl ?_
  unfold mX4_isChest at hm
  refine wc_aload_n (pc := 0) (dAt dtX4_isChest 0 rfl) rfl (wc_iload_n (pc := 1) (dAt dtX4_isChest 1 rfl) rfl (wc_kf hg fun zk => wc_callV (k := 4) (y' := tX4_isPlace) (av := [vI x1]) (st := []) (pc := 2) (dAt dtX4_isChest 2 rfl) lkX4_75 moX4_isPlace q2148 qs63 (by decide) (zk.2 _ ka75).1 rfl rfl (Nat.le_of_ble_eq_true rfl) (wX4_isPlace hg hm) (kr_I (fun x102 h101 hm => ?_)) (kx_I rfl)))
  refine wc_if_eq (pc := 5) (tgt := 36) (dAt dtX4_isChest 3 rfl) (by decide) (fun c103 => ?_) (fun c103 => ?_)
  · replace hm := ite_f (fun z => z c103) hm
    exact wc_iconst (pc := 36) (dAt dtX4_isChest 19 rfl) ⟨by decide, by decide⟩ (wc_iret (pc := 37) (dAt dtX4_isChest 20 rfl) rfl (nar_bool (Or.inl rfl)) hm)
  · replace hm := ite_t c103 hm
    obtain ⟨v104, ev104⟩ : ∃ v104 : Int, v104 = (b2i (¬ (x2 < 1) ∧ (¬ (30 < x2)))) := ⟨_, rfl⟩
    replace hm := hm v104 ev104
    refine wc_aload_n (pc := 8) (dAt dtX4_isChest 4 rfl) rfl (wc_iload_n (pc := 9) (dAt dtX4_isChest 5 rfl) rfl (wc_iconst (pc := 10) (dAt dtX4_isChest 6 rfl) ⟨by decide, by decide⟩ (?_)))
    have kj117 : Wc G tX4_isChest (d + 2) h Q 25 [some (vR 75), none, none] [vI v104, vR 75] h101 := by
      refine wc_iconst (pc := 25) (dAt dtX4_isChest 14 rfl) ⟨by decide, by decide⟩ (wc_kf hg fun zk => wc_callV (k := 4) (y' := tX4_right) (av := [vI v104, vI 1]) (st := []) (pc := 26) (dAt dtX4_isChest 15 rfl) lkX4_10 moX4_right q2152 qs64 (by decide) (zk.2 _ ka75).1 rfl rfl (Nat.le_of_ble_eq_true rfl) (wX4_right hg hm) (kr_I (fun x106 h105 hm => ?_)) (kx_I rfl))
      obtain ⟨v107, ev107⟩ : ∃ v107 : Int, v107 = (b2i (¬ (x106 = 0))) := ⟨_, rfl⟩
      replace hm := hm v107 ev107
      have kj108 : Wc G tX4_isChest (d + 2) h Q 37 [some (vR 75), none, none] [vI v107] h105 := by
        exact wc_iret (pc := 37) (dAt dtX4_isChest 20 rfl) rfl (nar_bool (bo_tr ev107.symm (bool_b2i _))) hm
      have k109 : (¬ (x106 = 0)) → Wc G tX4_isChest (d + 2) h Q 32 [some (vR 75), none, none] [] h105 := fun c111 => by
        have z112 := kj108
        rw [show v107 = 1 from ev107.trans (b2i_t c111)] at z112
        exact wc_iconst (pc := 32) (dAt dtX4_isChest 17 rfl) ⟨by decide, by decide⟩ (wc_goto (pc := 33) (tgt := 37) (dAt dtX4_isChest 18 rfl) (by decide) (z112))
      have k110 : ¬ (¬ (x106 = 0)) → Wc G tX4_isChest (d + 2) h Q 36 [some (vR 75), none, none] [] h105 := fun c111 => by
        have z114 := kj108
        rw [show v107 = 0 from ev107.trans (b2i_f c111)] at z114
        exact wc_iconst (pc := 36) (dAt dtX4_isChest 19 rfl) ⟨by decide, by decide⟩ (z114)
      exact wc_if_eq (pc := 29) (tgt := 36) (dAt dtX4_isChest 16 rfl) (by decide) (fun c116 => (k110 (fun z => z c116))) (fun c116 => (k109 c116))
    have k118 : (¬ (x2 < 1) ∧ (¬ (30 < x2))) → Wc G tX4_isChest (d + 2) h Q 20 [some (vR 75), some (vI x1), some (vI x2)] [vR 75] h101 := fun c120 => by
      have z121 := kj117
      rw [show v104 = 1 from ev104.trans (b2i_t c120)] at z121
      exact wc_iconst (pc := 20) (dAt dtX4_isChest 11 rfl) ⟨by decide, by decide⟩ (wc_goto (pc := 21) (tgt := 25) (dAt dtX4_isChest 12 rfl) (by decide) (wc_drp [1, 2] rfl (z121)))
    have k119 : ¬ (¬ (x2 < 1) ∧ (¬ (30 < x2))) → Wc G tX4_isChest (d + 2) h Q 24 [some (vR 75), some (vI x1), some (vI x2)] [vR 75] h101 := fun c120 => by
      have z123 := kj117
      rw [show v104 = 0 from ev104.trans (b2i_f c120)] at z123
      exact wc_iconst (pc := 24) (dAt dtX4_isChest 13 rfl) ⟨by decide, by decide⟩ (wc_drp [1, 2] rfl (z123))
    exact wc_icmp_lt (pc := 11) (tgt := 24) (dAt dtX4_isChest 7 rfl) (by decide) (fun c125 => (k119 (fun z => z.1 c125))) (fun c125 => wc_iload_n (pc := 14) (dAt dtX4_isChest 8 rfl) rfl (wc_bipush (pc := 15) (dAt dtX4_isChest 9 rfl) ⟨by decide, by decide, by decide⟩ (wc_icmp_gt (pc := 17) (tgt := 24) (dAt dtX4_isChest 10 rfl) (by decide) (fun c126 => (k119 (fun z => (fun z => z c126) z.2))) (fun c126 => (k118 ⟨c125, c126⟩)))))
def tX4_chest_2 : Mt := (⟨"FlyingDoctorsModel", "chest", "(III)I"⟩, prog_24_method_108_code, 5, (Option.some Jvm.ClassFile.FieldType.int), [])
def DX4_chest_2 : List (Nat × Instr × Nat) := [(0, .aload_n 0, 1), (1, .iload_n 1, 1), (2, .iload_n 2, 1), (3, .invokevirtual 602, 3), (6, .ifCond .eq 27, 3), (9, .aload_n 0, 1), (10, .iload_n 3, 1), (11, .ifCond .lt 14, 3), (14, .iload_n 3, 1), (15, .sipush 999, 3), (18, .if_icmp .gt 7, 3), (21, .iconst 1, 1), (22, .goto 4, 3), (25, .iconst 0, 1), (26, .iconst 2, 1), (27, .invokevirtual 10, 3), (30, .ifCond .ne 5, 3), (33, .iconst 0, 1), (34, .ireturn, 1), (35, .aload_n 0, 1), (36, .getfield 328, 3), (39, .bipush 31, 2), (41, .iload_n 1, 1), (42, .imul, 1), (43, .iload_n 2, 1), (44, .iadd, 1), (45, .iaload, 1), (46, .istore 4, 2), (48, .aload_n 0, 1), (49, .getfield 328, 3), (52, .bipush 31, 2), (54, .iload_n 1, 1), (55, .imul, 1), (56, .iload_n 2, 1), (57, .iadd, 1), (58, .iload_n 3, 1), (59, .iastore, 1), (60, .iload 4, 2), (62, .ireturn, 1)]
theorem dtX4_chest_2 : chkD (mB tX4_chest_2) DX4_chest_2 = true := by decide +kernel
theorem moX4_chest_2 : MethOk tX4_chest_2 3 := ⟨Or.inl ⟨rfl, q2898⟩, by decide +kernel, ⟨by decide, by decide⟩, by decide +kernel⟩
def mX4_chest_2 (x1 : Int) (x2 : Int) (x3 : Int) (h : Hp) (Q : Rs → Hp → Prop) : Prop := mX4_isChest x1 x2 h (kI Q (fun x102 h101 => if ¬ (x102 = 0) then ∀ v104 : Int, v104 = (b2i (¬ (x3 < 0) ∧ (¬ (999 < x3)))) → mX4_right v104 2 h101 (kI Q (fun x106 h105 => if ¬ (x106 ≠ 0) then Q (rV (vI 0)) h105 else nm (31 * x1) ∧ nm ((31 * x1) + x2) ∧ 0 ≤ ((31 * x1) + x2) ∧ ((31 * x1) + x2) < 372 ∧ ∀ v112 : Int, v112 = (hI h105 154 (Int.toNat ((31 * x1) + x2))) → ∀ h113 : Hp, h113 = sI h105 154 (Int.toNat ((31 * x1) + x2)) x3 → Q (rV (vI v112)) h113)) else Q (rV (vI 0)) h101))
theorem wX4_chest_2 {G : Gx} (hg : gF G = true) {d : Nat} {x1 : Int} {x2 : Int} {x3 : Int} {h : Hp} {Q : Rs → Hp → Prop} (hm : mX4_chest_2 x1 x2 x3 h Q) : Ct G tX4_chest_2 (d + 3) [vR 75, vI x1, vI x2, vI x3] h Q := by
  refine ct_enter (L0 := [some (vR 75), some (vI x1), some (vI x2), some (vI x3), none]) rfl rfl ?_
  unfold mX4_chest_2 at hm
  refine wc_aload_n (pc := 0) (dAt dtX4_chest_2 0 rfl) rfl (wc_iload_n (pc := 1) (dAt dtX4_chest_2 1 rfl) rfl (wc_iload_n (pc := 2) (dAt dtX4_chest_2 2 rfl) rfl (wc_kf hg fun zk => wc_callV (k := 4) (y' := tX4_isChest) (av := [vI x1, vI x2]) (st := []) (pc := 3) (dAt dtX4_chest_2 3 rfl) lkX4_602 moX4_isChest q2901 qs124 (by decide) (zk.2 _ ka75).1 rfl rfl (Nat.le_of_ble_eq_true rfl) (wX4_isChest hg hm) (kr_I (fun x102 h101 hm => ?_)) (kx_I rfl))))
  refine wc_if_eq (pc := 6) (tgt := 33) (dAt dtX4_chest_2 4 rfl) (by decide) (fun c103 => ?_) (fun c103 => ?_)
  · replace hm := ite_f (fun z => z c103) hm
    exact wc_iconst (pc := 33) (dAt dtX4_chest_2 17 rfl) ⟨by decide, by decide⟩ (wc_iret (pc := 34) (dAt dtX4_chest_2 18 rfl) rfl (nar_int _) hm)
  · replace hm := ite_t c103 hm
    obtain ⟨v104, ev104⟩ : ∃ v104 : Int, v104 = (b2i (¬ (x3 < 0) ∧ (¬ (999 < x3)))) := ⟨_, rfl⟩
    replace hm := hm v104 ev104
    refine wc_aload_n (pc := 9) (dAt dtX4_chest_2 5 rfl) rfl (wc_iload_n (pc := 10) (dAt dtX4_chest_2 6 rfl) rfl (?_))
    have kj114 : Wc G tX4_chest_2 (d + 3) h Q 26 [some (vR 75), some (vI x1), some (vI x2), some (vI x3), none] [vI v104, vR 75] h101 := by
      refine wc_iconst (pc := 26) (dAt dtX4_chest_2 14 rfl) ⟨by decide, by decide⟩ (wc_kf hg fun zk => wc_callV (k := 4) (y' := tX4_right) (av := [vI v104, vI 2]) (st := []) (pc := 27) (dAt dtX4_chest_2 15 rfl) lkX4_10 moX4_right q2152 qs64 (by decide) (zk.2 _ ka75).1 rfl rfl (Nat.le_of_ble_eq_true rfl) (wX4_right hg hm) (kr_I (fun x106 h105 hm => ?_)) (kx_I rfl))
      refine wc_if_ne (pc := 30) (tgt := 35) (dAt dtX4_chest_2 16 rfl) (by decide) (fun c107 => ?_) (fun c107 => ?_)
      · replace hm := ite_f (fun z => z c107) hm
        obtain ⟨o108, o109, o110, o111, hm⟩ := hm
        obtain ⟨v112, ev112⟩ : ∃ v112 : Int, v112 = (hI h105 154 (Int.toNat ((31 * x1) + x2))) := ⟨_, rfl⟩
        replace hm := hm v112 ev112
        obtain ⟨h113, eh113⟩ : ∃ h113 : Hp, h113 = sI h105 154 (Int.toNat ((31 * x1) + x2)) x3 := ⟨_, rfl⟩
        replace hm := hm h113 eh113
        exact wc_aload_n (pc := 35) (dAt dtX4_chest_2 19 rfl) rfl (wc_getKR hg (pc := 36) (dAt dtX4_chest_2 20 rfl) flX4_328_4 rfl ka75 kf75_112 (wc_bipush (pc := 39) (dAt dtX4_chest_2 21 rfl) ⟨by decide, by decide, by decide⟩ (wc_iload_n (pc := 41) (dAt dtX4_chest_2 22 rfl) rfl (wc_imul (pc := 42) (dAt dtX4_chest_2 23 rfl) o108 (wc_iload_n (pc := 43) (dAt dtX4_chest_2 24 rfl) rfl (wc_iadd (pc := 44) (dAt dtX4_chest_2 25 rfl) o109 (wc_ialdK hg (pc := 45) (dAt dtX4_chest_2 26 rfl) kr154 o110 o111 (wc_vi ev112 (wc_istore (pc := 46) (dAt dtX4_chest_2 27 rfl) (by decide) (wc_L (L' := [some (vR 75), some (vI x1), some (vI x2), some (vI x3), some (vI v112)]) rfl (wc_aload_n (pc := 48) (dAt dtX4_chest_2 28 rfl) rfl (wc_getKR hg (pc := 49) (dAt dtX4_chest_2 29 rfl) flX4_328_4 rfl ka75 kf75_112 (wc_bipush (pc := 52) (dAt dtX4_chest_2 30 rfl) ⟨by decide, by decide, by decide⟩ (wc_iload_n (pc := 54) (dAt dtX4_chest_2 31 rfl) rfl (wc_imul (pc := 55) (dAt dtX4_chest_2 32 rfl) o108 (wc_iload_n (pc := 56) (dAt dtX4_chest_2 33 rfl) rfl (wc_iadd (pc := 57) (dAt dtX4_chest_2 34 rfl) o109 (wc_iload_n (pc := 58) (dAt dtX4_chest_2 35 rfl) rfl (wc_iastK hg (pc := 59) (dAt dtX4_chest_2 36 rfl) kr154 (by decide) o110 o111 (wc_hp eh113 (wc_iload (pc := 60) (dAt dtX4_chest_2 37 rfl) rfl (wc_iret (pc := 62) (dAt dtX4_chest_2 38 rfl) rfl (nar_int _) hm))))))))))))))))))))))
      · replace hm := ite_t c107 hm
        exact wc_iconst (pc := 33) (dAt dtX4_chest_2 17 rfl) ⟨by decide, by decide⟩ (wc_iret (pc := 34) (dAt dtX4_chest_2 18 rfl) rfl (nar_int _) hm)
    have k115 : (¬ (x3 < 0) ∧ (¬ (999 < x3))) → Wc G tX4_chest_2 (d + 3) h Q 21 [some (vR 75), some (vI x1), some (vI x2), some (vI x3), none] [vR 75] h101 := fun c117 => by
      have z118 := kj114
      rw [show v104 = 1 from ev104.trans (b2i_t c117)] at z118
      exact wc_iconst (pc := 21) (dAt dtX4_chest_2 11 rfl) ⟨by decide, by decide⟩ (wc_goto (pc := 22) (tgt := 26) (dAt dtX4_chest_2 12 rfl) (by decide) (z118))
    have k116 : ¬ (¬ (x3 < 0) ∧ (¬ (999 < x3))) → Wc G tX4_chest_2 (d + 3) h Q 25 [some (vR 75), some (vI x1), some (vI x2), some (vI x3), none] [vR 75] h101 := fun c117 => by
      have z120 := kj114
      rw [show v104 = 0 from ev104.trans (b2i_f c117)] at z120
      exact wc_iconst (pc := 25) (dAt dtX4_chest_2 13 rfl) ⟨by decide, by decide⟩ (z120)
    exact wc_if_lt (pc := 11) (tgt := 25) (dAt dtX4_chest_2 7 rfl) (by decide) (fun c122 => (k116 (fun z => z.1 c122))) (fun c122 => wc_iload_n (pc := 14) (dAt dtX4_chest_2 8 rfl) rfl (wc_sipush (pc := 15) (dAt dtX4_chest_2 9 rfl) ⟨by decide, by decide, by decide⟩ (wc_icmp_gt (pc := 18) (tgt := 25) (dAt dtX4_chest_2 10 rfl) (by decide) (fun c123 => (k116 (fun z => (fun z => z c123) z.2))) (fun c123 => (k115 ⟨c122, c123⟩)))))
def tX17_isFor : Mt := (⟨"FlyingDoctors$Dose", "isFor", "(II)Z"⟩, prog_6_method_2_code, 3, (Option.some Jvm.ClassFile.FieldType.boolean), [])
def DX17_isFor : List (Nat × Instr × Nat) := [(0, .aload_n 0, 1), (1, .getfield 9, 3), (4, .iload_n 1, 1), (5, .if_icmp .ne 23, 3), (8, .aload_n 0, 1), (9, .getfield 15, 3), (12, .iconst (-1), 1), (13, .if_icmp .eq 11, 3), (16, .aload_n 0, 1), (17, .getfield 15, 3), (20, .iload_n 2, 1), (21, .if_icmp .ne 7, 3), (24, .iconst 1, 1), (25, .goto 4, 3), (28, .iconst 0, 1), (29, .ireturn, 1)]
theorem dtX17_isFor : chkD (mB tX17_isFor) DX17_isFor = true := by decide +kernel
theorem moX17_isFor : MethOk tX17_isFor 2 := ⟨Or.inl ⟨rfl, q2099⟩, by decide +kernel, ⟨by decide, by decide⟩, by decide +kernel⟩
def vX17_isFor (r0 : Nat) (x1 : Int) (x2 : Int) (h : Hp) : Int := (b2i (¬ ((hI h r0 0) ≠ x1) ∧ (((hI h r0 1) = (-1)) ∨ (¬ ((hI h r0 1) ≠ x2)))))
def oX17_isFor (r0 : Nat) (x1 : Int) (x2 : Int) (h : Hp) : Prop := ob h r0 17
theorem wX17_isFor {G : Gx} (hg : gF G = true) {d : Nat} {r0 : Nat} {x1 : Int} {x2 : Int} {h : Hp} {Q : Rs → Hp → Prop} (hm : oX17_isFor r0 x1 x2 h) (hq : Q (rV (vI (vX17_isFor r0 x1 x2 h))) h) : Ct G tX17_isFor (d + 0) [vR r0, vI x1, vI x2] h Q := by
  refine ct_enter (L0 := [some (vR r0), some (vI x1), some (vI x2)]) rfl rfl ?_
  have o101 := hm
  have k102 : (¬ ((hI h r0 0) ≠ x1) ∧ (((hI h r0 1) = (-1)) ∨ (¬ ((hI h r0 1) ≠ x2)))) → Wc G tX17_isFor (d + 0) h Q 24 [some (vR r0), some (vI x1), some (vI x2)] [] h := fun c104 => by
    have z : Q (rV (vI 1)) h := by
      rw [show (vX17_isFor r0 x1 x2 h) = 1 from (b2i_t c104)] at hq
      exact hq
    exact wc_iconst (pc := 24) (dAt dtX17_isFor 12 rfl) ⟨by decide, by decide⟩ (wc_goto (pc := 25) (tgt := 29) (dAt dtX17_isFor 13 rfl) (by decide) (wc_iret (pc := 29) (dAt dtX17_isFor 15 rfl) rfl (nar_bool (Or.inr rfl)) z))
  have k103 : ¬ (¬ ((hI h r0 0) ≠ x1) ∧ (((hI h r0 1) = (-1)) ∨ (¬ ((hI h r0 1) ≠ x2)))) → Wc G tX17_isFor (d + 0) h Q 28 [some (vR r0), some (vI x1), some (vI x2)] [] h := fun c104 => by
    have z : Q (rV (vI 0)) h := by
      rw [show (vX17_isFor r0 x1 x2 h) = 0 from (b2i_f c104)] at hq
      exact hq
    exact wc_iconst (pc := 28) (dAt dtX17_isFor 14 rfl) ⟨by decide, by decide⟩ (wc_iret (pc := 29) (dAt dtX17_isFor 15 rfl) rfl (nar_bool (Or.inl rfl)) z)
  exact wc_aload_n (pc := 0) (dAt dtX17_isFor 0 rfl) rfl (wc_getI (pc := 1) (dAt dtX17_isFor 1 rfl) flX17_9_17 rfl o101 (wc_iload_n (pc := 4) (dAt dtX17_isFor 2 rfl) rfl (wc_icmp_ne (pc := 5) (tgt := 28) (dAt dtX17_isFor 3 rfl) (by decide) (fun c105 => (k103 (fun z => z.1 c105))) (fun c105 => wc_aload_n (pc := 8) (dAt dtX17_isFor 4 rfl) rfl (wc_getI (pc := 9) (dAt dtX17_isFor 5 rfl) flX17_15_17 rfl o101 (wc_iconst (pc := 12) (dAt dtX17_isFor 6 rfl) ⟨by decide, by decide⟩ (wc_icmp_eq (pc := 13) (tgt := 24) (dAt dtX17_isFor 7 rfl) (by decide) (fun c106 => (k102 ⟨c105, (Or.inl c106)⟩)) (fun c106 => wc_aload_n (pc := 16) (dAt dtX17_isFor 8 rfl) rfl (wc_getI (pc := 17) (dAt dtX17_isFor 9 rfl) flX17_15_17 rfl o101 (wc_iload_n (pc := 20) (dAt dtX17_isFor 10 rfl) rfl (wc_icmp_ne (pc := 21) (tgt := 28) (dAt dtX17_isFor 11 rfl) (by decide) (fun c107 => (k103 (fun z => (fun z => z.elim c106 (fun z => z c107)) z.2))) (fun c107 => (k102 ⟨c105, (Or.inr c107)⟩)))))))))))))
theorem bX17_isFor (r0 : Nat) (x1 : Int) (x2 : Int) (h : Hp) : (vX17_isFor r0 x1 x2 h) = 0 ∨ (vX17_isFor r0 x1 x2 h) = 1 := (bool_b2i _)
def tX1_mayBe : Mt := (⟨"FlyingDoctors", "mayBe", "(LFlyingDoctors$Place;II)Z"⟩, prog_1_method_66_code, 8, (Option.some Jvm.ClassFile.FieldType.boolean), [])
def DX1_mayBe : List (Nat × Instr × Nat) := [(0, .aload_n 0, 1), (1, .aload_n 0, 1), (2, .getfield 173, 3), (5, .invokevirtual 97, 3), (8, .astore 4, 2), (10, .aload_n 0, 1), (11, .aload 4, 2), (13, .invokevirtual 101, 3), (16, .astore 5, 2), (18, .aload 5, 2), (20, .getfield 105, 3), (23, .bipush 9, 2), (25, .aload_n 1, 1), (26, .getfield 530, 3), (29, .iload_n 2, 1), (30, .iaload, 1), (31, .iastore, 1), (32, .iconst 0, 1), (33, .istore 6, 2), (35, .iload 6, 2), (37, .aload 4, 2), (39, .getfield 365, 3), (42, .invokeinterface 16 1, 5), (47, .if_icmp .ge 63, 3), (50, .aload 4, 2), (52, .getfield 365, 3), (55, .iload 6, 2), (57, .invokeinterface 22 2, 5), (62, .checkcast 533, 3), (65, .astore 7, 2), (67, .aload 7, 2), (69, .iload_n 2, 1), (70, .iload_n 3, 1), (71, .invokevirtual 535, 3), (74, .ifCond .eq 30, 3), (77, .aload 7, 2), (79, .getfield 538, 3), (82, .ifnull 16, 3), (85, .aload 7, 2), (87, .getfield 538, 3), (90, .aload 5, 2), (92, .invokevirtual 132, 3), (95, .ifCond .eq 7, 3), (98, .iconst 1, 1), (99, .goto 4, 3), (102, .iconst 0, 1), (103, .ireturn, 1), (104, .iinc 6 1, 3), (107, .goto (-72), 3), (110, .iconst 0, 1), (111, .ireturn, 1)]
theorem dtX1_mayBe : chkD (mB tX1_mayBe) DX1_mayBe = true := by decide +kernel
theorem moX1_mayBe : MethOk tX1_mayBe 3 := ⟨Or.inl ⟨rfl, q2094⟩, by decide +kernel, ⟨by decide, by decide⟩, by decide +kernel⟩
def mX1_mayBe (r1 : Nat) (x2 : Int) (x3 : Int) (h : Hp) (Q : Rs → Hp → Prop) : Prop := mX1_rulesAt (hI h 50 20) h (kR Q (fun r102 h101 => mX1_asking r102 h101 (kR Q (fun r104 h103 => r104 = 70 ∧ ob h103 r1 5 ∧ ob h103 (hR h103 r1 6) 70 ∧ 0 ≤ x2 ∧ x2 < (hN h103 (hR h103 r1 6)) ∧ ∀ h110 : Hp, h110 = sI h103 71 9 (hI h103 (hR h103 r1 6) (Int.toNat x2)) → wh1 (fun (C112 : Int → Prop) (x111 : Int) => ob h110 r102 2 ∧ oJ2_size (hR h110 r102 2) h110 ∧ ob h110 (hR h110 r102 2) 32 ∧ if ¬ ((vJ2_size (hR h110 r102 2) h110) ≤ x111) then oJ2_get (hR h110 r102 2) x111 h110 ∧ ob h110 (vJ2_get (hR h110 r102 2) x111 h110) 17 ∧ ∀ r120 : Nat, r120 = (vJ2_get (hR h110 r102 2) x111 h110) → oX17_isFor r120 x2 x3 h110 ∧ ob h110 r120 17 ∧ if ¬ ((vX17_isFor r120 x2 x3 h110) = 0) then rok h110 (hR h110 r120 2) ∧ if ¬ ((hR h110 r120 2) = 0) then obX h110 (hR h110 r120 2) ∧ mX10_holds (mEV 70) (hR h110 r120 2) h110 (kI Q (fun x128 h127 => ∀ v129 : Int, v129 = (b2i (¬ (x128 = 0))) → Q (rV (vI v129)) h127)) else Q (rV (vI 1)) h110 else nm (x111 + 1) ∧ ∀ i140 : Int, i140 = (x111 + 1) → C112 i140 else Q (rV (vI 0)) h110) 0))))
theorem wX1_mayBe {G : Gx} (hg : gF G = true) {d : Nat} {r1 : Nat} {x2 : Int} {x3 : Int} {h : Hp} {Q : Rs → Hp → Prop} (hm : mX1_mayBe r1 x2 x3 h Q) : Ct G tX1_mayBe (d + 362) [vR 50, vR r1, vI x2, vI x3] h Q := by
  refine ct_enter (L0 := [some (vR 50), some (vR r1), some (vI x2), some (vI x3), none, none, none, none]) rfl rfl ?_
  unfold mX1_mayBe at hm
  refine wc_aload_n (pc := 0) (dAt dtX1_mayBe 0 rfl) rfl (wc_aload_n (pc := 1) (dAt dtX1_mayBe 1 rfl) rfl (wc_getKI hg (pc := 2) (dAt dtX1_mayBe 2 rfl) flX1_173_1 rfl ka50 (wc_kf hg fun zk => wc_callV (k := 1) (y' := tX1_rulesAt) (av := [vI (hI h 50 20)]) (st := []) (pc := 5) (dAt dtX1_mayBe 3 rfl) lkX1_97 moX1_rulesAt q1486 qs33 (by decide) (zk.2 _ ka50).1 rfl rfl (Nat.le_of_ble_eq_true rfl) (wX1_rulesAt hg hm) (kr_R (fun r102 h101 hm => ?_)) (kx_R rfl))))
  refine wc_astore (pc := 8) (dAt dtX1_mayBe 4 rfl) (by decide) (wc_L (L' := [some (vR 50), some (vR r1), some (vI x2), some (vI x3), some (vR r102), none, none, none]) rfl (wc_aload_n (pc := 10) (dAt dtX1_mayBe 5 rfl) rfl (wc_aload (pc := 11) (dAt dtX1_mayBe 6 rfl) rfl (wc_kf hg fun zk => wc_callV (k := 1) (y' := tX1_asking) (av := [vR r102]) (st := []) (pc := 13) (dAt dtX1_mayBe 7 rfl) lkX1_101 moX1_asking q1557 qs37 (by decide) (zk.2 _ ka50).1 rfl rfl (Nat.le_of_ble_eq_true rfl) (wX1_asking hg hm) (kr_R (fun r104 h103 hm => ?_)) (kx_R rfl)))))
  obtain ⟨o105, hm⟩ := hm
  obtain ⟨o106, o107, o108, o109, hm⟩ := hm
  obtain ⟨h110, eh110⟩ : ∃ h110 : Hp, h110 = sI h103 71 9 (hI h103 (hR h103 r1 6) (Int.toNat x2)) := ⟨_, rfl⟩
  replace hm := hm h110 eh110
  refine wc_vr o105.symm (wc_astore (pc := 16) (dAt dtX1_mayBe 8 rfl) (by decide) (wc_L (L' := [some (vR 50), some (vR r1), some (vI x2), some (vI x3), some (vR r102), some (vR 70), none, none]) rfl (wc_aload (pc := 18) (dAt dtX1_mayBe 9 rfl) rfl (wc_getKR hg (pc := 20) (dAt dtX1_mayBe 10 rfl) flX1_105_3 rfl ka70 kf70_0 (wc_bipush (pc := 23) (dAt dtX1_mayBe 11 rfl) ⟨by decide, by decide, by decide⟩ (wc_aload_n (pc := 25) (dAt dtX1_mayBe 12 rfl) rfl (wc_getR (pc := 26) (dAt dtX1_mayBe 13 rfl) flX1_530_5 rfl o106 (wc_iload_n (pc := 29) (dAt dtX1_mayBe 14 rfl) rfl (wc_iald (pc := 30) (dAt dtX1_mayBe 15 rfl) o107 o108 o109 (wc_iastK hg (pc := 31) (dAt dtX1_mayBe 16 rfl) kr71 (by decide) (by decide) (by decide) (wc_hp eh110 (wc_iconst (pc := 32) (dAt dtX1_mayBe 17 rfl) ⟨by decide, by decide⟩ (wc_istore (pc := 33) (dAt dtX1_mayBe 18 rfl) (by decide) (wc_L (L' := [some (vR 50), some (vR r1), some (vI x2), some (vI x3), some (vR r102), some (vR 70), some (vI 0), none]) rfl (wc_drp [1] rfl (wc_L (L' := [some (vR 50), none, some (vI x2), some (vI x3), some (vR r102), some (vR 70), some (vI 0), none]) rfl (?_)))))))))))))))))
  refine wh1_ind (P := fun (x111 : Int) => Wc G tX1_mayBe (d + 362) h Q 35 [some (vR 50), none, some (vI x2), some (vI x3), some (vR r102), some (vR 70), some (vI x111), none] [] h110) (fun C112 ih113 x111 hm => ?_) hm
  obtain ⟨o114, o115, o116, hm⟩ := hm
  refine wc_iload (pc := 35) (dAt dtX1_mayBe 19 rfl) rfl (wc_aload (pc := 37) (dAt dtX1_mayBe 20 rfl) rfl (wc_getR (pc := 39) (dAt dtX1_mayBe 21 rfl) flX1_365_2 rfl o114 (wc_callF (k := 32) (x := ⟨"java/util/List", "size", "()I"⟩) (y' := tJ2_size) (P := eI (vJ2_size (hR h110 r102 2) h110) h110) (pc := 42) (dAt dtX1_mayBe 22 rfl) q364 q366 q365 ⟨by decide, by decide⟩ moJ2_size rfl q370 q371 q369 q367 q368 (by decide) o116 rfl rfl (Nat.le_of_ble_eq_true rfl) (wJ2_size hg o115 ⟨rfl, rfl⟩) (ep_I (wc_icmp_ge (pc := 47) (tgt := 110) (dAt dtX1_mayBe 23 rfl) (by decide) (fun c117 => ?_) (fun c117 => ?_))) ex_I)))
  · replace hm := ite_f (fun z => z c117) hm
    exact wc_iconst (pc := 110) (dAt dtX1_mayBe 49 rfl) ⟨by decide, by decide⟩ (wc_iret (pc := 111) (dAt dtX1_mayBe 50 rfl) rfl (nar_bool (Or.inl rfl)) hm)
  · replace hm := ite_t c117 hm
    obtain ⟨o118, o119, hm⟩ := hm
    obtain ⟨r120, er120⟩ : ∃ r120 : Nat, r120 = (vJ2_get (hR h110 r102 2) x111 h110) := ⟨_, rfl⟩
    replace hm := hm r120 er120
    obtain ⟨o121, o122, hm⟩ := hm
    refine wc_aload (pc := 50) (dAt dtX1_mayBe 24 rfl) rfl (wc_getR (pc := 52) (dAt dtX1_mayBe 25 rfl) flX1_365_2 rfl o114 (wc_iload (pc := 55) (dAt dtX1_mayBe 26 rfl) rfl (wc_callF (k := 32) (x := ⟨"java/util/List", "get", "(I)Ljava/lang/Object;"⟩) (y' := tJ2_get) (P := eR (vJ2_get (hR h110 r102 2) x111 h110) h110) (pc := 57) (dAt dtX1_mayBe 27 rfl) q506 q508 q507 ⟨by decide, by decide⟩ moJ2_get rfl q511 q512 q510 q367 q509 (by decide) o116 rfl rfl (Nat.le_of_ble_eq_true rfl) (wJ2_get hg o118 ⟨rfl, rfl⟩) (ep_R (wc_cast (pc := 62) (dAt dtX1_mayBe 28 rfl) q2095 (by decide) (Or.inl rfl) o119 (wc_vr er120 (wc_astore (pc := 65) (dAt dtX1_mayBe 29 rfl) (by decide) (wc_L (L' := [some (vR 50), none, some (vI x2), some (vI x3), some (vR r102), some (vR 70), some (vI x111), some (vR r120)]) rfl (wc_aload (pc := 67) (dAt dtX1_mayBe 30 rfl) rfl (wc_iload_n (pc := 69) (dAt dtX1_mayBe 31 rfl) rfl (wc_iload_n (pc := 70) (dAt dtX1_mayBe 32 rfl) rfl (wc_callV (k := 17) (y' := tX17_isFor) (P := eI (vX17_isFor r120 x2 x3 h110) h110) (pc := 71) (dAt dtX1_mayBe 33 rfl) lkX1_535 moX17_isFor q2097 q2098 (by decide) o122 rfl rfl (Nat.le_of_ble_eq_true rfl) (wX17_isFor hg o121 ⟨rfl, rfl⟩) (ep_I (wc_if_eq (pc := 74) (tgt := 104) (dAt dtX1_mayBe 34 rfl) (by decide) (fun c123 => ?_) (fun c123 => ?_))) ex_I))))))))) ex_R)))
    · replace hm := ite_f (fun z => z c123) hm
      obtain ⟨o139, hm⟩ := hm
      obtain ⟨i140, ei140⟩ : ∃ i140 : Int, i140 = (x111 + 1) := ⟨_, rfl⟩
      replace hm := hm i140 ei140
      exact wc_iinc (v := i140) (pc := 104) (dAt dtX1_mayBe 47 rfl) rfl ei140 (ei140 ▸ o139) (by decide) (wc_L (L' := [some (vR 50), none, some (vI x2), some (vI x3), some (vR r102), some (vR 70), some (vI i140), some (vR r120)]) rfl (wc_goto (pc := 107) (tgt := 35) (dAt dtX1_mayBe 48 rfl) (by decide) (wc_drp [7] rfl (ih113 _ hm))))
    · replace hm := ite_t c123 hm
      obtain ⟨o124, hm⟩ := hm
      refine wc_aload (pc := 77) (dAt dtX1_mayBe 35 rfl) rfl (wc_getR (pc := 79) (dAt dtX1_mayBe 36 rfl) flX1_538_17 rfl o122 (wc_ifnull (pc := 82) (tgt := 98) (dAt dtX1_mayBe 37 rfl) (by decide) o124 (fun c125 => ?_) (fun c125 => ?_)))
      · replace hm := ite_f (fun z => z c125) hm
        exact wc_iconst (pc := 98) (dAt dtX1_mayBe 43 rfl) ⟨by decide, by decide⟩ (wc_goto (pc := 99) (tgt := 103) (dAt dtX1_mayBe 44 rfl) (by decide) (wc_iret (pc := 103) (dAt dtX1_mayBe 46 rfl) rfl (nar_bool (Or.inr rfl)) hm))
      · replace hm := ite_t c125 hm
        obtain ⟨o126, hm⟩ := hm
        refine wc_aload (pc := 85) (dAt dtX1_mayBe 38 rfl) rfl (wc_getR (pc := 87) (dAt dtX1_mayBe 39 rfl) flX1_538_17 rfl o122 (wc_aload (pc := 90) (dAt dtX1_mayBe 40 rfl) rfl (wc_callVX (y' := tX10_holds) (av := [vR 70]) (st := []) (pc := 92) (dAt dtX1_mayBe 41 rfl) lkX1_132 moX10_holds q1576 selX_holds o126 rfl rfl (Nat.le_of_ble_eq_true rfl) (wX10_holds hg (fun _ _ _ z => hEV hg z) hm) (kr_I (fun x128 h127 hm => ?_)) (kx_I rfl))))
        obtain ⟨v129, ev129⟩ : ∃ v129 : Int, v129 = (b2i (¬ (x128 = 0))) := ⟨_, rfl⟩
        replace hm := hm v129 ev129
        have kj130 : Wc G tX1_mayBe (d + 362) h Q 103 [some (vR 50), none, none, none, none, none, none, none] [vI v129] h127 := by
          exact wc_iret (pc := 103) (dAt dtX1_mayBe 46 rfl) rfl (nar_bool (bo_tr ev129.symm (bool_b2i _))) hm
        have k131 : (¬ (x128 = 0)) → Wc G tX1_mayBe (d + 362) h Q 98 [some (vR 50), none, some (vI x2), some (vI x3), some (vR r102), some (vR 70), some (vI x111), some (vR r120)] [] h127 := fun c133 => by
          have z134 := kj130
          rw [show v129 = 1 from ev129.trans (b2i_t c133)] at z134
          exact wc_iconst (pc := 98) (dAt dtX1_mayBe 43 rfl) ⟨by decide, by decide⟩ (wc_goto (pc := 99) (tgt := 103) (dAt dtX1_mayBe 44 rfl) (by decide) (wc_drp [2, 3, 4, 5, 6, 7] rfl (z134)))
        have k132 : ¬ (¬ (x128 = 0)) → Wc G tX1_mayBe (d + 362) h Q 102 [some (vR 50), none, some (vI x2), some (vI x3), some (vR r102), some (vR 70), some (vI x111), some (vR r120)] [] h127 := fun c133 => by
          have z136 := kj130
          rw [show v129 = 0 from ev129.trans (b2i_f c133)] at z136
          exact wc_iconst (pc := 102) (dAt dtX1_mayBe 45 rfl) ⟨by decide, by decide⟩ (wc_drp [2, 3, 4, 5, 6, 7] rfl (z136))
        exact wc_if_eq (pc := 95) (tgt := 102) (dAt dtX1_mayBe 42 rfl) (by decide) (fun c138 => (k132 (fun z => z c138))) (fun c138 => (k131 c138))
def tX1_dose : Mt := (⟨"FlyingDoctors", "dose", "(III)I"⟩, prog_1_method_67_code, 5, (Option.some Jvm.ClassFile.FieldType.int), [])
def DX1_dose : List (Nat × Instr × Nat) := [(0, .aload_n 0, 1), (1, .iload_n 1, 1), (2, .invokevirtual 334, 3), (5, .astore 4, 2), (7, .iload_n 2, 1), (8, .invokestatic 527, 3), (11, .iload_n 3, 1), (12, .ifCond .eq 8, 3), (15, .iload_n 3, 1), (16, .iconst 1, 1), (17, .if_icmp .ne 7, 3), (20, .iconst 1, 1), (21, .goto 4, 3), (24, .iconst 0, 1), (25, .invokestatic 318, 3), (28, .aload_n 0, 1), (29, .aload 4, 2), (31, .iload_n 2, 1), (32, .iload_n 3, 1), (33, .invokevirtual 542, 3), (36, .ifCond .ne 6, 3), (39, .bipush (-2), 2), (41, .ireturn, 1), (42, .aload 4, 2), (44, .getfield 530, 3), (47, .iload_n 2, 1), (48, .iaload, 1), (49, .ifCond .ne 5, 3), (52, .iconst (-1), 1), (53, .ireturn, 1), (54, .aload 4, 2), (56, .getfield 530, 3), (59, .iload_n 2, 1), (60, .dup2, 1), (61, .iaload, 1), (62, .iconst 1, 1), (63, .isub, 1), (64, .iastore, 1), (65, .aload 4, 2), (67, .getfield 530, 3), (70, .iload_n 2, 1), (71, .iaload, 1), (72, .ireturn, 1)]
theorem dtX1_dose : chkD (mB tX1_dose) DX1_dose = true := by decide +kernel
theorem moX1_dose : MethOk tX1_dose 3 := ⟨Or.inl ⟨rfl, q2090⟩, by decide +kernel, ⟨by decide, by decide⟩, by decide +kernel⟩
def mX1_dose (x1 : Int) (x2 : Int) (x3 : Int) (h : Hp) (Q : Rs → Hp → Prop) : Prop := mX1_placeAt x1 h (kR Q (fun r102 h101 => mX1_number x2 h101 (kN Q (fun h103 => ∀ v104 : Int, v104 = (b2i ((x3 = 0) ∨ (¬ (x3 ≠ 1)))) → mX1_found v104 h103 (kN Q (fun h105 => mX1_mayBe r102 x2 x3 h105 (kI Q (fun x107 h106 => if ¬ (x107 ≠ 0) then Q (rV (vI (-2))) h106 else ob h106 r102 5 ∧ ob h106 (hR h106 r102 6) 70 ∧ 0 ≤ x2 ∧ x2 < (hN h106 (hR h106 r102 6)) ∧ if ¬ ((hI h106 (hR h106 r102 6) (Int.toNat x2)) ≠ 0) then Q (rV (vI (-1))) h106 else nm ((hI h106 (hR h106 r102 6) (Int.toNat x2)) - 1) ∧ 50 ≤ (hR h106 r102 6) ∧ ∀ h116 : Hp, h116 = sI h106 (hR h106 r102 6) (Int.toNat x2) ((hI h106 (hR h106 r102 6) (Int.toNat x2)) - 1) → ob h116 (hR h116 r102 6) 70 ∧ x2 < (hN h116 (hR h116 r102 6)) ∧ Q (rV (vI (hI h116 (hR h116 r102 6) (Int.toNat x2)))) h116))))))))
theorem wX1_dose {G : Gx} (hg : gF G = true) {d : Nat} {x1 : Int} {x2 : Int} {x3 : Int} {h : Hp} {Q : Rs → Hp → Prop} (hm : mX1_dose x1 x2 x3 h Q) : Ct G tX1_dose (d + 363) [vR 50, vI x1, vI x2, vI x3] h Q := by
  refine ct_enter (L0 := [some (vR 50), some (vI x1), some (vI x2), some (vI x3), none]) rfl rfl ?_
  unfold mX1_dose at hm
  refine wc_aload_n (pc := 0) (dAt dtX1_dose 0 rfl) rfl (wc_iload_n (pc := 1) (dAt dtX1_dose 1 rfl) rfl (wc_kf hg fun zk => wc_callV (k := 1) (y' := tX1_placeAt) (av := [vI x1]) (st := []) (pc := 2) (dAt dtX1_dose 2 rfl) lkX1_334 moX1_placeAt q684 qs5 (by decide) (zk.2 _ ka50).1 rfl rfl (Nat.le_of_ble_eq_true rfl) (wX1_placeAt hg hm) (kr_R (fun r102 h101 hm => ?_)) (kx_R rfl)))
  refine wc_astore (pc := 5) (dAt dtX1_dose 3 rfl) (by decide) (wc_L (L' := [some (vR 50), some (vI x1), some (vI x2), some (vI x3), some (vR r102)]) rfl (wc_iload_n (pc := 7) (dAt dtX1_dose 4 rfl) rfl (wc_callS (y' := tX1_number) (av := [vI x2]) (st := []) (pc := 8) (dAt dtX1_dose 5 rfl) lkX1_527 moX1_number q2082 q128 rfl rfl (Nat.le_of_ble_eq_true rfl) (wX1_number hg hm) (kr_N (fun h103 hm => ?_)) (kx_N rfl))))
  obtain ⟨v104, ev104⟩ : ∃ v104 : Int, v104 = (b2i ((x3 = 0) ∨ (¬ (x3 ≠ 1)))) := ⟨_, rfl⟩
  replace hm := hm v104 ev104
  refine wc_iload_n (pc := 11) (dAt dtX1_dose 6 rfl) rfl (?_)
  have kj119 : Wc G tX1_dose (d + 363) h Q 25 [some (vR 50), none, some (vI x2), some (vI x3), some (vR r102)] [vI v104] h103 := by
    refine wc_callS (y' := tX1_found) (av := [vI v104]) (st := []) (pc := 25) (dAt dtX1_dose 14 rfl) lkX1_318 moX1_found q687 q128 rfl rfl (Nat.le_of_ble_eq_true rfl) (wX1_found hg hm) (kr_N (fun h105 hm => ?_)) (kx_N rfl)
    refine wc_aload_n (pc := 28) (dAt dtX1_dose 15 rfl) rfl (wc_aload (pc := 29) (dAt dtX1_dose 16 rfl) rfl (wc_iload_n (pc := 31) (dAt dtX1_dose 17 rfl) rfl (wc_iload_n (pc := 32) (dAt dtX1_dose 18 rfl) rfl (wc_kf hg fun zk => wc_callV (k := 1) (y' := tX1_mayBe) (av := [vR r102, vI x2, vI x3]) (st := []) (pc := 33) (dAt dtX1_dose 19 rfl) lkX1_542 moX1_mayBe q2093 qs61 (by decide) (zk.2 _ ka50).1 rfl rfl (Nat.le_of_ble_eq_true rfl) (wX1_mayBe hg hm) (kr_I (fun x107 h106 hm => ?_)) (kx_I rfl)))))
    refine wc_if_ne (pc := 36) (tgt := 42) (dAt dtX1_dose 20 rfl) (by decide) (fun c108 => ?_) (fun c108 => ?_)
    · replace hm := ite_f (fun z => z c108) hm
      obtain ⟨o109, o110, o111, o112, hm⟩ := hm
      refine wc_aload (pc := 42) (dAt dtX1_dose 23 rfl) rfl (wc_getR (pc := 44) (dAt dtX1_dose 24 rfl) flX1_530_5 rfl o109 (wc_iload_n (pc := 47) (dAt dtX1_dose 25 rfl) rfl (wc_iald (pc := 48) (dAt dtX1_dose 26 rfl) o110 o111 o112 (wc_if_ne (pc := 49) (tgt := 54) (dAt dtX1_dose 27 rfl) (by decide) (fun c113 => ?_) (fun c113 => ?_)))))
      · replace hm := ite_f (fun z => z c113) hm
        obtain ⟨o114, o115, hm⟩ := hm
        obtain ⟨h116, eh116⟩ : ∃ h116 : Hp, h116 = sI h106 (hR h106 r102 6) (Int.toNat x2) ((hI h106 (hR h106 r102 6) (Int.toNat x2)) - 1) := ⟨_, rfl⟩
        replace hm := hm h116 eh116
        obtain ⟨o117, o118, hm⟩ := hm
        exact wc_aload (pc := 54) (dAt dtX1_dose 30 rfl) rfl (wc_getR (pc := 56) (dAt dtX1_dose 31 rfl) flX1_530_5 rfl o109 (wc_iload_n (pc := 59) (dAt dtX1_dose 32 rfl) rfl (wc_dup2 (pc := 60) (dAt dtX1_dose 33 rfl) rfl rfl (wc_iald (pc := 61) (dAt dtX1_dose 34 rfl) o110 o111 o112 (wc_iconst (pc := 62) (dAt dtX1_dose 35 rfl) ⟨by decide, by decide⟩ (wc_isub (pc := 63) (dAt dtX1_dose 36 rfl) o114 (wc_iast (pc := 64) (dAt dtX1_dose 37 rfl) o110 o115 o111 o112 (wc_hp eh116 (wc_aload (pc := 65) (dAt dtX1_dose 38 rfl) rfl (wc_getR (pc := 67) (dAt dtX1_dose 39 rfl) flX1_530_5 rfl (ob_sI eh116 o109) (wc_iload_n (pc := 70) (dAt dtX1_dose 40 rfl) rfl (wc_iald (pc := 71) (dAt dtX1_dose 41 rfl) o117 o111 o118 (wc_iret (pc := 72) (dAt dtX1_dose 42 rfl) rfl (nar_int _) hm)))))))))))))
      · replace hm := ite_t c113 hm
        exact wc_iconst (pc := 52) (dAt dtX1_dose 28 rfl) ⟨by decide, by decide⟩ (wc_iret (pc := 53) (dAt dtX1_dose 29 rfl) rfl (nar_int _) hm)
    · replace hm := ite_t c108 hm
      exact wc_bipush (pc := 39) (dAt dtX1_dose 21 rfl) ⟨by decide, by decide, by decide⟩ (wc_iret (pc := 41) (dAt dtX1_dose 22 rfl) rfl (nar_int _) hm)
  have k120 : ((x3 = 0) ∨ (¬ (x3 ≠ 1))) → Wc G tX1_dose (d + 363) h Q 20 [some (vR 50), some (vI x1), some (vI x2), some (vI x3), some (vR r102)] [] h103 := fun c122 => by
    have z123 := kj119
    rw [show v104 = 1 from ev104.trans (b2i_t c122)] at z123
    exact wc_iconst (pc := 20) (dAt dtX1_dose 11 rfl) ⟨by decide, by decide⟩ (wc_goto (pc := 21) (tgt := 25) (dAt dtX1_dose 12 rfl) (by decide) (wc_drp [1] rfl (z123)))
  have k121 : ¬ ((x3 = 0) ∨ (¬ (x3 ≠ 1))) → Wc G tX1_dose (d + 363) h Q 24 [some (vR 50), some (vI x1), some (vI x2), some (vI x3), some (vR r102)] [] h103 := fun c122 => by
    have z125 := kj119
    rw [show v104 = 0 from ev104.trans (b2i_f c122)] at z125
    exact wc_iconst (pc := 24) (dAt dtX1_dose 13 rfl) ⟨by decide, by decide⟩ (wc_drp [1] rfl (z125))
  exact wc_if_eq (pc := 12) (tgt := 20) (dAt dtX1_dose 7 rfl) (by decide) (fun c127 => (k120 (Or.inl c127))) (fun c127 => wc_iload_n (pc := 15) (dAt dtX1_dose 8 rfl) rfl (wc_iconst (pc := 16) (dAt dtX1_dose 9 rfl) ⟨by decide, by decide⟩ (wc_icmp_ne (pc := 17) (tgt := 24) (dAt dtX1_dose 10 rfl) (by decide) (fun c128 => (k121 (fun z => z.elim c127 (fun z => z c128)))) (fun c128 => (k120 (Or.inr c128))))))
def tX0_dose : Mt := (⟨"FlyingDoctorsLaw", "dose", "(LFlyingDoctors;III[J)I"⟩, method_28_code, 6, (Option.some Jvm.ClassFile.FieldType.int), [((0 : Nat), (12 : Nat), (15 : Nat), (13 : Nat))])
def DX0_dose : List (Nat × Instr × Nat) := [(0, .aload 4, 2), (2, .iconst 0, 1), (3, .aload_n 0, 1), (4, .iload_n 1, 1), (5, .iload_n 2, 1), (6, .iload_n 3, 1), (7, .invokevirtual 98, 3), (10, .i2l, 1), (11, .lastore, 1), (12, .goto 7, 3), (15, .astore 5, 2), (17, .iconst 1, 1), (18, .ireturn, 1), (19, .iconst 0, 1), (20, .ireturn, 1)]
theorem dtX0_dose : chkD (mB tX0_dose) DX0_dose = true := by decide +kernel
theorem moX0_dose : MethOk tX0_dose 5 := ⟨Or.inr q2086, by decide +kernel, ⟨by decide, by decide⟩, by decide +kernel⟩
def mX0_dose (x1 : Int) (x2 : Int) (x3 : Int) (h : Hp) (Q : Rs → Hp → Prop) : Prop := mX1_dose x1 x2 x3 h (kIx (fun a103 h104 => ob h104 a103 41 ∧ (Q (rV (vI 1)) h104)) (fun x102 h101 => ∀ h106 : Hp, h106 = sL h101 158 0 x102 → Q (rV (vI 0)) h106))
theorem wX0_dose {G : Gx} (hg : gF G = true) {d : Nat} {x1 : Int} {x2 : Int} {x3 : Int} {h : Hp} {Q : Rs → Hp → Prop} (hm : mX0_dose x1 x2 x3 h Q) : Ct G tX0_dose (d + 364) [vR 50, vI x1, vI x2, vI x3, vR 158] h Q := by
  refine ct_enter (L0 := [some (vR 50), some (vI x1), some (vI x2), some (vI x3), some (vR 158), none]) rfl rfl ?_
  unfold mX0_dose at hm
  refine wc_aload (pc := 0) (dAt dtX0_dose 0 rfl) rfl (wc_iconst (pc := 2) (dAt dtX0_dose 1 rfl) ⟨by decide, by decide⟩ (wc_aload_n (pc := 3) (dAt dtX0_dose 2 rfl) rfl (wc_iload_n (pc := 4) (dAt dtX0_dose 3 rfl) rfl (wc_iload_n (pc := 5) (dAt dtX0_dose 4 rfl) rfl (wc_iload_n (pc := 6) (dAt dtX0_dose 5 rfl) rfl (wc_kf hg fun zk => wc_callV (k := 1) (y' := tX1_dose) (av := [vI x1, vI x2, vI x3]) (st := [vI 0, vR 158]) (pc := 7) (dAt dtX0_dose 6 rfl) lkX0_98 moX1_dose q2088 q2089 (by decide) (zk.2 _ ka50).1 rfl rfl (Nat.le_of_ble_eq_true rfl) (wX1_dose hg hm) (krx_I (fun x102 h101 hm => ?_)) (kxx_I (fun a103 h104 hm => ?_))))))))
  · obtain ⟨h106, eh106⟩ : ∃ h106 : Hp, h106 = sL h101 158 0 x102 := ⟨_, rfl⟩
    replace hm := hm h106 eh106
    exact wc_i2l (pc := 10) (dAt dtX0_dose 7 rfl) (wc_lastK hg (pc := 11) (dAt dtX0_dose 8 rfl) kr158 (by decide) (by decide) (by decide) (wc_hp eh106 (wc_goto (pc := 12) (tgt := 19) (dAt dtX0_dose 9 rfl) (by decide) (wc_iconst (pc := 19) (dAt dtX0_dose 13 rfl) ⟨by decide, by decide⟩ (wc_iret (pc := 20) (dAt dtX0_dose 14 rfl) rfl (nar_int _) hm)))))
  · obtain ⟨o105, hm⟩ := hm
    refine wx_hit rfl rfl (by decide) q676 (by decide) o105 rfl ?_
    exact wc_astore (pc := 15) (dAt dtX0_dose 10 rfl) (by decide) (wc_L (L' := [some (vR 50), some (vI x1), some (vI x2), some (vI x3), some (vR 158), some (vR a103)]) rfl (wc_iconst (pc := 17) (dAt dtX0_dose 11 rfl) ⟨by decide, by decide⟩ (wc_iret (pc := 18) (dAt dtX0_dose 12 rfl) rfl (nar_int _) hm)))
