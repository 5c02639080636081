set_option maxRecDepth 100000
set_option maxHeartbeats 1000000
/-! what methods do, and their walks, by program -/
def tX0_wet : Mt := (⟨"FlyingDoctorsLaw", "wet", "(LFlyingDoctors;III[J)I"⟩, method_8_code, 6, (Option.some Jvm.ClassFile.FieldType.int), [((0 : Nat), (12 : Nat), (15 : Nat), (13 : Nat)), ((0 : Nat), (12 : Nat), (19 : Nat), (15 : Nat))])
def DX0_wet : List (Nat × Instr × Nat) := [(0, .aload 4, 2), (2, .iconst 0, 1), (3, .aload_n 0, 1), (4, .iload_n 1, 1), (5, .iload_n 2, 1), (6, .iload_n 3, 1), (7, .invokevirtual 31, 3), (10, .i2l, 1), (11, .lastore, 1), (12, .goto 11, 3), (15, .astore 5, 2), (17, .iconst 1, 1), (18, .ireturn, 1), (19, .astore 5, 2), (21, .iconst 2, 1), (22, .ireturn, 1), (23, .iconst 0, 1), (24, .ireturn, 1)]
theorem dtX0_wet : chkD (mB tX0_wet) DX0_wet = true := by decide +kernel
theorem moX0_wet : MethOk tX0_wet 5 := ⟨Or.inr q1527, by decide +kernel, ⟨by decide, by decide⟩, by decide +kernel⟩
def mX0_wet (x1 : Int) (x2 : Int) (x3 : Int) (h : Hp) (Q : Rs → Hp → Prop) : Prop := mX1_wet x1 x2 x3 h (kIx (fun a103 h104 => if hT h104 a103 = 41 then ob h104 a103 41 ∧ (Q (rV (vI 1)) h104) else ob h104 a103 42 ∧ (Q (rV (vI 2)) h104)) (fun x102 h101 => ∀ h108 : Hp, h108 = sL h101 158 0 x102 → Q (rV (vI 0)) h108))
theorem wX0_wet {G : Gx} (hg : gF G = true) {d : Nat} {x1 : Int} {x2 : Int} {x3 : Int} {h : Hp} {Q : Rs → Hp → Prop} (hm : mX0_wet x1 x2 x3 h Q) : Ct G tX0_wet (d + 11) [vR 50, vI x1, vI x2, vI x3, vR 158] h Q := by
  refine ct_enter (L0 := [some (vR 50), some (vI x1), some (vI x2), some (vI x3), some (vR 158), none]) rfl rfl ?_
  unfold mX0_wet at hm
  refine wc_aload (pc := 0) (dAt dtX0_wet 0 rfl) rfl (wc_iconst (pc := 2) (dAt dtX0_wet 1 rfl) ⟨by decide, by decide⟩ (wc_aload_n (pc := 3) (dAt dtX0_wet 2 rfl) rfl (wc_iload_n (pc := 4) (dAt dtX0_wet 3 rfl) rfl (wc_iload_n (pc := 5) (dAt dtX0_wet 4 rfl) rfl (wc_iload_n (pc := 6) (dAt dtX0_wet 5 rfl) rfl (wc_kf hg fun zk => wc_callV (k := 1) (y' := tX1_wet) (av := [vI x1, vI x2, vI x3]) (st := [vI 0, vR 158]) (pc := 7) (dAt dtX0_wet 6 rfl) lkX0_31 moX1_wet q1529 q1530 (by decide) (zk.2 _ ka50).1 rfl rfl (Nat.le_of_ble_eq_true rfl) (wX1_wet hg hm) (krx_I (fun x102 h101 hm => ?_)) (kxx_I (fun a103 h104 hm => ?_))))))))
  · obtain ⟨h108, eh108⟩ : ∃ h108 : Hp, h108 = sL h101 158 0 x102 := ⟨_, rfl⟩
    replace hm := hm h108 eh108
    exact wc_i2l (pc := 10) (dAt dtX0_wet 7 rfl) (wc_lastK hg (pc := 11) (dAt dtX0_wet 8 rfl) kr158 (by decide) (by decide) (by decide) (wc_hp eh108 (wc_goto (pc := 12) (tgt := 23) (dAt dtX0_wet 9 rfl) (by decide) (wc_iconst (pc := 23) (dAt dtX0_wet 16 rfl) ⟨by decide, by decide⟩ (wc_iret (pc := 24) (dAt dtX0_wet 17 rfl) rfl (nar_int _) hm)))))
  · by_cases c107 : hT h104 a103 = 41
    · replace hm := ite_t c107 hm
      obtain ⟨o105, hm⟩ := hm
      refine wx_hit rfl rfl (by decide) q676 (by decide) o105 rfl ?_
      exact wc_astore (pc := 15) (dAt dtX0_wet 10 rfl) (by decide) (wc_L (L' := [some (vR 50), some (vI x1), some (vI x2), some (vI x3), some (vR 158), some (vR a103)]) rfl (wc_iconst (pc := 17) (dAt dtX0_wet 11 rfl) ⟨by decide, by decide⟩ (wc_iret (pc := 18) (dAt dtX0_wet 12 rfl) rfl (nar_int _) hm)))
    · replace hm := ite_f c107 hm
      obtain ⟨o106, hm⟩ := hm
      refine wx_hit2 rfl rfl rfl (by decide) (by decide) q676 q677 (by decide +kernel) (by decide) o106 rfl ?_
      exact wc_astore (pc := 19) (dAt dtX0_wet 13 rfl) (by decide) (wc_L (L' := [some (vR 50), some (vI x1), some (vI x2), some (vI x3), some (vR 158), some (vR a103)]) rfl (wc_iconst (pc := 21) (dAt dtX0_wet 14 rfl) ⟨by decide, by decide⟩ (wc_iret (pc := 22) (dAt dtX0_wet 15 rfl) rfl (nar_int _) hm)))
def tX4_isTime : Mt := (⟨"FlyingDoctorsModel", "isTime", "(I)Z"⟩, prog_24_method_55_code, 2, (Option.some Jvm.ClassFile.FieldType.boolean), [])
def DX4_isTime : List (Nat × Instr × Nat) := [(0, .iload_n 1, 1), (1, .ifCond .lt 15, 3), (4, .iload_n 1, 1), (5, .aload_n 0, 1), (6, .getfield 81, 3), (9, .if_icmp .gt 7, 3), (12, .iconst 1, 1), (13, .goto 4, 3), (16, .iconst 0, 1), (17, .ireturn, 1)]
theorem dtX4_isTime : chkD (mB tX4_isTime) DX4_isTime = true := by decide +kernel
theorem moX4_isTime : MethOk tX4_isTime 1 := ⟨Or.inl ⟨rfl, q2652⟩, by decide +kernel, ⟨by decide, by decide⟩, by decide +kernel⟩
def vX4_isTime (x1 : Int) (h : Hp) : Int := (b2i (¬ (x1 < 0) ∧ (¬ ((hI h 75 1) < x1))))
theorem wX4_isTime {G : Gx} (hg : gF G = true) {d : Nat} {x1 : Int} {h : Hp} {Q : Rs → Hp → Prop} (hq : Q (rV (vI (vX4_isTime x1 h))) h) : Ct G tX4_isTime (d + 0) [vR 75, vI x1] h Q := by
  refine ct_enter (L0 := [some (vR 75), some (vI x1)]) rfl rfl ?_
  have k101 : (¬ (x1 < 0) ∧ (¬ ((hI h 75 1) < x1))) → Wc G tX4_isTime (d + 0) h Q 12 [some (vR 75), some (vI x1)] [] h := fun c103 => by
    have z : Q (rV (vI 1)) h := by
      rw [show (vX4_isTime x1 h) = 1 from (b2i_t c103)] at hq
      exact hq
    exact wc_iconst (pc := 12) (dAt dtX4_isTime 6 rfl) ⟨by decide, by decide⟩ (wc_goto (pc := 13) (tgt := 17) (dAt dtX4_isTime 7 rfl) (by decide) (wc_iret (pc := 17) (dAt dtX4_isTime 9 rfl) rfl (nar_bool (Or.inr rfl)) z))
  have k102 : ¬ (¬ (x1 < 0) ∧ (¬ ((hI h 75 1) < x1))) → Wc G tX4_isTime (d + 0) h Q 16 [some (vR 75), some (vI x1)] [] h := fun c103 => by
    have z : Q (rV (vI 0)) h := by
      rw [show (vX4_isTime x1 h) = 0 from (b2i_f c103)] at hq
      exact hq
    exact wc_iconst (pc := 16) (dAt dtX4_isTime 8 rfl) ⟨by decide, by decide⟩ (wc_iret (pc := 17) (dAt dtX4_isTime 9 rfl) rfl (nar_bool (Or.inl rfl)) z)
  exact wc_iload_n (pc := 0) (dAt dtX4_isTime 0 rfl) rfl (wc_if_lt (pc := 1) (tgt := 16) (dAt dtX4_isTime 1 rfl) (by decide) (fun c104 => (k102 (fun z => z.1 c104))) (fun c104 => wc_iload_n (pc := 4) (dAt dtX4_isTime 2 rfl) rfl (wc_aload_n (pc := 5) (dAt dtX4_isTime 3 rfl) rfl (wc_getKI hg (pc := 6) (dAt dtX4_isTime 4 rfl) flX4_81_4 rfl ka75 (wc_icmp_gt (pc := 9) (tgt := 16) (dAt dtX4_isTime 5 rfl) (by decide) (fun c105 => (k102 (fun z => (fun z => z c105) z.2))) (fun c105 => (k101 ⟨c104, c105⟩)))))))
theorem bX4_isTime (x1 : Int) (h : Hp) : (vX4_isTime x1 h) = 0 ∨ (vX4_isTime x1 h) = 1 := (bool_b2i _)
def tX4_rainOn : Mt := (⟨"FlyingDoctorsModel", "rainOn", "(III)I"⟩, prog_24_method_53_code, 6, (Option.some Jvm.ClassFile.FieldType.int), [])
def DX4_rainOn : List (Nat × Instr × Nat) := [(0, .iconst 0, 1), (1, .istore 4, 2), (3, .iconst 0, 1), (4, .istore 5, 2), (6, .iload 5, 2), (8, .aload_n 0, 1), (9, .getfield 448, 3), (12, .if_icmp .ge 51, 3), (15, .aload_n 0, 1), (16, .getfield 196, 3), (19, .iload 5, 2), (21, .iaload, 1), (22, .iload_n 1, 1), (23, .if_icmp .ne 34, 3), (26, .aload_n 0, 1), (27, .getfield 199, 3), (30, .iload 5, 2), (32, .iaload, 1), (33, .iload_n 2, 1), (34, .if_icmp .ne 23, 3), (37, .aload_n 0, 1), (38, .getfield 205, 3), (41, .iload 5, 2), (43, .iaload, 1), (44, .iload_n 3, 1), (45, .if_icmp .gt 12, 3), (48, .aload_n 0, 1), (49, .getfield 202, 3), (52, .iload 5, 2), (54, .iaload, 1), (55, .istore 4, 2), (57, .iinc 5 1, 3), (60, .goto (-54), 3), (63, .iload 4, 2), (65, .ireturn, 1)]
theorem dtX4_rainOn : chkD (mB tX4_rainOn) DX4_rainOn = true := by decide +kernel
theorem moX4_rainOn : MethOk tX4_rainOn 3 := ⟨Or.inl ⟨rfl, q2660⟩, by decide +kernel, ⟨by decide, by decide⟩, by decide +kernel⟩
def mX4_rainOn (x1 : Int) (x2 : Int) (x3 : Int) (h : Hp) (Q : Rs → Hp → Prop) : Prop := wh2 (fun (C103 : Int → Int → Prop) (x101 : Int) (x102 : Int) => if ¬ ((hI h 75 60) ≤ x102) then 0 ≤ x102 ∧ x102 < 150 ∧ ∀ v108 : Int, v108 = (if ¬ ((hI h 111 (Int.toNat x102)) ≠ x1) ∧ (¬ ((hI h 112 (Int.toNat x102)) ≠ x2) ∧ (¬ (x3 < (hI h 114 (Int.toNat x102))))) then (hI h 113 (Int.toNat x102)) else x101) → nm (x102 + 1) ∧ ∀ i110 : Int, i110 = (x102 + 1) → C103 v108 i110 else Q (rV (vI x101)) h) 0 0
theorem wX4_rainOn {G : Gx} (hg : gF G = true) {d : Nat} {x1 : Int} {x2 : Int} {x3 : Int} {h : Hp} {Q : Rs → Hp → Prop} (hm : mX4_rainOn x1 x2 x3 h Q) : Ct G tX4_rainOn (d + 0) [vR 75, vI x1, vI x2, vI x3] h Q := by
  refine ct_enter (L0 := [some (vR 75), some (vI x1), some (vI x2), some (vI x3), none, none]) rfl rfl ?_
  unfold mX4_rainOn at hm
  refine wc_iconst (pc := 0) (dAt dtX4_rainOn 0 rfl) ⟨by decide, by decide⟩ (wc_istore (pc := 1) (dAt dtX4_rainOn 1 rfl) (by decide) (wc_L (L' := [some (vR 75), some (vI x1), some (vI x2), some (vI x3), some (vI 0), none]) rfl (wc_iconst (pc := 3) (dAt dtX4_rainOn 2 rfl) ⟨by decide, by decide⟩ (wc_istore (pc := 4) (dAt dtX4_rainOn 3 rfl) (by decide) (wc_L (L' := [some (vR 75), some (vI x1), some (vI x2), some (vI x3), some (vI 0), some (vI 0)]) rfl (?_))))))
  refine wh2_ind (P := fun (x101 : Int) (x102 : Int) => Wc G tX4_rainOn (d + 0) h Q 6 [some (vR 75), some (vI x1), some (vI x2), some (vI x3), some (vI x101), some (vI x102)] [] h) (fun C103 ih104 x101 x102 hm => ?_) hm
  refine wc_iload (pc := 6) (dAt dtX4_rainOn 4 rfl) rfl (wc_aload_n (pc := 8) (dAt dtX4_rainOn 5 rfl) rfl (wc_getKI hg (pc := 9) (dAt dtX4_rainOn 6 rfl) flX4_448_4 rfl ka75 (wc_icmp_ge (pc := 12) (tgt := 63) (dAt dtX4_rainOn 7 rfl) (by decide) (fun c105 => ?_) (fun c105 => ?_))))
  · replace hm := ite_f (fun z => z c105) hm
    exact wc_iload (pc := 63) (dAt dtX4_rainOn 33 rfl) rfl (wc_iret (pc := 65) (dAt dtX4_rainOn 34 rfl) rfl (nar_int _) hm)
  · replace hm := ite_t c105 hm
    obtain ⟨o106, o107, hm⟩ := hm
    obtain ⟨v108, ev108⟩ : ∃ v108 : Int, v108 = (if ¬ ((hI h 111 (Int.toNat x102)) ≠ x1) ∧ (¬ ((hI h 112 (Int.toNat x102)) ≠ x2) ∧ (¬ (x3 < (hI h 114 (Int.toNat x102))))) then (hI h 113 (Int.toNat x102)) else x101) := ⟨_, rfl⟩
    replace hm := hm v108 ev108
    refine wc_aload_n (pc := 15) (dAt dtX4_rainOn 8 rfl) rfl (wc_getKR hg (pc := 16) (dAt dtX4_rainOn 9 rfl) flX4_196_4 rfl ka75 kf75_61 (wc_iload (pc := 19) (dAt dtX4_rainOn 10 rfl) rfl (wc_ialdK hg (pc := 21) (dAt dtX4_rainOn 11 rfl) kr111 o106 o107 (wc_iload_n (pc := 22) (dAt dtX4_rainOn 12 rfl) rfl (?_)))))
    have kj111 : Wc G tX4_rainOn (d + 0) h Q 57 [some (vR 75), some (vI x1), some (vI x2), some (vI x3), some (vI v108), some (vI x102)] [] h := by
      obtain ⟨o109, hm⟩ := hm
      obtain ⟨i110, ei110⟩ : ∃ i110 : Int, i110 = (x102 + 1) := ⟨_, rfl⟩
      replace hm := hm i110 ei110
      exact wc_iinc (v := i110) (pc := 57) (dAt dtX4_rainOn 31 rfl) rfl ei110 (ei110 ▸ o109) (by decide) (wc_L (L' := [some (vR 75), some (vI x1), some (vI x2), some (vI x3), some (vI v108), some (vI i110)]) rfl (wc_goto (pc := 60) (tgt := 6) (dAt dtX4_rainOn 32 rfl) (by decide) (ih104 _ _ hm)))
    have k112 : (¬ ((hI h 111 (Int.toNat x102)) ≠ x1) ∧ (¬ ((hI h 112 (Int.toNat x102)) ≠ x2) ∧ (¬ (x3 < (hI h 114 (Int.toNat x102)))))) → Wc G tX4_rainOn (d + 0) h Q 48 [some (vR 75), some (vI x1), some (vI x2), some (vI x3), some (vI x101), some (vI x102)] [] h := fun c114 => by
      have z115 := kj111
      rw [show v108 = (hI h 113 (Int.toNat x102)) from ev108.trans (if_pos c114)] at z115
      exact wc_aload_n (pc := 48) (dAt dtX4_rainOn 26 rfl) rfl (wc_getKR hg (pc := 49) (dAt dtX4_rainOn 27 rfl) flX4_202_4 rfl ka75 kf75_63 (wc_iload (pc := 52) (dAt dtX4_rainOn 28 rfl) rfl (wc_ialdK hg (pc := 54) (dAt dtX4_rainOn 29 rfl) kr113 o106 o107 (wc_istore (pc := 55) (dAt dtX4_rainOn 30 rfl) (by decide) (wc_L (L' := [some (vR 75), some (vI x1), some (vI x2), some (vI x3), some (vI (hI h 113 (Int.toNat x102))), some (vI x102)]) rfl (z115))))))
    have k113 : ¬ (¬ ((hI h 111 (Int.toNat x102)) ≠ x1) ∧ (¬ ((hI h 112 (Int.toNat x102)) ≠ x2) ∧ (¬ (x3 < (hI h 114 (Int.toNat x102)))))) → Wc G tX4_rainOn (d + 0) h Q 57 [some (vR 75), some (vI x1), some (vI x2), some (vI x3), some (vI x101), some (vI x102)] [] h := fun c114 => by
      have z117 := kj111
      rw [show v108 = x101 from ev108.trans (if_neg c114)] at z117
      exact z117
    exact wc_icmp_ne (pc := 23) (tgt := 57) (dAt dtX4_rainOn 13 rfl) (by decide) (fun c119 => (k113 (fun z => z.1 c119))) (fun c119 => wc_aload_n (pc := 26) (dAt dtX4_rainOn 14 rfl) rfl (wc_getKR hg (pc := 27) (dAt dtX4_rainOn 15 rfl) flX4_199_4 rfl ka75 kf75_62 (wc_iload (pc := 30) (dAt dtX4_rainOn 16 rfl) rfl (wc_ialdK hg (pc := 32) (dAt dtX4_rainOn 17 rfl) kr112 o106 o107 (wc_iload_n (pc := 33) (dAt dtX4_rainOn 18 rfl) rfl (wc_icmp_ne (pc := 34) (tgt := 57) (dAt dtX4_rainOn 19 rfl) (by decide) (fun c120 => (k113 (fun z => (fun z => z.1 c120) z.2))) (fun c120 => wc_aload_n (pc := 37) (dAt dtX4_rainOn 20 rfl) rfl (wc_getKR hg (pc := 38) (dAt dtX4_rainOn 21 rfl) flX4_205_4 rfl ka75 kf75_64 (wc_iload (pc := 41) (dAt dtX4_rainOn 22 rfl) rfl (wc_ialdK hg (pc := 43) (dAt dtX4_rainOn 23 rfl) kr114 o106 o107 (wc_iload_n (pc := 44) (dAt dtX4_rainOn 24 rfl) rfl (wc_icmp_gt (pc := 45) (tgt := 57) (dAt dtX4_rainOn 25 rfl) (by decide) (fun c121 => (k113 (fun z => (fun z => (fun z => z c121) z.2) z.2))) (fun c121 => (k112 ⟨c119, ⟨c120, c121⟩⟩))))))))))))))
def tX4_wetOf : Mt := (⟨"FlyingDoctorsModel", "wetOf", "(III)I"⟩, prog_24_method_54_code, 4, (Option.some Jvm.ClassFile.FieldType.int), [])
def DX4_wetOf : List (Nat × Instr × Nat) := [(0, .iconst 4, 1), (1, .aload_n 0, 1), (2, .iload_n 1, 1), (3, .iload_n 2, 1), (4, .iload_n 3, 1), (5, .invokevirtual 454, 3), (8, .imul, 1), (9, .iconst 2, 1), (10, .aload_n 0, 1), (11, .iload_n 1, 1), (12, .iload_n 2, 1), (13, .iconst 1, 1), (14, .isub, 1), (15, .iload_n 3, 1), (16, .invokevirtual 454, 3), (19, .imul, 1), (20, .iadd, 1), (21, .aload_n 0, 1), (22, .iload_n 1, 1), (23, .iload_n 2, 1), (24, .iconst 2, 1), (25, .isub, 1), (26, .iload_n 3, 1), (27, .invokevirtual 454, 3), (30, .iadd, 1), (31, .ireturn, 1)]
theorem dtX4_wetOf : chkD (mB tX4_wetOf) DX4_wetOf = true := by decide +kernel
theorem moX4_wetOf : MethOk tX4_wetOf 3 := ⟨Or.inl ⟨rfl, q2656⟩, by decide +kernel, ⟨by decide, by decide⟩, by decide +kernel⟩
def mX4_wetOf (x1 : Int) (x2 : Int) (x3 : Int) (h : Hp) (Q : Rs → Hp → Prop) : Prop := mX4_rainOn x1 x2 x3 h (kI Q (fun x102 h101 => nm (4 * x102) ∧ nm (x2 - 1) ∧ mX4_rainOn x1 (x2 - 1) x3 h101 (kI Q (fun x106 h105 => nm (2 * x106) ∧ nm ((4 * x102) + (2 * x106)) ∧ nm (x2 - 2) ∧ mX4_rainOn x1 (x2 - 2) x3 h105 (kI Q (fun x111 h110 => nm (((4 * x102) + (2 * x106)) + x111) ∧ Q (rV (vI (((4 * x102) + (2 * x106)) + x111))) h110))))))
theorem wX4_wetOf {G : Gx} (hg : gF G = true) {d : Nat} {x1 : Int} {x2 : Int} {x3 : Int} {h : Hp} {Q : Rs → Hp → Prop} (hm : mX4_wetOf x1 x2 x3 h Q) : Ct G tX4_wetOf (d + 1) [vR 75, vI x1, vI x2, vI x3] h Q := by
  refine ct_enter (L0 := [some (vR 75), some (vI x1), some (vI x2), some (vI x3)]) rfl rfl ?_
  unfold mX4_wetOf at hm
  refine wc_iconst (pc := 0) (dAt dtX4_wetOf 0 rfl) ⟨by decide, by decide⟩ (wc_aload_n (pc := 1) (dAt dtX4_wetOf 1 rfl) rfl (wc_iload_n (pc := 2) (dAt dtX4_wetOf 2 rfl) rfl (wc_iload_n (pc := 3) (dAt dtX4_wetOf 3 rfl) rfl (wc_iload_n (pc := 4) (dAt dtX4_wetOf 4 rfl) rfl (wc_kf hg fun zk => wc_callV (k := 4) (y' := tX4_rainOn) (av := [vI x1, vI x2, vI x3]) (st := [vI 4]) (pc := 5) (dAt dtX4_wetOf 5 rfl) lkX4_454 moX4_rainOn q2659 qs90 (by decide) (zk.2 _ ka75).1 rfl rfl (Nat.le_of_ble_eq_true rfl) (wX4_rainOn hg hm) (kr_I (fun x102 h101 hm => ?_)) (kx_I rfl))))))
  obtain ⟨o103, o104, hm⟩ := hm
  refine wc_imul (pc := 8) (dAt dtX4_wetOf 6 rfl) o103 (wc_iconst (pc := 9) (dAt dtX4_wetOf 7 rfl) ⟨by decide, by decide⟩ (wc_aload_n (pc := 10) (dAt dtX4_wetOf 8 rfl) rfl (wc_iload_n (pc := 11) (dAt dtX4_wetOf 9 rfl) rfl (wc_iload_n (pc := 12) (dAt dtX4_wetOf 10 rfl) rfl (wc_iconst (pc := 13) (dAt dtX4_wetOf 11 rfl) ⟨by decide, by decide⟩ (wc_isub (pc := 14) (dAt dtX4_wetOf 12 rfl) o104 (wc_iload_n (pc := 15) (dAt dtX4_wetOf 13 rfl) rfl (wc_kf hg fun zk => wc_callV (k := 4) (y' := tX4_rainOn) (av := [vI x1, vI (x2 - 1), vI x3]) (st := [vI 2, vI (4 * x102)]) (pc := 16) (dAt dtX4_wetOf 14 rfl) lkX4_454 moX4_rainOn q2659 qs90 (by decide) (zk.2 _ ka75).1 rfl rfl (Nat.le_of_ble_eq_true rfl) (wX4_rainOn hg hm) (kr_I (fun x106 h105 hm => ?_)) (kx_I rfl)))))))))
  obtain ⟨o107, o108, o109, hm⟩ := hm
  refine wc_imul (pc := 19) (dAt dtX4_wetOf 15 rfl) o107 (wc_iadd (pc := 20) (dAt dtX4_wetOf 16 rfl) o108 (wc_aload_n (pc := 21) (dAt dtX4_wetOf 17 rfl) rfl (wc_iload_n (pc := 22) (dAt dtX4_wetOf 18 rfl) rfl (wc_iload_n (pc := 23) (dAt dtX4_wetOf 19 rfl) rfl (wc_iconst (pc := 24) (dAt dtX4_wetOf 20 rfl) ⟨by decide, by decide⟩ (wc_isub (pc := 25) (dAt dtX4_wetOf 21 rfl) o109 (wc_iload_n (pc := 26) (dAt dtX4_wetOf 22 rfl) rfl (wc_kf hg fun zk => wc_callV (k := 4) (y' := tX4_rainOn) (av := [vI x1, vI (x2 - 2), vI x3]) (st := [vI ((4 * x102) + (2 * x106))]) (pc := 27) (dAt dtX4_wetOf 23 rfl) lkX4_454 moX4_rainOn q2659 qs90 (by decide) (zk.2 _ ka75).1 rfl rfl (Nat.le_of_ble_eq_true rfl) (wX4_rainOn hg hm) (kr_I (fun x111 h110 hm => ?_)) (kx_I rfl)))))))))
  obtain ⟨o112, hm⟩ := hm
  exact wc_iadd (pc := 30) (dAt dtX4_wetOf 24 rfl) o112 (wc_iret (pc := 31) (dAt dtX4_wetOf 25 rfl) rfl (nar_int _) hm)
def tX4_wet : Mt := (⟨"FlyingDoctorsModel", "wet", "(III)I"⟩, prog_24_method_56_code, 4, (Option.some Jvm.ClassFile.FieldType.int), [])
def DX4_wet : List (Nat × Instr × Nat) := [(0, .aload_n 0, 1), (1, .iload_n 1, 1), (2, .invokevirtual 75, 3), (5, .ifCond .eq 41, 3), (8, .aload_n 0, 1), (9, .iload_n 2, 1), (10, .invokestatic 451, 3), (13, .ifCond .eq 15, 3), (16, .aload_n 0, 1), (17, .iload_n 3, 1), (18, .invokevirtual 457, 3), (21, .ifCond .eq 7, 3), (24, .iconst 1, 1), (25, .goto 4, 3), (28, .iconst 0, 1), (29, .iconst 2, 1), (30, .invokevirtual 10, 3), (33, .ifCond .eq 13, 3), (36, .aload_n 0, 1), (37, .iload_n 1, 1), (38, .iload_n 2, 1), (39, .iload_n 3, 1), (40, .invokevirtual 460, 3), (43, .goto 4, 3), (46, .iconst 0, 1), (47, .ireturn, 1)]
theorem dtX4_wet : chkD (mB tX4_wet) DX4_wet = true := by decide +kernel
theorem moX4_wet : MethOk tX4_wet 3 := ⟨Or.inl ⟨rfl, q2648⟩, by decide +kernel, ⟨by decide, by decide⟩, by decide +kernel⟩
def mX4_wet (x1 : Int) (x2 : Int) (x3 : Int) (h : Hp) (Q : Rs → Hp → Prop) : Prop := mX4_isPlace x1 h (kI Q (fun x102 h101 => if ¬ (x102 = 0) then ∀ v104 : Int, v104 = (b2i (¬ ((vX4_isDay x2 h101) = 0) ∧ (¬ ((vX4_isTime x3 h101) = 0)))) → mX4_right v104 2 h101 (kI Q (fun x106 h105 => if ¬ (x106 = 0) then mX4_wetOf x1 x2 x3 h105 (kI Q (fun x109 h108 => Q (rV (vI x109)) h108)) else Q (rV (vI 0)) h105)) else Q (rV (vI 0)) h101))
theorem wX4_wet {G : Gx} (hg : gF G = true) {d : Nat} {x1 : Int} {x2 : Int} {x3 : Int} {h : Hp} {Q : Rs → Hp → Prop} (hm : mX4_wet x1 x2 x3 h Q) : Ct G tX4_wet (d + 2) [vR 75, vI x1, vI x2, vI x3] h Q := by
  refine ct_enter (L0 := [some (vR 75), some (vI x1), some (vI x2), some (vI x3)]) rfl rfl ?_
  unfold mX4_wet at hm
  refine wc_aload_n (pc := 0) (dAt dtX4_wet 0 rfl) rfl (wc_iload_n (pc := 1) (dAt dtX4_wet 1 rfl) rfl (wc_kf hg fun zk => wc_callV (k := 4) (y' := tX4_isPlace) (av := [vI x1]) (st := []) (pc := 2) (dAt dtX4_wet 2 rfl) lkX4_75 moX4_isPlace q2148 qs63 (by decide) (zk.2 _ ka75).1 rfl rfl (Nat.le_of_ble_eq_true rfl) (wX4_isPlace hg hm) (kr_I (fun x102 h101 hm => ?_)) (kx_I rfl)))
  refine wc_if_eq (pc := 5) (tgt := 46) (dAt dtX4_wet 3 rfl) (by decide) (fun c103 => ?_) (fun c103 => ?_)
  · replace hm := ite_f (fun z => z c103) hm
    exact wc_iconst (pc := 46) (dAt dtX4_wet 24 rfl) ⟨by decide, by decide⟩ (wc_iret (pc := 47) (dAt dtX4_wet 25 rfl) rfl (nar_int _) hm)
  · replace hm := ite_t c103 hm
    obtain ⟨v104, ev104⟩ : ∃ v104 : Int, v104 = (b2i (¬ ((vX4_isDay x2 h101) = 0) ∧ (¬ ((vX4_isTime x3 h101) = 0)))) := ⟨_, rfl⟩
    replace hm := hm v104 ev104
    refine wc_aload_n (pc := 8) (dAt dtX4_wet 4 rfl) rfl (wc_iload_n (pc := 9) (dAt dtX4_wet 5 rfl) rfl (wc_callS (y' := tX4_isDay) (P := eI (vX4_isDay x2 h101) h101) (pc := 10) (dAt dtX4_wet 6 rfl) lkX4_451 moX4_isDay q2643 q134 rfl rfl (Nat.le_of_ble_eq_true rfl) (wX4_isDay hg ⟨rfl, rfl⟩) (ep_I (?_)) ex_I))
    have kj110 : Wc G tX4_wet (d + 2) h Q 29 [some (vR 75), some (vI x1), some (vI x2), some (vI x3)] [vI v104, vR 75] h101 := by
      refine wc_iconst (pc := 29) (dAt dtX4_wet 15 rfl) ⟨by decide, by decide⟩ (wc_kf hg fun zk => wc_callV (k := 4) (y' := tX4_right) (av := [vI v104, vI 2]) (st := []) (pc := 30) (dAt dtX4_wet 16 rfl) lkX4_10 moX4_right q2152 qs64 (by decide) (zk.2 _ ka75).1 rfl rfl (Nat.le_of_ble_eq_true rfl) (wX4_right hg hm) (kr_I (fun x106 h105 hm => ?_)) (kx_I rfl))
      refine wc_if_eq (pc := 33) (tgt := 46) (dAt dtX4_wet 17 rfl) (by decide) (fun c107 => ?_) (fun c107 => ?_)
      · replace hm := ite_f (fun z => z c107) hm
        exact wc_iconst (pc := 46) (dAt dtX4_wet 24 rfl) ⟨by decide, by decide⟩ (wc_iret (pc := 47) (dAt dtX4_wet 25 rfl) rfl (nar_int _) hm)
      · replace hm := ite_t c107 hm
        refine wc_aload_n (pc := 36) (dAt dtX4_wet 18 rfl) rfl (wc_iload_n (pc := 37) (dAt dtX4_wet 19 rfl) rfl (wc_iload_n (pc := 38) (dAt dtX4_wet 20 rfl) rfl (wc_iload_n (pc := 39) (dAt dtX4_wet 21 rfl) rfl (wc_kf hg fun zk => wc_callV (k := 4) (y' := tX4_wetOf) (av := [vI x1, vI x2, vI x3]) (st := []) (pc := 40) (dAt dtX4_wet 22 rfl) lkX4_460 moX4_wetOf q2655 qs89 (by decide) (zk.2 _ ka75).1 rfl rfl (Nat.le_of_ble_eq_true rfl) (wX4_wetOf hg hm) (kr_I (fun x109 h108 hm => ?_)) (kx_I rfl)))))
        exact wc_goto (pc := 43) (tgt := 47) (dAt dtX4_wet 23 rfl) (by decide) (wc_iret (pc := 47) (dAt dtX4_wet 25 rfl) rfl (nar_int _) hm)
    have k111 : (¬ ((vX4_isDay x2 h101) = 0) ∧ (¬ ((vX4_isTime x3 h101) = 0))) → Wc G tX4_wet (d + 2) h Q 24 [some (vR 75), some (vI x1), some (vI x2), some (vI x3)] [vR 75] h101 := fun c113 => by
      have z114 := kj110
      rw [show v104 = 1 from ev104.trans (b2i_t c113)] at z114
      exact wc_iconst (pc := 24) (dAt dtX4_wet 12 rfl) ⟨by decide, by decide⟩ (wc_goto (pc := 25) (tgt := 29) (dAt dtX4_wet 13 rfl) (by decide) (z114))
    have k112 : ¬ (¬ ((vX4_isDay x2 h101) = 0) ∧ (¬ ((vX4_isTime x3 h101) = 0))) → Wc G tX4_wet (d + 2) h Q 28 [some (vR 75), some (vI x1), some (vI x2), some (vI x3)] [vR 75] h101 := fun c113 => by
      have z116 := kj110
      rw [show v104 = 0 from ev104.trans (b2i_f c113)] at z116
      exact wc_iconst (pc := 28) (dAt dtX4_wet 14 rfl) ⟨by decide, by decide⟩ (z116)
    exact wc_if_eq (pc := 13) (tgt := 28) (dAt dtX4_wet 7 rfl) (by decide) (fun c118 => (k112 (fun z => z.1 c118))) (fun c118 => wc_aload_n (pc := 16) (dAt dtX4_wet 8 rfl) rfl (wc_iload_n (pc := 17) (dAt dtX4_wet 9 rfl) rfl (wc_kf hg fun zk => wc_callV (k := 4) (y' := tX4_isTime) (P := eI (vX4_isTime x3 h101) h101) (pc := 18) (dAt dtX4_wet 10 rfl) lkX4_457 moX4_isTime q2651 qs88 (by decide) (zk.2 _ ka75).1 rfl rfl (Nat.le_of_ble_eq_true rfl) (wX4_isTime hg ⟨rfl, rfl⟩) (ep_I (wc_if_eq (pc := 21) (tgt := 28) (dAt dtX4_wet 11 rfl) (by decide) (fun c119 => (k112 (fun z => (fun z => z c119) z.2))) (fun c119 => (k111 ⟨c118, c119⟩)))) ex_I)))
def tX1_planeAt : Mt := (⟨"FlyingDoctors", "planeAt", "(I)LFlyingDoctors$Plane;"⟩, prog_1_method_21_code, 2, (Option.some (Jvm.ClassFile.FieldType.object "FlyingDoctors$Plane")), [])
def DX1_planeAt : List (Nat × Instr × Nat) := [(0, .iload_n 1, 1), (1, .iconst 0, 1), (2, .aload_n 0, 1), (3, .getfield 272, 3), (6, .invokeinterface 16 1, 5), (11, .iconst 1, 1), (12, .isub, 1), (13, .invokestatic 314, 3), (16, .invokestatic 318, 3), (19, .aload_n 0, 1), (20, .getfield 272, 3), (23, .iload_n 1, 1), (24, .invokeinterface 22 2, 5), (29, .checkcast 116, 3), (32, .areturn, 1)]
theorem dtX1_planeAt : chkD (mB tX1_planeAt) DX1_planeAt = true := by decide +kernel
theorem moX1_planeAt : MethOk tX1_planeAt 1 := ⟨Or.inl ⟨rfl, q1550⟩, by decide +kernel, ⟨by decide, by decide⟩, by decide +kernel⟩
def mX1_planeAt (x1 : Int) (h : Hp) (Q : Rs → Hp → Prop) : Prop := oJ2_size 55 h ∧ nm ((vJ2_size 55 h) - 1) ∧ mX1_found (vX1_in x1 0 ((vJ2_size 55 h) - 1) h) h (kN Q (fun h103 => oJ2_get 55 x1 h103 ∧ ob h103 (vJ2_get 55 x1 h103) 6 ∧ Q (rV (vR (vJ2_get 55 x1 h103))) h103))
theorem wX1_planeAt {G : Gx} (hg : gF G = true) {d : Nat} {x1 : Int} {h : Hp} {Q : Rs → Hp → Prop} (hm : mX1_planeAt x1 h Q) : Ct G tX1_planeAt (d + 9) [vR 50, vI x1] h Q := by
  refine ct_enter (L0 := [some (vR 50), some (vI x1)]) rfl rfl ?_
  unfold mX1_planeAt at hm
  obtain ⟨o101, o102, hm⟩ := hm
  refine wc_iload_n (pc := 0) (dAt dtX1_planeAt 0 rfl) rfl (wc_iconst (pc := 1) (dAt dtX1_planeAt 1 rfl) ⟨by decide, by decide⟩ (wc_aload_n (pc := 2) (dAt dtX1_planeAt 2 rfl) rfl (wc_getKR hg (pc := 3) (dAt dtX1_planeAt 3 rfl) flX1_272_1 rfl ka50 kf50_5 (wc_kf hg fun zk => (wc_callF (k := 32) (x := ⟨"java/util/List", "size", "()I"⟩) (y' := tJ2_size) (P := eI (vJ2_size 55 h) h) (pc := 6) (dAt dtX1_planeAt 4 rfl) q364 q366 q365 ⟨by decide, by decide⟩ moJ2_size rfl q370 q371 q369 q367 q368 (by decide) (zk.2 _ ka55).1 rfl rfl (Nat.le_of_ble_eq_true rfl) (wJ2_size hg o101 ⟨rfl, rfl⟩) (ep_I (wc_iconst (pc := 11) (dAt dtX1_planeAt 5 rfl) ⟨by decide, by decide⟩ (wc_isub (pc := 12) (dAt dtX1_planeAt 6 rfl) o102 (wc_callS (y' := tX1_in) (P := eI (vX1_in x1 0 ((vJ2_size 55 h) - 1) h) h) (pc := 13) (dAt dtX1_planeAt 7 rfl) lkX1_314 moX1_in q374 q128 rfl rfl (Nat.le_of_ble_eq_true rfl) (wX1_in hg ⟨rfl, rfl⟩) (ep_I (wc_callS (y' := tX1_found) (av := [vI (vX1_in x1 0 ((vJ2_size 55 h) - 1) h)]) (st := []) (pc := 16) (dAt dtX1_planeAt 8 rfl) lkX1_318 moX1_found q687 q128 rfl rfl (Nat.le_of_ble_eq_true rfl) (wX1_found hg hm) (kr_N (fun h103 hm => ?_)) (kx_N rfl))) ex_I)))) ex_I)))))
  obtain ⟨o104, o105, hm⟩ := hm
  exact wc_aload_n (pc := 19) (dAt dtX1_planeAt 9 rfl) rfl (wc_getKR hg (pc := 20) (dAt dtX1_planeAt 10 rfl) flX1_272_1 rfl ka50 kf50_5 (wc_iload_n (pc := 23) (dAt dtX1_planeAt 11 rfl) rfl (wc_kf hg fun zk => (wc_callF (k := 32) (x := ⟨"java/util/List", "get", "(I)Ljava/lang/Object;"⟩) (y' := tJ2_get) (P := eR (vJ2_get 55 x1 h103) h103) (pc := 24) (dAt dtX1_planeAt 12 rfl) q506 q508 q507 ⟨by decide, by decide⟩ moJ2_get rfl q511 q512 q510 q367 q509 (by decide) (zk.2 _ ka55).1 rfl rfl (Nat.le_of_ble_eq_true rfl) (wJ2_get hg o104 ⟨rfl, rfl⟩) (ep_R (wc_cast (pc := 29) (dAt dtX1_planeAt 13 rfl) q524 (by decide) (Or.inl rfl) o105 (wc_aret (pc := 32) (dAt dtX1_planeAt 14 rfl) rfl (Or.inl ⟨_, rfl⟩) hm))) ex_R))))
def tX3_clear : Mt := (⟨"FlyingDoctors$Asked", "clear", "()V"⟩, prog_2_method_2_code, 2, (Option.none : Option Jvm.ClassFile.FieldType), [])
def DX3_clear : List (Nat × Instr × Nat) := [(0, .iconst 0, 1), (1, .istore_n 1, 1), (2, .iload_n 1, 1), (3, .bipush 10, 2), (5, .if_icmp .ge 16, 3), (8, .aload_n 0, 1), (9, .getfield 9, 3), (12, .iload_n 1, 1), (13, .iconst 0, 1), (14, .iastore, 1), (15, .iinc 1 1, 3), (18, .goto (-16), 3), (21, .aload_n 0, 1), (22, .iconst 0, 1), (23, .putfield 18, 3), (26, .return_, 1)]
theorem dtX3_clear : chkD (mB tX3_clear) DX3_clear = true := by decide +kernel
theorem moX3_clear : MethOk tX3_clear 0 := ⟨Or.inl ⟨rfl, q1562⟩, by decide +kernel, ⟨by decide, by decide⟩, by decide +kernel⟩
def mX3_clear  (h : Hp) (Q : Rs → Hp → Prop) : Prop := wh2 (fun (C103 : Int → Hp → Prop) (x101 : Int) (h102 : Hp) => if ¬ (10 ≤ x101) then 0 ≤ x101 ∧ x101 < 10 ∧ ∀ h108 : Hp, h108 = sI h102 71 (Int.toNat x101) 0 → nm (x101 + 1) ∧ ∀ i110 : Int, i110 = (x101 + 1) → C103 i110 h108 else ∀ h111 : Hp, h111 = sI h102 70 2 0 → Q rN h111) 0 h
theorem wX3_clear {G : Gx} (hg : gF G = true) {d : Nat}  {h : Hp} {Q : Rs → Hp → Prop} (hm : mX3_clear  h Q) : Ct G tX3_clear (d + 0) [vR 70] h Q := by
  refine ct_enter (L0 := [some (vR 70), none]) rfl rfl ?_
  unfold mX3_clear at hm
  refine wc_iconst (pc := 0) (dAt dtX3_clear 0 rfl) ⟨by decide, by decide⟩ (wc_istore_n (pc := 1) (dAt dtX3_clear 1 rfl) (by decide) (wc_L (L' := [some (vR 70), some (vI 0)]) rfl (?_)))
  refine wh2_ind (P := fun (x101 : Int) (h102 : Hp) => Wc G tX3_clear (d + 0) h Q 2 [some (vR 70), some (vI x101)] [] h102) (fun C103 ih104 x101 h102 hm => ?_) hm
  refine wc_iload_n (pc := 2) (dAt dtX3_clear 2 rfl) rfl (wc_bipush (pc := 3) (dAt dtX3_clear 3 rfl) ⟨by decide, by decide, by decide⟩ (wc_icmp_ge (pc := 5) (tgt := 21) (dAt dtX3_clear 4 rfl) (by decide) (fun c105 => ?_) (fun c105 => ?_)))
  · replace hm := ite_f (fun z => z c105) hm
    obtain ⟨h111, eh111⟩ : ∃ h111 : Hp, h111 = sI h102 70 2 0 := ⟨_, rfl⟩
    replace hm := hm h111 eh111
    exact wc_aload_n (pc := 21) (dAt dtX3_clear 12 rfl) rfl (wc_iconst (pc := 22) (dAt dtX3_clear 13 rfl) ⟨by decide, by decide⟩ (wc_putKI hg (pc := 23) (dAt dtX3_clear 14 rfl) flX3_18_3 (Or.inl rfl) rfl ka70 (by decide) (okI_int _) (wc_hp eh111 (wc_vret (pc := 26) (dAt dtX3_clear 15 rfl) rfl hm))))
  · replace hm := ite_t c105 hm
    obtain ⟨o106, o107, hm⟩ := hm
    obtain ⟨h108, eh108⟩ : ∃ h108 : Hp, h108 = sI h102 71 (Int.toNat x101) 0 := ⟨_, rfl⟩
    replace hm := hm h108 eh108
    obtain ⟨o109, hm⟩ := hm
    obtain ⟨i110, ei110⟩ : ∃ i110 : Int, i110 = (x101 + 1) := ⟨_, rfl⟩
    replace hm := hm i110 ei110
    exact wc_aload_n (pc := 8) (dAt dtX3_clear 5 rfl) rfl (wc_getKR hg (pc := 9) (dAt dtX3_clear 6 rfl) flX3_9_3 rfl ka70 kf70_0 (wc_iload_n (pc := 12) (dAt dtX3_clear 7 rfl) rfl (wc_iconst (pc := 13) (dAt dtX3_clear 8 rfl) ⟨by decide, by decide⟩ (wc_iastK hg (pc := 14) (dAt dtX3_clear 9 rfl) kr71 (by decide) o106 o107 (wc_hp eh108 (wc_iinc (v := i110) (pc := 15) (dAt dtX3_clear 10 rfl) rfl ei110 (ei110 ▸ o109) (by decide) (wc_L (L' := [some (vR 70), some (vI i110)]) rfl (wc_goto (pc := 18) (tgt := 2) (dAt dtX3_clear 11 rfl) (by decide) (ih104 _ _ hm)))))))))
def tX1_asking : Mt := (⟨"FlyingDoctors", "asking", "(LFlyingDoctors$Rules;)LFlyingDoctors$Asked;"⟩, prog_1_method_7_code, 2, (Option.some (Jvm.ClassFile.FieldType.object "FlyingDoctors$Asked")), [])
def DX1_asking : List (Nat × Instr × Nat) := [(0, .aload_n 0, 1), (1, .getfield 49, 3), (4, .invokevirtual 53, 3), (7, .aload_n 1, 1), (8, .getfield 58, 3), (11, .iconst 0, 1), (12, .aload_n 0, 1), (13, .getfield 49, 3), (16, .getfield 62, 3), (19, .iconst 0, 1), (20, .iconst 5, 1), (21, .invokestatic 63, 3), (24, .aload_n 0, 1), (25, .getfield 49, 3), (28, .areturn, 1)]
theorem dtX1_asking : chkD (mB tX1_asking) DX1_asking = true := by decide +kernel
theorem moX1_asking : MethOk tX1_asking 1 := ⟨Or.inl ⟨rfl, q1558⟩, by decide +kernel, ⟨by decide, by decide⟩, by decide +kernel⟩
def mX1_asking (r1 : Nat) (h : Hp) (Q : Rs → Hp → Prop) : Prop := mX3_clear h (kN Q (fun h101 => ob h101 r1 2 ∧ ob h101 (hR h101 r1 0) 70 ∧ (0 : Int) + 5 ≤ hN h101 (hR h101 r1 0) ∧ (0 : Int) + 5 ≤ hN h101 72 ∧ ∀ h107 : Hp, h107 = cpI h101 72 0 (hR h101 r1 0) 0 5 → Q (rV (vR 70)) h107))
theorem wX1_asking {G : Gx} (hg : gF G = true) {d : Nat} {r1 : Nat} {h : Hp} {Q : Rs → Hp → Prop} (hm : mX1_asking r1 h Q) : Ct G tX1_asking (d + 1) [vR 50, vR r1] h Q := by
  refine ct_enter (L0 := [some (vR 50), some (vR r1)]) rfl rfl ?_
  unfold mX1_asking at hm
  refine wc_aload_n (pc := 0) (dAt dtX1_asking 0 rfl) rfl (wc_getKR hg (pc := 1) (dAt dtX1_asking 1 rfl) flX1_49_1 rfl ka50 kf50_17 (wc_kf hg fun zk => wc_callV (k := 3) (y' := tX3_clear) (av := []) (st := []) (pc := 4) (dAt dtX1_asking 2 rfl) lkX1_53 moX3_clear q1560 q1561 (by decide) (zk.2 _ ka70).1 rfl rfl (Nat.le_of_ble_eq_true rfl) (wX3_clear hg hm) (kr_N (fun h101 hm => ?_)) (kx_N rfl)))
  obtain ⟨o102, o103, o104, o105, hm⟩ := hm
  obtain ⟨h107, eh107⟩ : ∃ h107 : Hp, h107 = cpI h101 72 0 (hR h101 r1 0) 0 5 := ⟨_, rfl⟩
  replace hm := hm h107 eh107
  exact wc_aload_n (pc := 7) (dAt dtX1_asking 3 rfl) rfl (wc_getR (pc := 8) (dAt dtX1_asking 4 rfl) flX1_58_2 rfl o102 (wc_iconst (pc := 11) (dAt dtX1_asking 5 rfl) ⟨by decide, by decide⟩ (wc_aload_n (pc := 12) (dAt dtX1_asking 6 rfl) rfl (wc_getKR hg (pc := 13) (dAt dtX1_asking 7 rfl) flX1_49_1 rfl ka50 kf50_17 (wc_getKR hg (pc := 16) (dAt dtX1_asking 8 rfl) flX1_62_3 rfl ka70 kf70_1 (wc_iconst (pc := 19) (dAt dtX1_asking 9 rfl) ⟨by decide, by decide⟩ (wc_iconst (pc := 20) (dAt dtX1_asking 10 rfl) ⟨by decide, by decide⟩ (wc_kf hg fun zk => (wc_copyI (t := 70) (pc := 21) (dAt dtX1_asking 11 rfl) q1563 q498 q497 q139 (by decide) o103 (zk.2 _ kr72).1 (by decide) (by decide) (by decide) (by decide) o104 o105 (Nat.le_of_ble_eq_true rfl) (fun _ _ => okI_int _) (wc_hp eh107 (wc_aload_n (pc := 24) (dAt dtX1_asking 12 rfl) rfl (wc_getKR hg (pc := 25) (dAt dtX1_asking 13 rfl) flX1_49_1 rfl ka50 kf50_17 (wc_aret (pc := 28) (dAt dtX1_asking 14 rfl) rfl (Or.inl ⟨_, rfl⟩) hm)))))))))))))
def tX1_isNight : Mt := (⟨"FlyingDoctors", "isNight", "(I)Z"⟩, prog_1_method_4_code, 1, (Option.some Jvm.ClassFile.FieldType.boolean), [])
def DX1_isNight : List (Nat × Instr × Nat) := [(0, .iload_n 0, 1), (1, .bipush 96, 2), (3, .irem, 1), (4, .bipush 24, 2), (6, .if_icmp .lt 12, 3), (9, .iload_n 0, 1), (10, .bipush 96, 2), (12, .irem, 1), (13, .bipush 72, 2), (15, .if_icmp .lt 7, 3), (18, .iconst 1, 1), (19, .goto 4, 3), (22, .iconst 0, 1), (23, .ireturn, 1)]
theorem dtX1_isNight : chkD (mB tX1_isNight) DX1_isNight = true := by decide +kernel
theorem moX1_isNight : MethOk tX1_isNight 1 := ⟨Or.inl ⟨rfl, q1566⟩, by decide +kernel, ⟨by decide, by decide⟩, by decide +kernel⟩
def vX1_isNight (x0 : Int) (h : Hp) : Int := (b2i (((Int.tmod x0 96) < 24) ∨ (¬ ((Int.tmod x0 96) < 72))))
theorem wX1_isNight {G : Gx} (hg : gF G = true) {d : Nat} {x0 : Int} {h : Hp} {Q : Rs → Hp → Prop} (hq : Q (rV (vI (vX1_isNight x0 h))) h) : Ct G tX1_isNight (d + 0) [vI x0] h Q := by
  refine ct_enter (L0 := [some (vI x0)]) rfl rfl ?_
  have k101 : (((Int.tmod x0 96) < 24) ∨ (¬ ((Int.tmod x0 96) < 72))) → Wc G tX1_isNight (d + 0) h Q 18 [some (vI x0)] [] h := fun c103 => by
    have z : Q (rV (vI 1)) h := by
      rw [show (vX1_isNight x0 h) = 1 from (b2i_t c103)] at hq
      exact hq
    exact wc_iconst (pc := 18) (dAt dtX1_isNight 10 rfl) ⟨by decide, by decide⟩ (wc_goto (pc := 19) (tgt := 23) (dAt dtX1_isNight 11 rfl) (by decide) (wc_iret (pc := 23) (dAt dtX1_isNight 13 rfl) rfl (nar_bool (Or.inr rfl)) z))
  have k102 : ¬ (((Int.tmod x0 96) < 24) ∨ (¬ ((Int.tmod x0 96) < 72))) → Wc G tX1_isNight (d + 0) h Q 22 [some (vI x0)] [] h := fun c103 => by
    have z : Q (rV (vI 0)) h := by
      rw [show (vX1_isNight x0 h) = 0 from (b2i_f c103)] at hq
      exact hq
    exact wc_iconst (pc := 22) (dAt dtX1_isNight 12 rfl) ⟨by decide, by decide⟩ (wc_iret (pc := 23) (dAt dtX1_isNight 13 rfl) rfl (nar_bool (Or.inl rfl)) z)
  exact wc_iload_n (pc := 0) (dAt dtX1_isNight 0 rfl) rfl (wc_bipush (pc := 1) (dAt dtX1_isNight 1 rfl) ⟨by decide, by decide, by decide⟩ (wc_irem (pc := 3) (dAt dtX1_isNight 2 rfl) (by decide) (wc_bipush (pc := 4) (dAt dtX1_isNight 3 rfl) ⟨by decide, by decide, by decide⟩ (wc_icmp_lt (pc := 6) (tgt := 18) (dAt dtX1_isNight 4 rfl) (by decide) (fun c104 => (k101 (Or.inl c104))) (fun c104 => wc_iload_n (pc := 9) (dAt dtX1_isNight 5 rfl) rfl (wc_bipush (pc := 10) (dAt dtX1_isNight 6 rfl) ⟨by decide, by decide, by decide⟩ (wc_irem (pc := 12) (dAt dtX1_isNight 7 rfl) (by decide) (wc_bipush (pc := 13) (dAt dtX1_isNight 8 rfl) ⟨by decide, by decide, by decide⟩ (wc_icmp_lt (pc := 15) (tgt := 22) (dAt dtX1_isNight 9 rfl) (by decide) (fun c105 => (k102 (fun z => z.elim c104 (fun z => z c105)))) (fun c105 => (k101 (Or.inr c105))))))))))))
theorem bX1_isNight (x0 : Int) (h : Hp) : (vX1_isNight x0 h) = 0 ∨ (vX1_isNight x0 h) = 1 := (bool_b2i _)
def tJ4_abs : Mt := (⟨"java/lang/Math", "abs", "(I)I"⟩, prog_37_method_59_code, 1, (Option.some Jvm.ClassFile.FieldType.int), [])
def DJ4_abs : List (Nat × Instr × Nat) := [(0, .iload_n 0, 1), (1, .ifCond .ge 8, 3), (4, .iload_n 0, 1), (5, .ineg, 1), (6, .goto 4, 3), (9, .iload_n 0, 1), (10, .ireturn, 1)]
theorem dtJ4_abs : chkD (mB tJ4_abs) DJ4_abs = true := by decide +kernel
theorem moJ4_abs : MethOk tJ4_abs 1 := ⟨Or.inl ⟨rfl, q1573⟩, by decide +kernel, ⟨by decide, by decide⟩, by decide +kernel⟩
def vJ4_abs (x0 : Int) (h : Hp) : Int := (if ¬ (0 ≤ x0) then (- x0) else x0)
def oJ4_abs (x0 : Int) (h : Hp) : Prop := ((¬ (0 ≤ x0)) → nm (- x0))
theorem wJ4_abs {G : Gx} (hg : gF G = true) {d : Nat} {x0 : Int} {h : Hp} {Q : Rs → Hp → Prop} (hm : oJ4_abs x0 h) (hq : Q (rV (vI (vJ4_abs x0 h))) h) : Ct G tJ4_abs (d + 0) [vI x0] h Q := by
  refine ct_enter (L0 := [some (vI x0)]) rfl rfl ?_
  have p102 := hm
  have k103 : (¬ (0 ≤ x0)) → Wc G tJ4_abs (d + 0) h Q 4 [some (vI x0)] [] h := fun c105 => by
    have o101 := (p102 c105)
    have z : Q (rV (vI (- x0))) h := by
      rw [show (vJ4_abs x0 h) = (- x0) from (if_pos c105)] at hq
      exact hq
    exact wc_iload_n (pc := 4) (dAt dtJ4_abs 2 rfl) rfl (wc_ineg (pc := 5) (dAt dtJ4_abs 3 rfl) o101 (wc_goto (pc := 6) (tgt := 10) (dAt dtJ4_abs 4 rfl) (by decide) (wc_iret (pc := 10) (dAt dtJ4_abs 6 rfl) rfl (nar_int _) z)))
  have k104 : ¬ (¬ (0 ≤ x0)) → Wc G tJ4_abs (d + 0) h Q 9 [some (vI x0)] [] h := fun c105 => by
    have z : Q (rV (vI x0)) h := by
      rw [show (vJ4_abs x0 h) = x0 from (if_neg c105)] at hq
      exact hq
    exact wc_iload_n (pc := 9) (dAt dtJ4_abs 5 rfl) rfl (wc_iret (pc := 10) (dAt dtJ4_abs 6 rfl) rfl (nar_int _) z)
  exact wc_iload_n (pc := 0) (dAt dtJ4_abs 0 rfl) rfl (wc_if_ge (pc := 1) (tgt := 9) (dAt dtJ4_abs 1 rfl) (by decide) (fun c106 => (k104 (fun z => z c106))) (fun c106 => (k103 c106)))
def tX5_miles : Mt := (⟨"FlyingDoctors$Place", "miles", "(LFlyingDoctors$Place;)I"⟩, prog_14_method_2_code, 2, (Option.some Jvm.ClassFile.FieldType.int), [])
def DX5_miles : List (Nat × Instr × Nat) := [(0, .iconst 4, 1), (1, .aload_n 0, 1), (2, .getfield 19, 3), (5, .aload_n 1, 1), (6, .getfield 19, 3), (9, .isub, 1), (10, .invokestatic 35, 3), (13, .aload_n 0, 1), (14, .getfield 22, 3), (17, .aload_n 1, 1), (18, .getfield 22, 3), (21, .isub, 1), (22, .invokestatic 35, 3), (25, .iadd, 1), (26, .imul, 1), (27, .ireturn, 1)]
theorem dtX5_miles : chkD (mB tX5_miles) DX5_miles = true := by decide +kernel
theorem moX5_miles : MethOk tX5_miles 1 := ⟨Or.inl ⟨rfl, q1570⟩, by decide +kernel, ⟨by decide, by decide⟩, by decide +kernel⟩
def vX5_miles (r0 : Nat) (r1 : Nat) (h : Hp) : Int := (4 * ((vJ4_abs ((hI h r0 1) - (hI h r1 1)) h) + (vJ4_abs ((hI h r0 2) - (hI h r1 2)) h)))
def oX5_miles (r0 : Nat) (r1 : Nat) (h : Hp) : Prop := ob h r0 5 ∧ ob h r1 5 ∧ nm ((hI h r0 1) - (hI h r1 1)) ∧ oJ4_abs ((hI h r0 1) - (hI h r1 1)) h ∧ nm ((hI h r0 2) - (hI h r1 2)) ∧ oJ4_abs ((hI h r0 2) - (hI h r1 2)) h ∧ nm ((vJ4_abs ((hI h r0 1) - (hI h r1 1)) h) + (vJ4_abs ((hI h r0 2) - (hI h r1 2)) h)) ∧ nm (4 * ((vJ4_abs ((hI h r0 1) - (hI h r1 1)) h) + (vJ4_abs ((hI h r0 2) - (hI h r1 2)) h)))
theorem wX5_miles {G : Gx} (hg : gF G = true) {d : Nat} {r0 : Nat} {r1 : Nat} {h : Hp} {Q : Rs → Hp → Prop} (hm : oX5_miles r0 r1 h) (hq : Q (rV (vI (vX5_miles r0 r1 h))) h) : Ct G tX5_miles (d + 1) [vR r0, vR r1] h Q := by
  refine ct_enter (L0 := [some (vR r0), some (vR r1)]) rfl rfl ?_
  obtain ⟨o101, o102, o103, o104, o105, o106, o107, o108⟩ := hm
  have z : Q (rV (vI (4 * ((vJ4_abs ((hI h r0 1) - (hI h r1 1)) h) + (vJ4_abs ((hI h r0 2) - (hI h r1 2)) h))))) h := by
    rw [show (vX5_miles r0 r1 h) = (4 * ((vJ4_abs ((hI h r0 1) - (hI h r1 1)) h) + (vJ4_abs ((hI h r0 2) - (hI h r1 2)) h))) from rfl] at hq
    exact hq
  exact wc_iconst (pc := 0) (dAt dtX5_miles 0 rfl) ⟨by decide, by decide⟩ (wc_aload_n (pc := 1) (dAt dtX5_miles 1 rfl) rfl (wc_getI (pc := 2) (dAt dtX5_miles 2 rfl) flX5_19_5 rfl o101 (wc_aload_n (pc := 5) (dAt dtX5_miles 3 rfl) rfl (wc_getI (pc := 6) (dAt dtX5_miles 4 rfl) flX5_19_5 rfl o102 (wc_isub (pc := 9) (dAt dtX5_miles 5 rfl) o103 (wc_callS (y' := tJ4_abs) (P := eI (vJ4_abs ((hI h r0 1) - (hI h r1 1)) h) h) (pc := 10) (dAt dtX5_miles 6 rfl) lkX5_35 moJ4_abs q1572 q137 rfl rfl (Nat.le_of_ble_eq_true rfl) (wJ4_abs hg o104 ⟨rfl, rfl⟩) (ep_I (wc_aload_n (pc := 13) (dAt dtX5_miles 7 rfl) rfl (wc_getI (pc := 14) (dAt dtX5_miles 8 rfl) flX5_22_5 rfl o101 (wc_aload_n (pc := 17) (dAt dtX5_miles 9 rfl) rfl (wc_getI (pc := 18) (dAt dtX5_miles 10 rfl) flX5_22_5 rfl o102 (wc_isub (pc := 21) (dAt dtX5_miles 11 rfl) o105 (wc_callS (y' := tJ4_abs) (P := eI (vJ4_abs ((hI h r0 2) - (hI h r1 2)) h) h) (pc := 22) (dAt dtX5_miles 12 rfl) lkX5_35 moJ4_abs q1572 q137 rfl rfl (Nat.le_of_ble_eq_true rfl) (wJ4_abs hg o106 ⟨rfl, rfl⟩) (ep_I (wc_iadd (pc := 25) (dAt dtX5_miles 13 rfl) o107 (wc_imul (pc := 26) (dAt dtX5_miles 14 rfl) o108 (wc_iret (pc := 27) (dAt dtX5_miles 15 rfl) rfl (nar_int _) z)))) ex_I))))))) ex_I))))))
def vX12_value (r0 : Nat) (h : Hp) : Int := (hI h r0 0)
def oX12_value (r0 : Nat) (h : Hp) : Prop := ob h r0 12
theorem wX12_value {G : Gx} (hg : gF G = true) {d : Nat} {r0 : Nat} {h : Hp} {Q : Rs → Hp → Prop} (hm : oX12_value r0 h) (hq : Q (rV (vI (vX12_value r0 h))) h) : Ct G tX12_value (d + 0) [vR r0, vR 70] h Q := by
  refine ct_enter (L0 := [some (vR r0), some (vR 70)]) rfl rfl ?_
  have o101 := hm
  have z : Q (rV (vI (hI h r0 0))) h := by
    rw [show (vX12_value r0 h) = (hI h r0 0) from rfl] at hq
    exact hq
  exact wc_aload_n (pc := 0) (dAt dtX12_value 0 rfl) rfl (wc_getI (pc := 1) (dAt dtX12_value 1 rfl) flX12_7_12 rfl o101 (wc_iret (pc := 4) (dAt dtX12_value 2 rfl) rfl (nar_int _) z))
def vX13_value (r0 : Nat) (h : Hp) : Int := (hI h 71 (Int.toNat (hI h r0 0)))
def oX13_value (r0 : Nat) (h : Hp) : Prop := ob h r0 13 ∧ 0 ≤ (hI h r0 0) ∧ (hI h r0 0) < 10
theorem wX13_value {G : Gx} (hg : gF G = true) {d : Nat} {r0 : Nat} {h : Hp} {Q : Rs → Hp → Prop} (hm : oX13_value r0 h) (hq : Q (rV (vI (vX13_value r0 h))) h) : Ct G tX13_value (d + 0) [vR r0, vR 70] h Q := by
  refine ct_enter (L0 := [some (vR r0), some (vR 70)]) rfl rfl ?_
  obtain ⟨o101, o102, o103⟩ := hm
  have z : Q (rV (vI (hI h 71 (Int.toNat (hI h r0 0))))) h := by
    rw [show (vX13_value r0 h) = (hI h 71 (Int.toNat (hI h r0 0))) from rfl] at hq
    exact hq
  exact wc_aload_n (pc := 0) (dAt dtX13_value 0 rfl) rfl (wc_getKR hg (pc := 1) (dAt dtX13_value 1 rfl) flX13_13_3 rfl ka70 kf70_0 (wc_aload_n (pc := 4) (dAt dtX13_value 2 rfl) rfl (wc_getI (pc := 5) (dAt dtX13_value 3 rfl) flX13_7_13 rfl o101 (wc_ialdK hg (pc := 8) (dAt dtX13_value 4 rfl) kr71 o102 o103 (wc_iret (pc := 9) (dAt dtX13_value 5 rfl) rfl (nar_int _) z)))))
def vX14_value (r0 : Nat) (h : Hp) : Int := (hI h 72 (Int.toNat (hI h r0 0)))
def oX14_value (r0 : Nat) (h : Hp) : Prop := ob h r0 14 ∧ 0 ≤ (hI h r0 0) ∧ (hI h r0 0) < 5
theorem wX14_value {G : Gx} (hg : gF G = true) {d : Nat} {r0 : Nat} {h : Hp} {Q : Rs → Hp → Prop} (hm : oX14_value r0 h) (hq : Q (rV (vI (vX14_value r0 h))) h) : Ct G tX14_value (d + 0) [vR r0, vR 70] h Q := by
  refine ct_enter (L0 := [some (vR r0), some (vR 70)]) rfl rfl ?_
  obtain ⟨o101, o102, o103⟩ := hm
  have z : Q (rV (vI (hI h 72 (Int.toNat (hI h r0 0))))) h := by
    rw [show (vX14_value r0 h) = (hI h 72 (Int.toNat (hI h r0 0))) from rfl] at hq
    exact hq
  exact wc_aload_n (pc := 0) (dAt dtX14_value 0 rfl) rfl (wc_getKR hg (pc := 1) (dAt dtX14_value 1 rfl) flX14_13_3 rfl ka70 kf70_1 (wc_aload_n (pc := 4) (dAt dtX14_value 2 rfl) rfl (wc_getI (pc := 5) (dAt dtX14_value 3 rfl) flX14_7_14 rfl o101 (wc_ialdK hg (pc := 8) (dAt dtX14_value 4 rfl) kr72 o102 o103 (wc_iret (pc := 9) (dAt dtX14_value 5 rfl) rfl (nar_int _) z)))))
def vX15_value (r0 : Nat) (h : Hp) : Int := (iand (ishr (hI h 70 2) (hI h r0 0)) 1)
def oX15_value (r0 : Nat) (h : Hp) : Prop := ob h r0 15
theorem wX15_value {G : Gx} (hg : gF G = true) {d : Nat} {r0 : Nat} {h : Hp} {Q : Rs → Hp → Prop} (hm : oX15_value r0 h) (hq : Q (rV (vI (vX15_value r0 h))) h) : Ct G tX15_value (d + 0) [vR r0, vR 70] h Q := by
  refine ct_enter (L0 := [some (vR r0), some (vR 70)]) rfl rfl ?_
  have o101 := hm
  have z : Q (rV (vI (iand (ishr (hI h 70 2) (hI h r0 0)) 1))) h := by
    rw [show (vX15_value r0 h) = (iand (ishr (hI h 70 2) (hI h r0 0)) 1) from rfl] at hq
    exact hq
  exact wc_aload_n (pc := 0) (dAt dtX15_value 0 rfl) rfl (wc_getKI hg (pc := 1) (dAt dtX15_value 1 rfl) flX15_13_3 rfl ka70 (wc_aload_n (pc := 4) (dAt dtX15_value 2 rfl) rfl (wc_getI (pc := 5) (dAt dtX15_value 3 rfl) flX15_7_15 rfl o101 (wc_ishr (pc := 8) (dAt dtX15_value 4 rfl) (wc_iconst (pc := 9) (dAt dtX15_value 5 rfl) ⟨by decide, by decide⟩ (wc_iand (pc := 10) (dAt dtX15_value 6 rfl) (wc_iret (pc := 11) (dAt dtX15_value 7 rfl) rfl (nar_int _) z)))))))
def tX10_holds : Mt := (⟨"FlyingDoctors$Ex", "holds", "(LFlyingDoctors$Asked;)Z"⟩, prog_7_method_3_code, 2, (Option.some Jvm.ClassFile.FieldType.boolean), [])
def DX10_holds : List (Nat × Instr × Nat) := [(0, .aload_n 0, 1), (1, .aload_n 1, 1), (2, .invokevirtual 7, 3), (5, .ifCond .eq 7, 3), (8, .iconst 1, 1), (9, .goto 4, 3), (12, .iconst 0, 1), (13, .ireturn, 1)]
theorem dtX10_holds : chkD (mB tX10_holds) DX10_holds = true := by decide +kernel
theorem moX10_holds : MethOk tX10_holds 1 := ⟨Or.inl ⟨rfl, q1584⟩, by decide +kernel, ⟨by decide, by decide⟩, by decide +kernel⟩
def mX10_holds (E : Nat → Hp → (Rs → Hp → Prop) → Prop) (r0 : Nat) (h : Hp) (Q : Rs → Hp → Prop) : Prop := obX h r0 ∧ E r0 h (kI Q (fun x103 h102 => ∀ v104 : Int, v104 = (b2i (¬ (x103 = 0))) → Q (rV (vI v104)) h102))
theorem wX10_holds {G : Gx} (hg : gF G = true) {d : Nat} {E : Nat → Hp → (Rs → Hp → Prop) → Prop} (hE : ∀ (r : Nat) (h : Hp) (P : Rs → Hp → Prop), E r h P → CtX G d r h P) {r0 : Nat} {h : Hp} {Q : Rs → Hp → Prop} (hm : mX10_holds E r0 h Q) : Ct G tX10_holds (d + 1) [vR r0, vR 70] h Q := by
  refine ct_enter (L0 := [some (vR r0), some (vR 70)]) rfl rfl ?_
  unfold mX10_holds at hm
  obtain ⟨o101, hm⟩ := hm
  refine wc_aload_n (pc := 0) (dAt dtX10_holds 0 rfl) rfl (wc_aload_n (pc := 1) (dAt dtX10_holds 1 rfl) rfl (wc_callUX (st := []) (pc := 2) (dAt dtX10_holds 2 rfl) q1585 o101 rfl (Nat.le_of_ble_eq_true rfl) ((hE _ _ _ hm).deep (by omega)) (kr_I (fun x103 h102 hm => ?_)) (kx_I rfl)))
  obtain ⟨v104, ev104⟩ : ∃ v104 : Int, v104 = (b2i (¬ (x103 = 0))) := ⟨_, rfl⟩
  replace hm := hm v104 ev104
  have kj105 : Wc G tX10_holds (d + 1) h Q 13 [some (vR r0), none] [vI v104] h102 := by
    exact wc_iret (pc := 13) (dAt dtX10_holds 7 rfl) rfl (nar_bool (bo_tr ev104.symm (bool_b2i _))) hm
  have k106 : (¬ (x103 = 0)) → Wc G tX10_holds (d + 1) h Q 8 [some (vR r0), some (vR 70)] [] h102 := fun c108 => by
    have z109 := kj105
    rw [show v104 = 1 from ev104.trans (b2i_t c108)] at z109
    exact wc_iconst (pc := 8) (dAt dtX10_holds 4 rfl) ⟨by decide, by decide⟩ (wc_goto (pc := 9) (tgt := 13) (dAt dtX10_holds 5 rfl) (by decide) (wc_drp [1] rfl (z109)))
  have k107 : ¬ (¬ (x103 = 0)) → Wc G tX10_holds (d + 1) h Q 12 [some (vR r0), some (vR 70)] [] h102 := fun c108 => by
    have z111 := kj105
    rw [show v104 = 0 from ev104.trans (b2i_f c108)] at z111
    exact wc_iconst (pc := 12) (dAt dtX10_holds 6 rfl) ⟨by decide, by decide⟩ (wc_drp [1] rfl (z111))
  exact wc_if_eq (pc := 5) (tgt := 12) (dAt dtX10_holds 3 rfl) (by decide) (fun c113 => (k107 (fun z => z c113))) (fun c113 => (k106 c113))
def tJ17_charAt : Mt := (⟨"java/lang/AbstractStringBuilder", "charAt", "(I)C"⟩, prog_26_method_14_code, 5, (Option.some Jvm.ClassFile.FieldType.char), [])
def DJ17_charAt : List (Nat × Instr × Nat) := [(0, .aload_n 0, 1), (1, .getfield 22, 3), (4, .istore_n 2, 1), (5, .aload_n 0, 1), (6, .getfield 15, 3), (9, .astore_n 3, 1), (10, .aload_n 0, 1), (11, .getfield 79, 3), (14, .aload_n 3, 1), (15, .arraylength, 1), (16, .iload_n 2, 1), (17, .ishr, 1), (18, .invokestatic 138, 3), (21, .istore 4, 2), (23, .iload_n 1, 1), (24, .iload 4, 2), (26, .invokestatic 144, 3), (29, .iload_n 2, 1), (30, .ifCond .ne 12, 3), (33, .aload_n 3, 1), (34, .iload_n 1, 1), (35, .baload, 1), (36, .sipush 255, 3), (39, .iand, 1), (40, .i2c, 1), (41, .ireturn, 1), (42, .aload_n 3, 1), (43, .iload_n 1, 1), (44, .invokestatic 148, 3), (47, .ireturn, 1)]
theorem dtJ17_charAt : chkD (mB tJ17_charAt) DJ17_charAt = true := by decide +kernel
theorem moJ17_charAt : MethOk tJ17_charAt 1 := ⟨Or.inl ⟨rfl, q1614⟩, by decide +kernel, ⟨by decide, by decide⟩, by decide +kernel⟩
def mJ17_charAt (r0 : Nat) (x1 : Int) (h : Hp) (Q : Rs → Hp → Prop) : Prop := ob h r0 48 ∧ ∀ v102 : Int, v102 = (hI h r0 1) → ∀ r103 : Nat, r103 = (hR h r0 0) → ob h r103 71 ∧ nm (hN h r103 : Int) ∧ ∀ v106 : Int, v106 = (vJ4_min (hI h r0 3) (ishr (hN h r103 : Int) v102) h) → mJ13_checkIndex x1 v106 h (kN Q (fun h107 => ¬ (v102 ≠ 0) ∧ ob h107 r103 71 ∧ 0 ≤ x1 ∧ x1 < (hN h107 r103) ∧ narrow .char (.int (Int32.ofInt (i2c (iand (hI h107 r103 (Int.toNat x1)) 255)))) = .int (Int32.ofInt (i2c (iand (hI h107 r103 (Int.toNat x1)) 255))) ∧ Q (rV (vI (i2c (iand (hI h107 r103 (Int.toNat x1)) 255)))) h107))
theorem wJ17_charAt {G : Gx} (hg : gF G = true) {d : Nat} {r0 : Nat} {x1 : Int} {h : Hp} {Q : Rs → Hp → Prop} (hm : mJ17_charAt r0 x1 h Q) : Ct G tJ17_charAt (d + 2) [vR r0, vI x1] h Q := by
  refine ct_enter (L0 := [some (vR r0), some (vI x1), none, none, none]) rfl rfl ?_
  unfold mJ17_charAt at hm
  obtain ⟨o101, hm⟩ := hm
  obtain ⟨v102, ev102⟩ : ∃ v102 : Int, v102 = (hI h r0 1) := ⟨_, rfl⟩
  replace hm := hm v102 ev102
  obtain ⟨r103, er103⟩ : ∃ r103 : Nat, r103 = (hR h r0 0) := ⟨_, rfl⟩
  replace hm := hm r103 er103
  obtain ⟨o104, o105, hm⟩ := hm
  obtain ⟨v106, ev106⟩ : ∃ v106 : Int, v106 = (vJ4_min (hI h r0 3) (ishr (hN h r103 : Int) v102) h) := ⟨_, rfl⟩
  replace hm := hm v106 ev106
  refine wc_aload_n (pc := 0) (dAt dtJ17_charAt 0 rfl) rfl (wc_getI (pc := 1) (dAt dtJ17_charAt 1 rfl) flJ17_22_48 rfl o101 (wc_vi ev102 (wc_istore_n (pc := 4) (dAt dtJ17_charAt 2 rfl) (by decide) (wc_L (L' := [some (vR r0), some (vI x1), some (vI v102), none, none]) rfl (wc_aload_n (pc := 5) (dAt dtJ17_charAt 3 rfl) rfl (wc_getR (pc := 6) (dAt dtJ17_charAt 4 rfl) flJ17_15_48 rfl o101 (wc_vr er103 (wc_astore_n (pc := 9) (dAt dtJ17_charAt 5 rfl) (by decide) (wc_L (L' := [some (vR r0), some (vI x1), some (vI v102), some (vR r103), none]) rfl (wc_aload_n (pc := 10) (dAt dtJ17_charAt 6 rfl) rfl (wc_getI (pc := 11) (dAt dtJ17_charAt 7 rfl) flJ17_79_48 rfl o101 (wc_aload_n (pc := 14) (dAt dtJ17_charAt 8 rfl) rfl (wc_alen (pc := 15) (dAt dtJ17_charAt 9 rfl) ⟨by decide, by decide⟩ o104 o105 (wc_iload_n (pc := 16) (dAt dtJ17_charAt 10 rfl) rfl (wc_ishr (pc := 17) (dAt dtJ17_charAt 11 rfl) (wc_callS (y' := tJ4_min) (P := eI (vJ4_min (hI h r0 3) (ishr (hN h r103 : Int) v102) h) h) (pc := 18) (dAt dtJ17_charAt 12 rfl) lkJ17_138 moJ4_min q494 q137 rfl rfl (Nat.le_of_ble_eq_true rfl) (wJ4_min hg ⟨rfl, rfl⟩) (ep_I (wc_vi ev106 (wc_istore (pc := 21) (dAt dtJ17_charAt 13 rfl) (by decide) (wc_L (L' := [some (vR r0), some (vI x1), some (vI v102), some (vR r103), some (vI v106)]) rfl (wc_iload_n (pc := 23) (dAt dtJ17_charAt 14 rfl) rfl (wc_iload (pc := 24) (dAt dtJ17_charAt 15 rfl) rfl (wc_callS (y' := tJ13_checkIndex) (av := [vI x1, vI v106]) (st := []) (pc := 26) (dAt dtJ17_charAt 16 rfl) lkJ17_144 moJ13_checkIndex q947 q150 rfl rfl (Nat.le_of_ble_eq_true rfl) (wJ13_checkIndex hg hm) (kr_N (fun h107 hm => ?_)) (kx_N rfl)))))))) ex_I))))))))))))))))
  obtain ⟨o108, o110, o111, o112, o113, hm⟩ := hm
  exact wc_iload_n (pc := 29) (dAt dtJ17_charAt 17 rfl) rfl (wc_if_ne (pc := 30) (tgt := 42) (dAt dtJ17_charAt 18 rfl) (by decide) (fun c109 => absurd c109 o108) (fun c109 =>  (wc_aload_n (pc := 33) (dAt dtJ17_charAt 19 rfl) rfl (wc_iload_n (pc := 34) (dAt dtJ17_charAt 20 rfl) rfl (wc_bald (pc := 35) (dAt dtJ17_charAt 21 rfl) o110 o111 o112 (wc_sipush (pc := 36) (dAt dtJ17_charAt 22 rfl) ⟨by decide, by decide, by decide⟩ (wc_iand (pc := 39) (dAt dtJ17_charAt 23 rfl) (wc_i2c (pc := 40) (dAt dtJ17_charAt 24 rfl) (wc_iret (pc := 41) (dAt dtJ17_charAt 25 rfl) rfl o113 hm)))))))))
def tJ18_charAt : Mt := (⟨"java/lang/StringBuilder", "charAt", "(I)C"⟩, prog_41_method_88_code, 2, (Option.some Jvm.ClassFile.FieldType.char), [])
def DJ18_charAt : List (Nat × Instr × Nat) := [(0, .aload_n 0, 1), (1, .iload_n 1, 1), (2, .invokespecial 329, 3), (5, .ireturn, 1)]
theorem dtJ18_charAt : chkD (mB tJ18_charAt) DJ18_charAt = true := by decide +kernel
theorem moJ18_charAt : MethOk tJ18_charAt 1 := ⟨Or.inl ⟨rfl, q1611⟩, by decide +kernel, ⟨by decide, by decide⟩, by decide +kernel⟩
def mJ18_charAt (r0 : Nat) (x1 : Int) (h : Hp) (Q : Rs → Hp → Prop) : Prop := ob h r0 48 ∧ mJ17_charAt r0 x1 h (kI Q (fun x103 h102 => narrow .char (.int (Int32.ofInt x103)) = .int (Int32.ofInt x103) ∧ Q (rV (vI x103)) h102))
theorem wJ18_charAt {G : Gx} (hg : gF G = true) {d : Nat} {r0 : Nat} {x1 : Int} {h : Hp} {Q : Rs → Hp → Prop} (hm : mJ18_charAt r0 x1 h Q) : Ct G tJ18_charAt (d + 3) [vR r0, vI x1] h Q := by
  refine ct_enter (L0 := [some (vR r0), some (vI x1)]) rfl rfl ?_
  unfold mJ18_charAt at hm
  obtain ⟨o101, hm⟩ := hm
  refine wc_aload_n (pc := 0) (dAt dtJ18_charAt 0 rfl) rfl (wc_iload_n (pc := 1) (dAt dtJ18_charAt 1 rfl) rfl (wc_callSU (k := 48) (y' := tJ17_charAt) (av := [vI x1]) (st := []) (pc := 2) (dAt dtJ18_charAt 2 rfl) q1612 q2945 q1040 moJ17_charAt q1613 (by decide) (by decide) o101 rfl rfl (Nat.le_of_ble_eq_true rfl) (wJ17_charAt hg hm) (kr_I (fun x103 h102 hm => ?_)) (kx_I rfl)))
  obtain ⟨o104, hm⟩ := hm
  exact wc_iret (pc := 5) (dAt dtJ18_charAt 3 rfl) rfl o104 hm
