set_option maxRecDepth 100000
set_option maxHeartbeats 1000000
/-! what methods do, and their walks, by program -/
def tX1_planeOf : Mt := (⟨"FlyingDoctors", "planeOf", "(II)I"⟩, prog_1_method_56_code, 4, (Option.some Jvm.ClassFile.FieldType.int), [])
def DX1_planeOf : List (Nat × Instr × Nat) := [(0, .aload_n 0, 1), (1, .iload_n 1, 1), (2, .invokevirtual 370, 3), (5, .astore_n 3, 1), (6, .iload_n 2, 1), (7, .ifCond .eq 8, 3), (10, .iload_n 2, 1), (11, .iconst 1, 1), (12, .if_icmp .ne 7, 3), (15, .iconst 1, 1), (16, .goto 4, 3), (19, .iconst 0, 1), (20, .invokestatic 318, 3), (23, .iload_n 2, 1), (24, .ifCond .ne 10, 3), (27, .aload_n 3, 1), (28, .getfield 193, 3), (31, .goto 7, 3), (34, .aload_n 3, 1), (35, .getfield 146, 3), (38, .ireturn, 1)]
theorem dtX1_planeOf : chkD (mB tX1_planeOf) DX1_planeOf = true := by decide +kernel
theorem moX1_planeOf : MethOk tX1_planeOf 2 := ⟨Or.inl ⟨rfl, q1968⟩, by decide +kernel, ⟨by decide, by decide⟩, by decide +kernel⟩
def mX1_planeOf (x1 : Int) (x2 : Int) (h : Hp) (Q : Rs → Hp → Prop) : Prop := mX1_planeAt x1 h (kR Q (fun r102 h101 => ∀ v103 : Int, v103 = (b2i ((x2 = 0) ∨ (¬ (x2 ≠ 1)))) → mX1_found v103 h101 (kN Q (fun h104 => ((((¬ (x2 ≠ 0)) → ob h104 r102 6) ∧ (¬ (¬ (x2 ≠ 0)) → ob h104 r102 6))) ∧ ∀ v108 : Int, v108 = (if ¬ (x2 ≠ 0) then (hI h104 r102 6) else (hI h104 r102 7)) → Q (rV (vI v108)) h104))))
theorem wX1_planeOf {G : Gx} (hg : gF G = true) {d : Nat} {x1 : Int} {x2 : Int} {h : Hp} {Q : Rs → Hp → Prop} (hm : mX1_planeOf x1 x2 h Q) : Ct G tX1_planeOf (d + 10) [vR 50, vI x1, vI x2] h Q := by
  refine ct_enter (L0 := [some (vR 50), some (vI x1), some (vI x2), none]) rfl rfl ?_
  unfold mX1_planeOf at hm
  refine wc_aload_n (pc := 0) (dAt dtX1_planeOf 0 rfl) rfl (wc_iload_n (pc := 1) (dAt dtX1_planeOf 1 rfl) rfl (wc_kf hg fun zk => wc_callV (k := 1) (y' := tX1_planeAt) (av := [vI x1]) (st := []) (pc := 2) (dAt dtX1_planeOf 2 rfl) lkX1_370 moX1_planeAt q1549 qs35 (by decide) (zk.2 _ ka50).1 rfl rfl (Nat.le_of_ble_eq_true rfl) (wX1_planeAt hg hm) (kr_R (fun r102 h101 hm => ?_)) (kx_R rfl)))
  obtain ⟨v103, ev103⟩ : ∃ v103 : Int, v103 = (b2i ((x2 = 0) ∨ (¬ (x2 ≠ 1)))) := ⟨_, rfl⟩
  replace hm := hm v103 ev103
  refine wc_astore_n (pc := 5) (dAt dtX1_planeOf 3 rfl) (by decide) (wc_L (L' := [some (vR 50), some (vI x1), some (vI x2), some (vR r102)]) rfl (wc_iload_n (pc := 6) (dAt dtX1_planeOf 4 rfl) rfl (?_)))
  have kj120 : Wc G tX1_planeOf (d + 10) h Q 20 [some (vR 50), none, some (vI x2), some (vR r102)] [vI v103] h101 := by
    refine wc_callS (y' := tX1_found) (av := [vI v103]) (st := []) (pc := 20) (dAt dtX1_planeOf 12 rfl) lkX1_318 moX1_found q687 q128 rfl rfl (Nat.le_of_ble_eq_true rfl) (wX1_found hg hm) (kr_N (fun h104 hm => ?_)) (kx_N rfl)
    obtain ⟨o107, hm⟩ := hm
    obtain ⟨v108, ev108⟩ : ∃ v108 : Int, v108 = (if ¬ (x2 ≠ 0) then (hI h104 r102 6) else (hI h104 r102 7)) := ⟨_, rfl⟩
    replace hm := hm v108 ev108
    refine wc_iload_n (pc := 23) (dAt dtX1_planeOf 13 rfl) rfl (?_)
    have kj109 : Wc G tX1_planeOf (d + 10) h Q 38 [some (vR 50), none, none, none] [vI v108] h104 := by
      exact wc_iret (pc := 38) (dAt dtX1_planeOf 20 rfl) rfl (nar_int _) hm
    obtain ⟨p110, p111⟩ := o107
    have k112 : (¬ (x2 ≠ 0)) → Wc G tX1_planeOf (d + 10) h Q 27 [some (vR 50), none, some (vI x2), some (vR r102)] [] h104 := fun c114 => by
      have o105 := (p110 c114)
      have z115 := kj109
      rw [show v108 = (hI h104 r102 6) from ev108.trans (if_pos c114)] at z115
      exact wc_aload_n (pc := 27) (dAt dtX1_planeOf 15 rfl) rfl (wc_getI (pc := 28) (dAt dtX1_planeOf 16 rfl) flX1_193_6 rfl o105 (wc_goto (pc := 31) (tgt := 38) (dAt dtX1_planeOf 17 rfl) (by decide) (wc_drp [2, 3] rfl (z115))))
    have k113 : ¬ (¬ (x2 ≠ 0)) → Wc G tX1_planeOf (d + 10) h Q 34 [some (vR 50), none, some (vI x2), some (vR r102)] [] h104 := fun c114 => by
      have o106 := (p111 c114)
      have z117 := kj109
      rw [show v108 = (hI h104 r102 7) from ev108.trans (if_neg c114)] at z117
      exact wc_aload_n (pc := 34) (dAt dtX1_planeOf 18 rfl) rfl (wc_getI (pc := 35) (dAt dtX1_planeOf 19 rfl) flX1_146_6 rfl o106 (wc_drp [2, 3] rfl (z117)))
    exact wc_if_ne (pc := 24) (tgt := 34) (dAt dtX1_planeOf 14 rfl) (by decide) (fun c119 => (k113 (fun z => z c119))) (fun c119 => (k112 c119))
  have k121 : ((x2 = 0) ∨ (¬ (x2 ≠ 1))) → Wc G tX1_planeOf (d + 10) h Q 15 [some (vR 50), some (vI x1), some (vI x2), some (vR r102)] [] h101 := fun c123 => by
    have z124 := kj120
    rw [show v103 = 1 from ev103.trans (b2i_t c123)] at z124
    exact wc_iconst (pc := 15) (dAt dtX1_planeOf 9 rfl) ⟨by decide, by decide⟩ (wc_goto (pc := 16) (tgt := 20) (dAt dtX1_planeOf 10 rfl) (by decide) (wc_drp [1] rfl (z124)))
  have k122 : ¬ ((x2 = 0) ∨ (¬ (x2 ≠ 1))) → Wc G tX1_planeOf (d + 10) h Q 19 [some (vR 50), some (vI x1), some (vI x2), some (vR r102)] [] h101 := fun c123 => by
    have z126 := kj120
    rw [show v103 = 0 from ev103.trans (b2i_f c123)] at z126
    exact wc_iconst (pc := 19) (dAt dtX1_planeOf 11 rfl) ⟨by decide, by decide⟩ (wc_drp [1] rfl (z126))
  exact wc_if_eq (pc := 7) (tgt := 15) (dAt dtX1_planeOf 5 rfl) (by decide) (fun c128 => (k121 (Or.inl c128))) (fun c128 => wc_iload_n (pc := 10) (dAt dtX1_planeOf 6 rfl) rfl (wc_iconst (pc := 11) (dAt dtX1_planeOf 7 rfl) ⟨by decide, by decide⟩ (wc_icmp_ne (pc := 12) (tgt := 19) (dAt dtX1_planeOf 8 rfl) (by decide) (fun c129 => (k122 (fun z => z.elim c128 (fun z => z c129)))) (fun c129 => (k121 (Or.inr c129))))))
def tX0_planeOf : Mt := (⟨"FlyingDoctorsLaw", "planeOf", "(LFlyingDoctors;II[J)I"⟩, method_22_code, 5, (Option.some Jvm.ClassFile.FieldType.int), [((0 : Nat), (10 : Nat), (13 : Nat), (13 : Nat))])
def DX0_planeOf : List (Nat × Instr × Nat) := [(0, .aload_n 3, 1), (1, .iconst 0, 1), (2, .aload_n 0, 1), (3, .iload_n 1, 1), (4, .iload_n 2, 1), (5, .invokevirtual 79, 3), (8, .i2l, 1), (9, .lastore, 1), (10, .goto 7, 3), (13, .astore 4, 2), (15, .iconst 1, 1), (16, .ireturn, 1), (17, .iconst 0, 1), (18, .ireturn, 1)]
theorem dtX0_planeOf : chkD (mB tX0_planeOf) DX0_planeOf = true := by decide +kernel
theorem moX0_planeOf : MethOk tX0_planeOf 4 := ⟨Or.inr q1964, by decide +kernel, ⟨by decide, by decide⟩, by decide +kernel⟩
def mX0_planeOf (x1 : Int) (x2 : Int) (h : Hp) (Q : Rs → Hp → Prop) : Prop := mX1_planeOf x1 x2 h (kIx (fun a103 h104 => ob h104 a103 41 ∧ (Q (rV (vI 1)) h104)) (fun x102 h101 => ∀ h106 : Hp, h106 = sL h101 158 0 x102 → Q (rV (vI 0)) h106))
theorem wX0_planeOf {G : Gx} (hg : gF G = true) {d : Nat} {x1 : Int} {x2 : Int} {h : Hp} {Q : Rs → Hp → Prop} (hm : mX0_planeOf x1 x2 h Q) : Ct G tX0_planeOf (d + 11) [vR 50, vI x1, vI x2, vR 158] h Q := by
  refine ct_enter (L0 := [some (vR 50), some (vI x1), some (vI x2), some (vR 158), none]) rfl rfl ?_
  unfold mX0_planeOf at hm
  refine wc_aload_n (pc := 0) (dAt dtX0_planeOf 0 rfl) rfl (wc_iconst (pc := 1) (dAt dtX0_planeOf 1 rfl) ⟨by decide, by decide⟩ (wc_aload_n (pc := 2) (dAt dtX0_planeOf 2 rfl) rfl (wc_iload_n (pc := 3) (dAt dtX0_planeOf 3 rfl) rfl (wc_iload_n (pc := 4) (dAt dtX0_planeOf 4 rfl) rfl (wc_kf hg fun zk => wc_callV (k := 1) (y' := tX1_planeOf) (av := [vI x1, vI x2]) (st := [vI 0, vR 158]) (pc := 5) (dAt dtX0_planeOf 5 rfl) lkX0_79 moX1_planeOf q1966 q1967 (by decide) (zk.2 _ ka50).1 rfl rfl (Nat.le_of_ble_eq_true rfl) (wX1_planeOf hg hm) (krx_I (fun x102 h101 hm => ?_)) (kxx_I (fun a103 h104 hm => ?_)))))))
  · obtain ⟨h106, eh106⟩ : ∃ h106 : Hp, h106 = sL h101 158 0 x102 := ⟨_, rfl⟩
    replace hm := hm h106 eh106
    exact wc_i2l (pc := 8) (dAt dtX0_planeOf 6 rfl) (wc_lastK hg (pc := 9) (dAt dtX0_planeOf 7 rfl) kr158 (by decide) (by decide) (by decide) (wc_hp eh106 (wc_goto (pc := 10) (tgt := 17) (dAt dtX0_planeOf 8 rfl) (by decide) (wc_iconst (pc := 17) (dAt dtX0_planeOf 12 rfl) ⟨by decide, by decide⟩ (wc_iret (pc := 18) (dAt dtX0_planeOf 13 rfl) rfl (nar_int _) hm)))))
  · obtain ⟨o105, hm⟩ := hm
    refine wx_hit rfl rfl (by decide) q676 (by decide) o105 rfl ?_
    exact wc_astore (pc := 13) (dAt dtX0_planeOf 9 rfl) (by decide) (wc_L (L' := [some (vR 50), some (vI x1), some (vI x2), some (vR 158), some (vR a103)]) rfl (wc_iconst (pc := 15) (dAt dtX0_planeOf 10 rfl) ⟨by decide, by decide⟩ (wc_iret (pc := 16) (dAt dtX0_planeOf 11 rfl) rfl (nar_int _) hm)))
def tX4_planeOf : Mt := (⟨"FlyingDoctorsModel", "planeOf", "(II)I"⟩, prog_24_method_95_code, 3, (Option.some Jvm.ClassFile.FieldType.int), [])
def DX4_planeOf : List (Nat × Instr × Nat) := [(0, .aload_n 0, 1), (1, .iconst 0, 1), (2, .putfield 1, 3), (5, .aload_n 0, 1), (6, .iload_n 1, 1), (7, .invokevirtual 475, 3), (10, .ifCond .eq 25, 3), (13, .aload_n 0, 1), (14, .iload_n 2, 1), (15, .ifCond .eq 8, 3), (18, .iload_n 2, 1), (19, .iconst 1, 1), (20, .if_icmp .ne 7, 3), (23, .iconst 1, 1), (24, .goto 4, 3), (27, .iconst 0, 1), (28, .iconst 1, 1), (29, .invokevirtual 10, 3), (32, .ifCond .ne 5, 3), (35, .iconst 0, 1), (36, .ireturn, 1), (37, .iload_n 2, 1), (38, .ifCond .ne 12, 3), (41, .aload_n 0, 1), (42, .getfield 57, 3), (45, .iload_n 1, 1), (46, .iaload, 1), (47, .goto 9, 3), (50, .aload_n 0, 1), (51, .getfield 134, 3), (54, .iload_n 1, 1), (55, .iaload, 1), (56, .ireturn, 1)]
theorem dtX4_planeOf : chkD (mB tX4_planeOf) DX4_planeOf = true := by decide +kernel
theorem moX4_planeOf : MethOk tX4_planeOf 2 := ⟨Or.inl ⟨rfl, q2849⟩, by decide +kernel, ⟨by decide, by decide⟩, by decide +kernel⟩
def mX4_planeOf (x1 : Int) (x2 : Int) (h : Hp) (Q : Rs → Hp → Prop) : Prop := ∀ h101 : Hp, h101 = sI h 75 0 0 → mX4_isPlane x1 h101 (kI Q (fun x103 h102 => if ¬ (x103 = 0) then ∀ v105 : Int, v105 = (b2i ((x2 = 0) ∨ (¬ (x2 ≠ 1)))) → mX4_right v105 1 h102 (kI Q (fun x107 h106 => if ¬ (x107 ≠ 0) then Q (rV (vI 0)) h106 else ((((¬ (x2 ≠ 0)) → 0 ≤ x1 ∧ x1 < 6) ∧ (¬ (¬ (x2 ≠ 0)) → 0 ≤ x1 ∧ x1 < 6))) ∧ ∀ v114 : Int, v114 = (if ¬ (x2 ≠ 0) then (hI h106 86 (Int.toNat x1)) else (hI h106 87 (Int.toNat x1))) → Q (rV (vI v114)) h106)) else Q (rV (vI 0)) h102))
theorem wX4_planeOf {G : Gx} (hg : gF G = true) {d : Nat} {x1 : Int} {x2 : Int} {h : Hp} {Q : Rs → Hp → Prop} (hm : mX4_planeOf x1 x2 h Q) : Ct G tX4_planeOf (d + 2) [vR 75, vI x1, vI x2] h Q := by
  refine ct_enter (L0 := [some (vR 75), some (vI x1), some (vI x2)]) rfl rfl ?_
  unfold mX4_planeOf at hm
  obtain ⟨h101, eh101⟩ : ∃ h101 : Hp, h101 = sI h 75 0 0 := ⟨_, rfl⟩
  replace hm := hm h101 eh101
  refine wc_aload_n (pc := 0) (dAt dtX4_planeOf 0 rfl) rfl (wc_iconst (pc := 1) (dAt dtX4_planeOf 1 rfl) ⟨by decide, by decide⟩ (wc_putKI hg (pc := 2) (dAt dtX4_planeOf 2 rfl) flX4_1_4 (Or.inl rfl) rfl ka75 (by decide) (okI_int _) (wc_hp eh101 (wc_aload_n (pc := 5) (dAt dtX4_planeOf 3 rfl) rfl (wc_iload_n (pc := 6) (dAt dtX4_planeOf 4 rfl) rfl (wc_kf hg fun zk => wc_callV (k := 4) (y' := tX4_isPlane) (av := [vI x1]) (st := []) (pc := 7) (dAt dtX4_planeOf 5 rfl) lkX4_475 moX4_isPlane q2667 qs91 (by decide) (zk.2 _ ka75).1 rfl rfl (Nat.le_of_ble_eq_true rfl) (wX4_isPlane hg hm) (kr_I (fun x103 h102 hm => ?_)) (kx_I rfl)))))))
  refine wc_if_eq (pc := 10) (tgt := 35) (dAt dtX4_planeOf 6 rfl) (by decide) (fun c104 => ?_) (fun c104 => ?_)
  · replace hm := ite_f (fun z => z c104) hm
    exact wc_iconst (pc := 35) (dAt dtX4_planeOf 19 rfl) ⟨by decide, by decide⟩ (wc_iret (pc := 36) (dAt dtX4_planeOf 20 rfl) rfl (nar_int _) hm)
  · replace hm := ite_t c104 hm
    obtain ⟨v105, ev105⟩ : ∃ v105 : Int, v105 = (b2i ((x2 = 0) ∨ (¬ (x2 ≠ 1)))) := ⟨_, rfl⟩
    replace hm := hm v105 ev105
    refine wc_aload_n (pc := 13) (dAt dtX4_planeOf 7 rfl) rfl (wc_iload_n (pc := 14) (dAt dtX4_planeOf 8 rfl) rfl (?_))
    have kj126 : Wc G tX4_planeOf (d + 2) h Q 28 [some (vR 75), some (vI x1), some (vI x2)] [vI v105, vR 75] h102 := by
      refine wc_iconst (pc := 28) (dAt dtX4_planeOf 16 rfl) ⟨by decide, by decide⟩ (wc_kf hg fun zk => wc_callV (k := 4) (y' := tX4_right) (av := [vI v105, vI 1]) (st := []) (pc := 29) (dAt dtX4_planeOf 17 rfl) lkX4_10 moX4_right q2152 qs64 (by decide) (zk.2 _ ka75).1 rfl rfl (Nat.le_of_ble_eq_true rfl) (wX4_right hg hm) (kr_I (fun x107 h106 hm => ?_)) (kx_I rfl))
      refine wc_if_ne (pc := 32) (tgt := 37) (dAt dtX4_planeOf 18 rfl) (by decide) (fun c108 => ?_) (fun c108 => ?_)
      · replace hm := ite_f (fun z => z c108) hm
        obtain ⟨o113, hm⟩ := hm
        obtain ⟨v114, ev114⟩ : ∃ v114 : Int, v114 = (if ¬ (x2 ≠ 0) then (hI h106 86 (Int.toNat x1)) else (hI h106 87 (Int.toNat x1))) := ⟨_, rfl⟩
        replace hm := hm v114 ev114
        refine wc_iload_n (pc := 37) (dAt dtX4_planeOf 21 rfl) rfl (?_)
        have kj115 : Wc G tX4_planeOf (d + 2) h Q 56 [some (vR 75), none, none] [vI v114] h106 := by
          exact wc_iret (pc := 56) (dAt dtX4_planeOf 32 rfl) rfl (nar_int _) hm
        obtain ⟨p116, p117⟩ := o113
        have k118 : (¬ (x2 ≠ 0)) → Wc G tX4_planeOf (d + 2) h Q 41 [some (vR 75), some (vI x1), some (vI x2)] [] h106 := fun c120 => by
          obtain ⟨o109, o110⟩ := (p116 c120)
          have z121 := kj115
          rw [show v114 = (hI h106 86 (Int.toNat x1)) from ev114.trans (if_pos c120)] at z121
          exact wc_aload_n (pc := 41) (dAt dtX4_planeOf 23 rfl) rfl (wc_getKR hg (pc := 42) (dAt dtX4_planeOf 24 rfl) flX4_57_4 rfl ka75 kf75_15 (wc_iload_n (pc := 45) (dAt dtX4_planeOf 25 rfl) rfl (wc_ialdK hg (pc := 46) (dAt dtX4_planeOf 26 rfl) kr86 o109 o110 (wc_goto (pc := 47) (tgt := 56) (dAt dtX4_planeOf 27 rfl) (by decide) (wc_drp [1, 2] rfl (z121))))))
        have k119 : ¬ (¬ (x2 ≠ 0)) → Wc G tX4_planeOf (d + 2) h Q 50 [some (vR 75), some (vI x1), some (vI x2)] [] h106 := fun c120 => by
          obtain ⟨o111, o112⟩ := (p117 c120)
          have z123 := kj115
          rw [show v114 = (hI h106 87 (Int.toNat x1)) from ev114.trans (if_neg c120)] at z123
          exact wc_aload_n (pc := 50) (dAt dtX4_planeOf 28 rfl) rfl (wc_getKR hg (pc := 51) (dAt dtX4_planeOf 29 rfl) flX4_134_4 rfl ka75 kf75_16 (wc_iload_n (pc := 54) (dAt dtX4_planeOf 30 rfl) rfl (wc_ialdK hg (pc := 55) (dAt dtX4_planeOf 31 rfl) kr87 o111 o112 (wc_drp [1, 2] rfl (z123)))))
        exact wc_if_ne (pc := 38) (tgt := 50) (dAt dtX4_planeOf 22 rfl) (by decide) (fun c125 => (k119 (fun z => z c125))) (fun c125 => (k118 c125))
      · replace hm := ite_t c108 hm
        exact wc_iconst (pc := 35) (dAt dtX4_planeOf 19 rfl) ⟨by decide, by decide⟩ (wc_iret (pc := 36) (dAt dtX4_planeOf 20 rfl) rfl (nar_int _) hm)
    have k127 : ((x2 = 0) ∨ (¬ (x2 ≠ 1))) → Wc G tX4_planeOf (d + 2) h Q 23 [some (vR 75), some (vI x1), some (vI x2)] [vR 75] h102 := fun c129 => by
      have z130 := kj126
      rw [show v105 = 1 from ev105.trans (b2i_t c129)] at z130
      exact wc_iconst (pc := 23) (dAt dtX4_planeOf 13 rfl) ⟨by decide, by decide⟩ (wc_goto (pc := 24) (tgt := 28) (dAt dtX4_planeOf 14 rfl) (by decide) (z130))
    have k128 : ¬ ((x2 = 0) ∨ (¬ (x2 ≠ 1))) → Wc G tX4_planeOf (d + 2) h Q 27 [some (vR 75), some (vI x1), some (vI x2)] [vR 75] h102 := fun c129 => by
      have z132 := kj126
      rw [show v105 = 0 from ev105.trans (b2i_f c129)] at z132
      exact wc_iconst (pc := 27) (dAt dtX4_planeOf 15 rfl) ⟨by decide, by decide⟩ (z132)
    exact wc_if_eq (pc := 15) (tgt := 23) (dAt dtX4_planeOf 9 rfl) (by decide) (fun c134 => (k127 (Or.inl c134))) (fun c134 => wc_iload_n (pc := 18) (dAt dtX4_planeOf 10 rfl) rfl (wc_iconst (pc := 19) (dAt dtX4_planeOf 11 rfl) ⟨by decide, by decide⟩ (wc_icmp_ne (pc := 20) (tgt := 27) (dAt dtX4_planeOf 12 rfl) (by decide) (fun c135 => (k128 (fun z => z.elim c134 (fun z => z c135)))) (fun c135 => (k127 (Or.inr c135))))))
def tX1_since : Mt := (⟨"FlyingDoctors", "since", "(LFlyingDoctors$Person;)I"⟩, prog_1_method_57_code, 8, (Option.some Jvm.ClassFile.FieldType.int), [])
def DX1_since : List (Nat × Instr × Nat) := [(0, .iconst 0, 1), (1, .istore_n 2, 1), (2, .iconst 0, 1), (3, .istore_n 3, 1), (4, .iload_n 3, 1), (5, .aload_n 0, 1), (6, .getfield 179, 3), (9, .invokeinterface 16 1, 5), (14, .if_icmp .ge 197, 3), (17, .aload_n 0, 1), (18, .getfield 179, 3), (21, .iload_n 3, 1), (22, .invokeinterface 22 2, 5), (27, .checkcast 141, 3), (30, .astore 4, 2), (32, .iconst 0, 1), (33, .istore 5, 2), (35, .iload 5, 2), (37, .aload 4, 2), (39, .getfield 182, 3), (42, .if_icmp .ge 163, 3), (45, .aload 4, 2), (47, .getfield 208, 3), (50, .iload 5, 2), (52, .iaload, 1), (53, .aload_n 1, 1), (54, .invokevirtual 161, 3), (57, .iand, 1), (58, .ifCond .eq 7, 3), (61, .iconst 1, 1), (62, .goto 4, 3), (65, .iconst 0, 1), (66, .istore 6, 2), (68, .aload 4, 2), (70, .getfield 246, 3), (73, .iload 5, 2), (75, .iaload, 1), (76, .aload_n 1, 1), (77, .invokevirtual 161, 3), (80, .iand, 1), (81, .ifCond .eq 7, 3), (84, .iconst 1, 1), (85, .goto 4, 3), (88, .iconst 0, 1), (89, .istore 7, 2), (91, .iload 6, 2), (93, .ifCond .ne 11, 3), (96, .iload 7, 2), (98, .ifCond .ne 6, 3), (101, .goto 98, 3), (104, .aload_n 0, 1), (105, .getfield 173, 3), (108, .iload 6, 2), (110, .ifCond .eq 14, 3), (113, .aload 4, 2), (115, .getfield 468, 3), (118, .iload 5, 2), (120, .iaload, 1), (121, .goto 11, 3), (124, .aload 4, 2), (126, .getfield 228, 3), (129, .iload 5, 2), (131, .iaload, 1), (132, .if_icmp .ge 5, 3), (135, .iload_n 2, 1), (136, .ireturn, 1), (137, .aload_n 0, 1), (138, .getfield 173, 3), (141, .aload 4, 2), (143, .getfield 228, 3), (146, .iload 5, 2), (148, .iaload, 1), (149, .if_icmp .ge 5, 3), (152, .iconst (-1), 1), (153, .ireturn, 1), (154, .aload 4, 2), (156, .getfield 228, 3), (159, .iload 5, 2), (161, .iaload, 1), (162, .istore_n 2, 1), (163, .iload 7, 2), (165, .ifCond .eq 34, 3), (168, .iload 5, 2), (170, .iconst 1, 1), (171, .iadd, 1), (172, .aload 4, 2), (174, .getfield 182, 3), (177, .if_icmp .ge 22, 3), (180, .aload_n 0, 1), (181, .getfield 173, 3), (184, .aload 4, 2), (186, .getfield 468, 3), (189, .iload 5, 2), (191, .iconst 1, 1), (192, .iadd, 1), (193, .iaload, 1), (194, .if_icmp .ge 5, 3), (197, .iconst (-1), 1), (198, .ireturn, 1), (199, .iinc 5 1, 3), (202, .goto (-167), 3), (205, .iinc 3 1, 3), (208, .goto (-204), 3), (211, .iload_n 2, 1), (212, .ireturn, 1)]
theorem dtX1_since : chkD (mB tX1_since) DX1_since = true := by decide +kernel
theorem moX1_since : MethOk tX1_since 1 := ⟨Or.inl ⟨rfl, q1983⟩, by decide +kernel, ⟨by decide, by decide⟩, by decide +kernel⟩
def mX1_since (r1 : Nat) (h : Hp) (Q : Rs → Hp → Prop) : Prop := wh2 (fun (C103 : Int → Int → Prop) (x101 : Int) (x102 : Int) => oJ2_size 62 h ∧ if ¬ ((vJ2_size 62 h) ≤ x102) then oJ2_get 62 x102 h ∧ ob h (vJ2_get 62 x102 h) 20 ∧ ∀ r109 : Nat, r109 = (vJ2_get 62 x102 h) → wh2 (fun (C112 : Int → Int → Prop) (x110 : Int) (x111 : Int) => ob h r109 20 ∧ if ¬ ((hI h r109 2) ≤ x111) then ob h (hR h r109 9) 70 ∧ 0 ≤ x111 ∧ x111 < (hN h (hR h r109 9)) ∧ oX7_bit r1 h ∧ ob h r1 7 ∧ ∀ v121 : Int, v121 = (b2i (¬ ((iand (hI h (hR h r109 9) (Int.toNat x111)) (vX7_bit r1 h)) = 0))) → ob h (hR h r109 10) 70 ∧ x111 < (hN h (hR h r109 10)) ∧ ∀ v124 : Int, v124 = (b2i (¬ ((iand (hI h (hR h r109 10) (Int.toNat x111)) (vX7_bit r1 h)) = 0))) → if ¬ (v121 ≠ 0) ∧ (¬ (v124 ≠ 0)) then nm (x111 + 1) ∧ ∀ i127 : Int, i127 = (x111 + 1) → C112 x110 i127 else ((((¬ (v121 = 0)) → ob h (hR h r109 4) 70 ∧ x111 < (hN h (hR h r109 4))) ∧ (¬ (¬ (v121 = 0)) → ob h (hR h r109 5) 70 ∧ x111 < (hN h (hR h r109 5))))) ∧ ∀ v133 : Int, v133 = (if ¬ (v121 = 0) then (hI h (hR h r109 4) (Int.toNat x111)) else (hI h (hR h r109 5) (Int.toNat x111))) → if ¬ (v133 ≤ (hI h 50 20)) then Q (rV (vI x110)) h else ob h (hR h r109 5) 70 ∧ x111 < (hN h (hR h r109 5)) ∧ if ¬ ((hI h (hR h r109 5) (Int.toNat x111)) ≤ (hI h 50 20)) then Q (rV (vI (-1))) h else ∀ v138 : Int, v138 = (hI h (hR h r109 5) (Int.toNat x111)) → ((¬ (v124 = 0) → nm (x111 + 1) ∧ (¬ ((hI h r109 2) ≤ (x111 + 1)) → ob h (hR h r109 4) 70 ∧ 0 ≤ (x111 + 1) ∧ (x111 + 1) < (hN h (hR h r109 4))))) ∧ if ¬ (v124 = 0) ∧ (¬ ((hI h r109 2) ≤ (x111 + 1)) ∧ (¬ ((hI h (hR h r109 4) (Int.toNat (x111 + 1))) ≤ (hI h 50 20)))) then Q (rV (vI (-1))) h else nm (x111 + 1) ∧ ∀ i146 : Int, i146 = (x111 + 1) → C112 v138 i146 else nm (x102 + 1) ∧ ∀ i186 : Int, i186 = (x102 + 1) → C103 x110 i186) x101 0 else Q (rV (vI x101)) h) 0 0
theorem wX1_since {G : Gx} (hg : gF G = true) {d : Nat} {r1 : Nat} {h : Hp} {Q : Rs → Hp → Prop} (hm : mX1_since r1 h Q) : Ct G tX1_since (d + 3) [vR 50, vR r1] h Q := by
  refine ct_enter (L0 := [some (vR 50), some (vR r1), none, none, none, none, none, none]) rfl rfl ?_
  unfold mX1_since at hm
  refine wc_iconst (pc := 0) (dAt dtX1_since 0 rfl) ⟨by decide, by decide⟩ (wc_istore_n (pc := 1) (dAt dtX1_since 1 rfl) (by decide) (wc_L (L' := [some (vR 50), some (vR r1), some (vI 0), none, none, none, none, none]) rfl (wc_iconst (pc := 2) (dAt dtX1_since 2 rfl) ⟨by decide, by decide⟩ (wc_istore_n (pc := 3) (dAt dtX1_since 3 rfl) (by decide) (wc_L (L' := [some (vR 50), some (vR r1), some (vI 0), some (vI 0), none, none, none, none]) rfl (?_))))))
  refine wh2_ind (P := fun (x101 : Int) (x102 : Int) => Wc G tX1_since (d + 3) h Q 4 [some (vR 50), some (vR r1), some (vI x101), some (vI x102), none, none, none, none] [] h) (fun C103 ih104 x101 x102 hm => ?_) hm
  obtain ⟨o105, hm⟩ := hm
  refine wc_iload_n (pc := 4) (dAt dtX1_since 4 rfl) rfl (wc_aload_n (pc := 5) (dAt dtX1_since 5 rfl) rfl (wc_getKR hg (pc := 6) (dAt dtX1_since 6 rfl) flX1_179_1 rfl ka50 kf50_12 (wc_kf hg fun zk => (wc_callF (k := 32) (x := ⟨"java/util/List", "size", "()I"⟩) (y' := tJ2_size) (P := eI (vJ2_size 62 h) h) (pc := 9) (dAt dtX1_since 7 rfl) q364 q366 q365 ⟨by decide, by decide⟩ moJ2_size rfl q370 q371 q369 q367 q368 (by decide) (zk.2 _ ka62).1 rfl rfl (Nat.le_of_ble_eq_true rfl) (wJ2_size hg o105 ⟨rfl, rfl⟩) (ep_I (wc_icmp_ge (pc := 14) (tgt := 211) (dAt dtX1_since 8 rfl) (by decide) (fun c106 => ?_) (fun c106 => ?_))) ex_I))))
  · replace hm := ite_f (fun z => z c106) hm
    exact wc_iload_n (pc := 211) (dAt dtX1_since 103 rfl) rfl (wc_iret (pc := 212) (dAt dtX1_since 104 rfl) rfl (nar_int _) hm)
  · replace hm := ite_t c106 hm
    obtain ⟨o107, o108, hm⟩ := hm
    obtain ⟨r109, er109⟩ : ∃ r109 : Nat, r109 = (vJ2_get 62 x102 h) := ⟨_, rfl⟩
    replace hm := hm r109 er109
    refine wc_aload_n (pc := 17) (dAt dtX1_since 9 rfl) rfl (wc_getKR hg (pc := 18) (dAt dtX1_since 10 rfl) flX1_179_1 rfl ka50 kf50_12 (wc_iload_n (pc := 21) (dAt dtX1_since 11 rfl) rfl (wc_kf hg fun zk => (wc_callF (k := 32) (x := ⟨"java/util/List", "get", "(I)Ljava/lang/Object;"⟩) (y' := tJ2_get) (P := eR (vJ2_get 62 x102 h) h) (pc := 22) (dAt dtX1_since 12 rfl) q506 q508 q507 ⟨by decide, by decide⟩ moJ2_get rfl q511 q512 q510 q367 q509 (by decide) (zk.2 _ ka62).1 rfl rfl (Nat.le_of_ble_eq_true rfl) (wJ2_get hg o107 ⟨rfl, rfl⟩) (ep_R (wc_cast (pc := 27) (dAt dtX1_since 13 rfl) q1820 (by decide) (Or.inl rfl) o108 (wc_vr er109 (wc_astore (pc := 30) (dAt dtX1_since 14 rfl) (by decide) (wc_L (L' := [some (vR 50), some (vR r1), some (vI x101), some (vI x102), some (vR r109), none, none, none]) rfl (wc_iconst (pc := 32) (dAt dtX1_since 15 rfl) ⟨by decide, by decide⟩ (wc_istore (pc := 33) (dAt dtX1_since 16 rfl) (by decide) (wc_L (L' := [some (vR 50), some (vR r1), some (vI x101), some (vI x102), some (vR r109), some (vI 0), none, none]) rfl (?_))))))))) ex_R))))
    refine wh2_ind (P := fun (x110 : Int) (x111 : Int) => Wc G tX1_since (d + 3) h Q 35 [some (vR 50), some (vR r1), some (vI x110), some (vI x102), some (vR r109), some (vI x111), none, none] [] h) (fun C112 ih113 x110 x111 hm => ?_) hm
    obtain ⟨o114, hm⟩ := hm
    refine wc_iload (pc := 35) (dAt dtX1_since 17 rfl) rfl (wc_aload (pc := 37) (dAt dtX1_since 18 rfl) rfl (wc_getI (pc := 39) (dAt dtX1_since 19 rfl) flX1_182_20 rfl o114 (wc_icmp_ge (pc := 42) (tgt := 205) (dAt dtX1_since 20 rfl) (by decide) (fun c115 => ?_) (fun c115 => ?_))))
    · replace hm := ite_f (fun z => z c115) hm
      obtain ⟨o185, hm⟩ := hm
      obtain ⟨i186, ei186⟩ : ∃ i186 : Int, i186 = (x102 + 1) := ⟨_, rfl⟩
      replace hm := hm i186 ei186
      exact wc_iinc (v := i186) (pc := 205) (dAt dtX1_since 101 rfl) rfl ei186 (ei186 ▸ o185) (by decide) (wc_L (L' := [some (vR 50), some (vR r1), some (vI x110), some (vI i186), some (vR r109), some (vI x111), none, none]) rfl (wc_goto (pc := 208) (tgt := 4) (dAt dtX1_since 102 rfl) (by decide) (wc_drp [4, 5] rfl (ih104 _ _ hm))))
    · replace hm := ite_t c115 hm
      obtain ⟨o116, o117, o118, o119, o120, hm⟩ := hm
      obtain ⟨v121, ev121⟩ : ∃ v121 : Int, v121 = (b2i (¬ ((iand (hI h (hR h r109 9) (Int.toNat x111)) (vX7_bit r1 h)) = 0))) := ⟨_, rfl⟩
      replace hm := hm v121 ev121
      refine wc_aload (pc := 45) (dAt dtX1_since 21 rfl) rfl (wc_getR (pc := 47) (dAt dtX1_since 22 rfl) flX1_208_20 rfl o114 (wc_iload (pc := 50) (dAt dtX1_since 23 rfl) rfl (wc_iald (pc := 52) (dAt dtX1_since 24 rfl) o116 o117 o118 (wc_aload_n (pc := 53) (dAt dtX1_since 25 rfl) rfl (wc_callV (k := 7) (y' := tX7_bit) (P := eI (vX7_bit r1 h) h) (pc := 54) (dAt dtX1_since 26 rfl) lkX1_161 moX7_bit q597 q598 (by decide) o120 rfl rfl (Nat.le_of_ble_eq_true rfl) (wX7_bit hg o119 ⟨rfl, rfl⟩) (ep_I (wc_iand (pc := 57) (dAt dtX1_since 27 rfl) (?_))) ex_I)))))
      have kj176 : Wc G tX1_since (d + 3) h Q 66 [some (vR 50), some (vR r1), some (vI x110), some (vI x102), some (vR r109), some (vI x111), none, none] [vI v121] h := by
        obtain ⟨o122, o123, hm⟩ := hm
        obtain ⟨v124, ev124⟩ : ∃ v124 : Int, v124 = (b2i (¬ ((iand (hI h (hR h r109 10) (Int.toNat x111)) (vX7_bit r1 h)) = 0))) := ⟨_, rfl⟩
        replace hm := hm v124 ev124
        refine wc_istore (pc := 66) (dAt dtX1_since 32 rfl) (by decide) (wc_L (L' := [some (vR 50), some (vR r1), some (vI x110), some (vI x102), some (vR r109), some (vI x111), some (vI v121), none]) rfl (wc_aload (pc := 68) (dAt dtX1_since 33 rfl) rfl (wc_getR (pc := 70) (dAt dtX1_since 34 rfl) flX1_246_20 rfl o114 (wc_iload (pc := 73) (dAt dtX1_since 35 rfl) rfl (wc_iald (pc := 75) (dAt dtX1_since 36 rfl) o122 o117 o123 (wc_aload_n (pc := 76) (dAt dtX1_since 37 rfl) rfl (wc_callV (k := 7) (y' := tX7_bit) (P := eI (vX7_bit r1 h) h) (pc := 77) (dAt dtX1_since 38 rfl) lkX1_161 moX7_bit q597 q598 (by decide) o120 rfl rfl (Nat.le_of_ble_eq_true rfl) (wX7_bit hg o119 ⟨rfl, rfl⟩) (ep_I (wc_iand (pc := 80) (dAt dtX1_since 39 rfl) (?_))) ex_I)))))))
        have kj167 : Wc G tX1_since (d + 3) h Q 89 [some (vR 50), some (vR r1), some (vI x110), some (vI x102), some (vR r109), some (vI x111), some (vI v121), none] [vI v124] h := by
          refine wc_istore (pc := 89) (dAt dtX1_since 44 rfl) (by decide) (wc_L (L' := [some (vR 50), some (vR r1), some (vI x110), some (vI x102), some (vR r109), some (vI x111), some (vI v121), some (vI v124)]) rfl (wc_iload (pc := 91) (dAt dtX1_since 45 rfl) rfl (?_)))
          have k163 : (¬ (v121 ≠ 0) ∧ (¬ (v124 ≠ 0))) → Wc G tX1_since (d + 3) h Q 101 [some (vR 50), some (vR r1), some (vI x110), some (vI x102), some (vR r109), some (vI x111), some (vI v121), some (vI v124)] [] h := fun c125 => by
            replace hm := ite_t c125 hm
            obtain ⟨o126, hm⟩ := hm
            obtain ⟨i127, ei127⟩ : ∃ i127 : Int, i127 = (x111 + 1) := ⟨_, rfl⟩
            replace hm := hm i127 ei127
            exact wc_goto (pc := 101) (tgt := 199) (dAt dtX1_since 49 rfl) (by decide) (wc_iinc (v := i127) (pc := 199) (dAt dtX1_since 99 rfl) rfl ei127 (ei127 ▸ o126) (by decide) (wc_L (L' := [some (vR 50), some (vR r1), some (vI x110), some (vI x102), some (vR r109), some (vI i127), some (vI v121), some (vI v124)]) rfl (wc_goto (pc := 202) (tgt := 35) (dAt dtX1_since 100 rfl) (by decide) (wc_drp [6, 7] rfl (ih113 _ _ hm)))))
          have k164 : ¬ (¬ (v121 ≠ 0) ∧ (¬ (v124 ≠ 0))) → Wc G tX1_since (d + 3) h Q 104 [some (vR 50), some (vR r1), some (vI x110), some (vI x102), some (vR r109), some (vI x111), some (vI v121), some (vI v124)] [] h := fun c125 => by
            replace hm := ite_f c125 hm
            obtain ⟨o132, hm⟩ := hm
            obtain ⟨v133, ev133⟩ : ∃ v133 : Int, v133 = (if ¬ (v121 = 0) then (hI h (hR h r109 4) (Int.toNat x111)) else (hI h (hR h r109 5) (Int.toNat x111))) := ⟨_, rfl⟩
            replace hm := hm v133 ev133
            refine wc_aload_n (pc := 104) (dAt dtX1_since 50 rfl) rfl (wc_getKI hg (pc := 105) (dAt dtX1_since 51 rfl) flX1_173_1 rfl ka50 (wc_iload (pc := 108) (dAt dtX1_since 52 rfl) rfl (?_)))
            have kj152 : Wc G tX1_since (d + 3) h Q 132 [some (vR 50), some (vR r1), some (vI x110), some (vI x102), some (vR r109), some (vI x111), none, some (vI v124)] [vI v133, vI (hI h 50 20)] h := by
              refine wc_icmp_ge (pc := 132) (tgt := 137) (dAt dtX1_since 63 rfl) (by decide) (fun c134 => ?_) (fun c134 => ?_)
              · replace hm := ite_f (fun z => z c134) hm
                obtain ⟨o135, o136, hm⟩ := hm
                refine wc_aload_n (pc := 137) (dAt dtX1_since 66 rfl) rfl (wc_getKI hg (pc := 138) (dAt dtX1_since 67 rfl) flX1_173_1 rfl ka50 (wc_aload (pc := 141) (dAt dtX1_since 68 rfl) rfl (wc_getR (pc := 143) (dAt dtX1_since 69 rfl) flX1_228_20 rfl o114 (wc_iload (pc := 146) (dAt dtX1_since 70 rfl) rfl (wc_iald (pc := 148) (dAt dtX1_since 71 rfl) o135 o117 o136 (wc_icmp_ge (pc := 149) (tgt := 154) (dAt dtX1_since 72 rfl) (by decide) (fun c137 => ?_) (fun c137 => ?_)))))))
                · replace hm := ite_f (fun z => z c137) hm
                  obtain ⟨v138, ev138⟩ : ∃ v138 : Int, v138 = (hI h (hR h r109 5) (Int.toNat x111)) := ⟨_, rfl⟩
                  replace hm := hm v138 ev138
                  obtain ⟨o143, hm⟩ := hm
                  refine wc_aload (pc := 154) (dAt dtX1_since 75 rfl) rfl (wc_getR (pc := 156) (dAt dtX1_since 76 rfl) flX1_228_20 rfl o114 (wc_iload (pc := 159) (dAt dtX1_since 77 rfl) rfl (wc_iald (pc := 161) (dAt dtX1_since 78 rfl) o135 o117 o136 (wc_vi ev138 (wc_istore_n (pc := 162) (dAt dtX1_since 79 rfl) (by decide) (wc_L (L' := [some (vR 50), some (vR r1), some (vI v138), some (vI x102), some (vR r109), some (vI x111), none, some (vI v124)]) rfl (wc_iload (pc := 163) (dAt dtX1_since 80 rfl) rfl (?_))))))))
                  have k147 : (¬ (v124 = 0) ∧ (¬ ((hI h r109 2) ≤ (x111 + 1)) ∧ (¬ ((hI h (hR h r109 4) (Int.toNat (x111 + 1))) ≤ (hI h 50 20))))) → Wc G tX1_since (d + 3) h Q 197 [some (vR 50), some (vR r1), some (vI v138), some (vI x102), some (vR r109), some (vI x111), none, some (vI v124)] [] h := fun c144 => by
                    replace hm := ite_t c144 hm
                    exact wc_iconst (pc := 197) (dAt dtX1_since 97 rfl) ⟨by decide, by decide⟩ (wc_iret (pc := 198) (dAt dtX1_since 98 rfl) rfl (nar_int _) hm)
                  have k148 : ¬ (¬ (v124 = 0) ∧ (¬ ((hI h r109 2) ≤ (x111 + 1)) ∧ (¬ ((hI h (hR h r109 4) (Int.toNat (x111 + 1))) ≤ (hI h 50 20))))) → Wc G tX1_since (d + 3) h Q 199 [some (vR 50), some (vR r1), some (vI v138), some (vI x102), some (vR r109), some (vI x111), none, some (vI v124)] [] h := fun c144 => by
                    replace hm := ite_f c144 hm
                    obtain ⟨o145, hm⟩ := hm
                    obtain ⟨i146, ei146⟩ : ∃ i146 : Int, i146 = (x111 + 1) := ⟨_, rfl⟩
                    replace hm := hm i146 ei146
                    exact wc_iinc (v := i146) (pc := 199) (dAt dtX1_since 99 rfl) rfl ei146 (ei146 ▸ o145) (by decide) (wc_L (L' := [some (vR 50), some (vR r1), some (vI v138), some (vI x102), some (vR r109), some (vI i146), none, some (vI v124)]) rfl (wc_goto (pc := 202) (tgt := 35) (dAt dtX1_since 100 rfl) (by decide) (wc_drp [7] rfl (ih113 _ _ hm))))
                  exact wc_if_eq (pc := 165) (tgt := 199) (dAt dtX1_since 81 rfl) (by decide) (fun c149 => (k148 (fun z => z.1 c149))) (fun c149 => wc_iload (pc := 168) (dAt dtX1_since 82 rfl) rfl (wc_iconst (pc := 170) (dAt dtX1_since 83 rfl) ⟨by decide, by decide⟩ (wc_iadd (pc := 171) (dAt dtX1_since 84 rfl) (o143 c149).1 (wc_aload (pc := 172) (dAt dtX1_since 85 rfl) rfl (wc_getI (pc := 174) (dAt dtX1_since 86 rfl) flX1_182_20 rfl o114 (wc_icmp_ge (pc := 177) (tgt := 199) (dAt dtX1_since 87 rfl) (by decide) (fun c150 => (k148 (fun z => (fun z => z.1 c150) z.2))) (fun c150 => wc_aload_n (pc := 180) (dAt dtX1_since 88 rfl) rfl (wc_getKI hg (pc := 181) (dAt dtX1_since 89 rfl) flX1_173_1 rfl ka50 (wc_aload (pc := 184) (dAt dtX1_since 90 rfl) rfl (wc_getR (pc := 186) (dAt dtX1_since 91 rfl) flX1_468_20 rfl o114 (wc_iload (pc := 189) (dAt dtX1_since 92 rfl) rfl (wc_iconst (pc := 191) (dAt dtX1_since 93 rfl) ⟨by decide, by decide⟩ (wc_iadd (pc := 192) (dAt dtX1_since 94 rfl) (o143 c149).1 (wc_iald (pc := 193) (dAt dtX1_since 95 rfl) ((o143 c149).2 c150).1 ((o143 c149).2 c150).2.1 ((o143 c149).2 c150).2.2 (wc_icmp_ge (pc := 194) (tgt := 199) (dAt dtX1_since 96 rfl) (by decide) (fun c151 => (k148 (fun z => (fun z => (fun z => z c151) z.2) z.2))) (fun c151 => (k147 ⟨c149, ⟨c150, c151⟩⟩)))))))))))))))))
                · replace hm := ite_t c137 hm
                  exact wc_iconst (pc := 152) (dAt dtX1_since 73 rfl) ⟨by decide, by decide⟩ (wc_iret (pc := 153) (dAt dtX1_since 74 rfl) rfl (nar_int _) hm)
              · replace hm := ite_t c134 hm
                exact wc_iload_n (pc := 135) (dAt dtX1_since 64 rfl) rfl (wc_iret (pc := 136) (dAt dtX1_since 65 rfl) rfl (nar_int _) hm)
            obtain ⟨p153, p154⟩ := o132
            have k155 : (¬ (v121 = 0)) → Wc G tX1_since (d + 3) h Q 113 [some (vR 50), some (vR r1), some (vI x110), some (vI x102), some (vR r109), some (vI x111), some (vI v121), some (vI v124)] [vI (hI h 50 20)] h := fun c157 => by
              obtain ⟨o128, o129⟩ := (p153 c157)
              have z158 := kj152
              rw [show v133 = (hI h (hR h r109 4) (Int.toNat x111)) from ev133.trans (if_pos c157)] at z158
              exact wc_aload (pc := 113) (dAt dtX1_since 54 rfl) rfl (wc_getR (pc := 115) (dAt dtX1_since 55 rfl) flX1_468_20 rfl o114 (wc_iload (pc := 118) (dAt dtX1_since 56 rfl) rfl (wc_iald (pc := 120) (dAt dtX1_since 57 rfl) o128 o117 o129 (wc_goto (pc := 121) (tgt := 132) (dAt dtX1_since 58 rfl) (by decide) (wc_drp [6] rfl (z158))))))
            have k156 : ¬ (¬ (v121 = 0)) → Wc G tX1_since (d + 3) h Q 124 [some (vR 50), some (vR r1), some (vI x110), some (vI x102), some (vR r109), some (vI x111), some (vI v121), some (vI v124)] [vI (hI h 50 20)] h := fun c157 => by
              obtain ⟨o130, o131⟩ := (p154 c157)
              have z160 := kj152
              rw [show v133 = (hI h (hR h r109 5) (Int.toNat x111)) from ev133.trans (if_neg c157)] at z160
              exact wc_aload (pc := 124) (dAt dtX1_since 59 rfl) rfl (wc_getR (pc := 126) (dAt dtX1_since 60 rfl) flX1_228_20 rfl o114 (wc_iload (pc := 129) (dAt dtX1_since 61 rfl) rfl (wc_iald (pc := 131) (dAt dtX1_since 62 rfl) o130 o117 o131 (wc_drp [6] rfl (z160)))))
            exact wc_if_eq (pc := 110) (tgt := 124) (dAt dtX1_since 53 rfl) (by decide) (fun c162 => (k156 (fun z => z c162))) (fun c162 => (k155 c162))
          exact wc_if_ne (pc := 93) (tgt := 104) (dAt dtX1_since 46 rfl) (by decide) (fun c165 => (k164 (fun z => z.1 c165))) (fun c165 => wc_iload (pc := 96) (dAt dtX1_since 47 rfl) rfl (wc_if_ne (pc := 98) (tgt := 104) (dAt dtX1_since 48 rfl) (by decide) (fun c166 => (k164 (fun z => (fun z => z c166) z.2))) (fun c166 => (k163 ⟨c165, c166⟩))))
        have k168 : (¬ ((iand (hI h (hR h r109 10) (Int.toNat x111)) (vX7_bit r1 h)) = 0)) → Wc G tX1_since (d + 3) h Q 84 [some (vR 50), some (vR r1), some (vI x110), some (vI x102), some (vR r109), some (vI x111), some (vI v121), none] [] h := fun c170 => by
          have z171 := kj167
          rw [show v124 = 1 from ev124.trans (b2i_t c170)] at z171
          exact wc_iconst (pc := 84) (dAt dtX1_since 41 rfl) ⟨by decide, by decide⟩ (wc_goto (pc := 85) (tgt := 89) (dAt dtX1_since 42 rfl) (by decide) (z171))
        have k169 : ¬ (¬ ((iand (hI h (hR h r109 10) (Int.toNat x111)) (vX7_bit r1 h)) = 0)) → Wc G tX1_since (d + 3) h Q 88 [some (vR 50), some (vR r1), some (vI x110), some (vI x102), some (vR r109), some (vI x111), some (vI v121), none] [] h := fun c170 => by
          have z173 := kj167
          rw [show v124 = 0 from ev124.trans (b2i_f c170)] at z173
          exact wc_iconst (pc := 88) (dAt dtX1_since 43 rfl) ⟨by decide, by decide⟩ (z173)
        exact wc_if_eq (pc := 81) (tgt := 88) (dAt dtX1_since 40 rfl) (by decide) (fun c175 => (k169 (fun z => z c175))) (fun c175 => (k168 c175))
      have k177 : (¬ ((iand (hI h (hR h r109 9) (Int.toNat x111)) (vX7_bit r1 h)) = 0)) → Wc G tX1_since (d + 3) h Q 61 [some (vR 50), some (vR r1), some (vI x110), some (vI x102), some (vR r109), some (vI x111), none, none] [] h := fun c179 => by
        have z180 := kj176
        rw [show v121 = 1 from ev121.trans (b2i_t c179)] at z180
        exact wc_iconst (pc := 61) (dAt dtX1_since 29 rfl) ⟨by decide, by decide⟩ (wc_goto (pc := 62) (tgt := 66) (dAt dtX1_since 30 rfl) (by decide) (z180))
      have k178 : ¬ (¬ ((iand (hI h (hR h r109 9) (Int.toNat x111)) (vX7_bit r1 h)) = 0)) → Wc G tX1_since (d + 3) h Q 65 [some (vR 50), some (vR r1), some (vI x110), some (vI x102), some (vR r109), some (vI x111), none, none] [] h := fun c179 => by
        have z182 := kj176
        rw [show v121 = 0 from ev121.trans (b2i_f c179)] at z182
        exact wc_iconst (pc := 65) (dAt dtX1_since 31 rfl) ⟨by decide, by decide⟩ (z182)
      exact wc_if_eq (pc := 58) (tgt := 65) (dAt dtX1_since 28 rfl) (by decide) (fun c184 => (k178 (fun z => z c184))) (fun c184 => (k177 c184))
def tX1_isOverdue : Mt := (⟨"FlyingDoctors", "isOverdue", "(LFlyingDoctors$Person;)Z"⟩, prog_1_method_58_code, 4, (Option.some Jvm.ClassFile.FieldType.boolean), [])
def DX1_isOverdue : List (Nat × Instr × Nat) := [(0, .aload_n 1, 1), (1, .getfield 153, 3), (4, .ifCond .ne 5, 3), (7, .iconst 0, 1), (8, .ireturn, 1), (9, .aload_n 0, 1), (10, .aload_n 1, 1), (11, .invokevirtual 483, 3), (14, .istore_n 2, 1), (15, .iload_n 2, 1), (16, .iconst (-1), 1), (17, .if_icmp .ne 5, 3), (20, .iconst 0, 1), (21, .ireturn, 1), (22, .aload_n 0, 1), (23, .aload_n 1, 1), (24, .aload_n 0, 1), (25, .getfield 173, 3), (28, .invokevirtual 479, 3), (31, .istore_n 3, 1), (32, .iload_n 3, 1), (33, .iconst (-1), 1), (34, .if_icmp .eq 55, 3), (37, .aload_n 0, 1), (38, .getfield 12, 3), (41, .iload_n 3, 1), (42, .invokeinterface 22 2, 5), (47, .checkcast 26, 3), (50, .getfield 28, 3), (53, .ifCond .ne 36, 3), (56, .aload_n 0, 1), (57, .getfield 173, 3), (60, .iload_n 2, 1), (61, .isub, 1), (62, .i2l, 1), (63, .ldc2_w 487, 3), (66, .aload_n 0, 1), (67, .aload_n 0, 1), (68, .getfield 173, 3), (71, .invokevirtual 97, 3), (74, .getfield 58, 3), (77, .iconst 4, 1), (78, .iaload, 1), (79, .i2l, 1), (80, .lmul, 1), (81, .lcmp, 1), (82, .ifCond .le 7, 3), (85, .iconst 1, 1), (86, .goto 4, 3), (89, .iconst 0, 1), (90, .ireturn, 1)]
theorem dtX1_isOverdue : chkD (mB tX1_isOverdue) DX1_isOverdue = true := by decide +kernel
theorem moX1_isOverdue : MethOk tX1_isOverdue 1 := ⟨Or.inl ⟨rfl, q1979⟩, by decide +kernel, ⟨by decide, by decide⟩, by decide +kernel⟩
def mX1_isOverdue (r1 : Nat) (h : Hp) (Q : Rs → Hp → Prop) : Prop := ob h r1 7 ∧ if ¬ ((hI h r1 1) ≠ 0) then Q (rV (vI 0)) h else mX1_since r1 h (kI Q (fun x104 h103 => if ¬ (x104 ≠ (-1)) then Q (rV (vI 0)) h103 else mX1_wherePerson r1 (hI h103 50 20) h103 (kI Q (fun x107 h106 => ((¬ (x107 = (-1)) → oJ2_get 54 x107 h106 ∧ ob h106 (vJ2_get 54 x107 h106) 5)) ∧ if ¬ (x107 = (-1)) ∧ (¬ ((hI h106 (vJ2_get 54 x107 h106) 5) ≠ 0)) then nm ((hI h106 50 20) - x104) ∧ mX1_rulesAt (hI h106 50 20) h106 (kR Q (fun r114 h113 => ob h113 r114 2 ∧ ob h113 (hR h113 r114 0) 70 ∧ (4 : Int) < (hN h113 (hR h113 r114 0)) ∧ nl (96 * (hI h113 (hR h113 r114 0) 4)) ∧ ∀ v119 : Int, v119 = (b2i (¬ ((lcm ((hI h106 50 20) - x104) (96 * (hI h113 (hR h113 r114 0) 4))) ≤ 0))) → Q (rV (vI v119)) h113)) else Q (rV (vI 0)) h106))))
theorem wX1_isOverdue {G : Gx} (hg : gF G = true) {d : Nat} {r1 : Nat} {h : Hp} {Q : Rs → Hp → Prop} (hm : mX1_isOverdue r1 h Q) : Ct G tX1_isOverdue (d + 4) [vR 50, vR r1] h Q := by
  refine ct_enter (L0 := [some (vR 50), some (vR r1), none, none]) rfl rfl ?_
  unfold mX1_isOverdue at hm
  obtain ⟨o101, hm⟩ := hm
  refine wc_aload_n (pc := 0) (dAt dtX1_isOverdue 0 rfl) rfl (wc_getI (pc := 1) (dAt dtX1_isOverdue 1 rfl) flX1_153_7 rfl o101 (wc_if_ne (pc := 4) (tgt := 9) (dAt dtX1_isOverdue 2 rfl) (by decide) (fun c102 => ?_) (fun c102 => ?_)))
  · replace hm := ite_f (fun z => z c102) hm
    refine wc_aload_n (pc := 9) (dAt dtX1_isOverdue 5 rfl) rfl (wc_aload_n (pc := 10) (dAt dtX1_isOverdue 6 rfl) rfl (wc_kf hg fun zk => wc_callV (k := 1) (y' := tX1_since) (av := [vR r1]) (st := []) (pc := 11) (dAt dtX1_isOverdue 7 rfl) lkX1_483 moX1_since q1982 qs56 (by decide) (zk.2 _ ka50).1 rfl rfl (Nat.le_of_ble_eq_true rfl) (wX1_since hg hm) (kr_I (fun x104 h103 hm => ?_)) (kx_I rfl)))
    refine wc_istore_n (pc := 14) (dAt dtX1_isOverdue 8 rfl) (by decide) (wc_L (L' := [some (vR 50), some (vR r1), some (vI x104), none]) rfl (wc_iload_n (pc := 15) (dAt dtX1_isOverdue 9 rfl) rfl (wc_iconst (pc := 16) (dAt dtX1_isOverdue 10 rfl) ⟨by decide, by decide⟩ (wc_icmp_ne (pc := 17) (tgt := 22) (dAt dtX1_isOverdue 11 rfl) (by decide) (fun c105 => ?_) (fun c105 => ?_)))))
    · replace hm := ite_f (fun z => z c105) hm
      refine wc_aload_n (pc := 22) (dAt dtX1_isOverdue 14 rfl) rfl (wc_aload_n (pc := 23) (dAt dtX1_isOverdue 15 rfl) rfl (wc_aload_n (pc := 24) (dAt dtX1_isOverdue 16 rfl) rfl (wc_getKI hg (pc := 25) (dAt dtX1_isOverdue 17 rfl) flX1_173_1 rfl ka50 (wc_kf hg fun zk => wc_callV (k := 1) (y' := tX1_wherePerson) (av := [vR r1, vI (hI h103 50 20)]) (st := []) (pc := 28) (dAt dtX1_isOverdue 18 rfl) lkX1_479 moX1_wherePerson q1960 qs54 (by decide) (zk.2 _ ka50).1 rfl rfl (Nat.le_of_ble_eq_true rfl) (wX1_wherePerson hg hm) (kr_I (fun x107 h106 hm => ?_)) (kx_I rfl)))))
      obtain ⟨o110, hm⟩ := hm
      refine wc_istore_n (pc := 31) (dAt dtX1_isOverdue 19 rfl) (by decide) (wc_L (L' := [some (vR 50), some (vR r1), some (vI x104), some (vI x107)]) rfl (wc_iload_n (pc := 32) (dAt dtX1_isOverdue 20 rfl) rfl (wc_iconst (pc := 33) (dAt dtX1_isOverdue 21 rfl) ⟨by decide, by decide⟩ (?_))))
      have k129 : (¬ (x107 = (-1)) ∧ (¬ ((hI h106 (vJ2_get 54 x107 h106) 5) ≠ 0))) → Wc G tX1_isOverdue (d + 4) h Q 56 [some (vR 50), some (vR r1), some (vI x104), some (vI x107)] [] h106 := fun c111 => by
        replace hm := ite_t c111 hm
        obtain ⟨o112, hm⟩ := hm
        refine wc_aload_n (pc := 56) (dAt dtX1_isOverdue 30 rfl) rfl (wc_getKI hg (pc := 57) (dAt dtX1_isOverdue 31 rfl) flX1_173_1 rfl ka50 (wc_iload_n (pc := 60) (dAt dtX1_isOverdue 32 rfl) rfl (wc_isub (pc := 61) (dAt dtX1_isOverdue 33 rfl) o112 (wc_i2l (pc := 62) (dAt dtX1_isOverdue 34 rfl) (wc_ldc2 (n := 96) (pc := 63) (dAt dtX1_isOverdue 35 rfl) q1984 (by decide) ⟨by decide, by decide⟩ (wc_aload_n (pc := 66) (dAt dtX1_isOverdue 36 rfl) rfl (wc_aload_n (pc := 67) (dAt dtX1_isOverdue 37 rfl) rfl (wc_getKI hg (pc := 68) (dAt dtX1_isOverdue 38 rfl) flX1_173_1 rfl ka50 (wc_kf hg fun zk => wc_callV (k := 1) (y' := tX1_rulesAt) (av := [vI (hI h106 50 20)]) (st := [vL 96, vL ((hI h106 50 20) - x104)]) (pc := 71) (dAt dtX1_isOverdue 39 rfl) lkX1_97 moX1_rulesAt q1486 qs33 (by decide) (zk.2 _ ka50).1 rfl rfl (Nat.le_of_ble_eq_true rfl) (wX1_rulesAt hg hm) (kr_R (fun r114 h113 hm => ?_)) (kx_R rfl))))))))))
        obtain ⟨o115, o116, o117, o118, hm⟩ := hm
        obtain ⟨v119, ev119⟩ : ∃ v119 : Int, v119 = (b2i (¬ ((lcm ((hI h106 50 20) - x104) (96 * (hI h113 (hR h113 r114 0) 4))) ≤ 0))) := ⟨_, rfl⟩
        replace hm := hm v119 ev119
        refine wc_getR (pc := 74) (dAt dtX1_isOverdue 40 rfl) flX1_58_2 rfl o115 (wc_iconst (pc := 77) (dAt dtX1_isOverdue 41 rfl) ⟨by decide, by decide⟩ (wc_iald (pc := 78) (dAt dtX1_isOverdue 42 rfl) o116 (by decide) o117 (wc_i2l (pc := 79) (dAt dtX1_isOverdue 43 rfl) (wc_lmul (pc := 80) (dAt dtX1_isOverdue 44 rfl) o118 (wc_lcmp (pc := 81) (dAt dtX1_isOverdue 45 rfl) (?_))))))
        have kj120 : Wc G tX1_isOverdue (d + 4) h Q 90 [some (vR 50), none, none, none] [vI v119] h113 := by
          exact wc_iret (pc := 90) (dAt dtX1_isOverdue 50 rfl) rfl (nar_bool (bo_tr ev119.symm (bool_b2i _))) hm
        have k121 : (¬ ((lcm ((hI h106 50 20) - x104) (96 * (hI h113 (hR h113 r114 0) 4))) ≤ 0)) → Wc G tX1_isOverdue (d + 4) h Q 85 [some (vR 50), some (vR r1), some (vI x104), some (vI x107)] [] h113 := fun c123 => by
          have z124 := kj120
          rw [show v119 = 1 from ev119.trans (b2i_t c123)] at z124
          exact wc_iconst (pc := 85) (dAt dtX1_isOverdue 47 rfl) ⟨by decide, by decide⟩ (wc_goto (pc := 86) (tgt := 90) (dAt dtX1_isOverdue 48 rfl) (by decide) (wc_drp [1, 2, 3] rfl (z124)))
        have k122 : ¬ (¬ ((lcm ((hI h106 50 20) - x104) (96 * (hI h113 (hR h113 r114 0) 4))) ≤ 0)) → Wc G tX1_isOverdue (d + 4) h Q 89 [some (vR 50), some (vR r1), some (vI x104), some (vI x107)] [] h113 := fun c123 => by
          have z126 := kj120
          rw [show v119 = 0 from ev119.trans (b2i_f c123)] at z126
          exact wc_iconst (pc := 89) (dAt dtX1_isOverdue 49 rfl) ⟨by decide, by decide⟩ (wc_drp [1, 2, 3] rfl (z126))
        exact wc_if_le (pc := 82) (tgt := 89) (dAt dtX1_isOverdue 46 rfl) (by decide) (fun c128 => (k122 (fun z => z c128))) (fun c128 => (k121 c128))
      have k130 : ¬ (¬ (x107 = (-1)) ∧ (¬ ((hI h106 (vJ2_get 54 x107 h106) 5) ≠ 0))) → Wc G tX1_isOverdue (d + 4) h Q 89 [some (vR 50), some (vR r1), some (vI x104), some (vI x107)] [] h106 := fun c111 => by
        replace hm := ite_f c111 hm
        exact wc_iconst (pc := 89) (dAt dtX1_isOverdue 49 rfl) ⟨by decide, by decide⟩ (wc_iret (pc := 90) (dAt dtX1_isOverdue 50 rfl) rfl (nar_bool (Or.inl rfl)) hm)
      exact wc_icmp_eq (pc := 34) (tgt := 89) (dAt dtX1_isOverdue 22 rfl) (by decide) (fun c131 => (k130 (fun z => z.1 c131))) (fun c131 => wc_aload_n (pc := 37) (dAt dtX1_isOverdue 23 rfl) rfl (wc_getKR hg (pc := 38) (dAt dtX1_isOverdue 24 rfl) flX1_12_1 rfl ka50 kf50_4 (wc_iload_n (pc := 41) (dAt dtX1_isOverdue 25 rfl) rfl (wc_kf hg fun zk => (wc_callF (k := 32) (x := ⟨"java/util/List", "get", "(I)Ljava/lang/Object;"⟩) (y' := tJ2_get) (P := eR (vJ2_get 54 x107 h106) h106) (pc := 42) (dAt dtX1_isOverdue 26 rfl) q506 q508 q507 ⟨by decide, by decide⟩ moJ2_get rfl q511 q512 q510 q367 q509 (by decide) (zk.2 _ ka54).1 rfl rfl (Nat.le_of_ble_eq_true rfl) (wJ2_get hg (o110 c131).1 ⟨rfl, rfl⟩) (ep_R (wc_cast (pc := 47) (dAt dtX1_isOverdue 27 rfl) q182 (by decide) (Or.inl rfl) (o110 c131).2 (wc_getI (pc := 50) (dAt dtX1_isOverdue 28 rfl) flX1_28_5 rfl (o110 c131).2 (wc_if_ne (pc := 53) (tgt := 89) (dAt dtX1_isOverdue 29 rfl) (by decide) (fun c132 => (k130 (fun z => (fun z => z c132) z.2))) (fun c132 => (k129 ⟨c131, c132⟩)))))) ex_R)))))
    · replace hm := ite_t c105 hm
      exact wc_iconst (pc := 20) (dAt dtX1_isOverdue 12 rfl) ⟨by decide, by decide⟩ (wc_iret (pc := 21) (dAt dtX1_isOverdue 13 rfl) rfl (nar_bool (Or.inl rfl)) hm)
  · replace hm := ite_t c102 hm
    exact wc_iconst (pc := 7) (dAt dtX1_isOverdue 3 rfl) ⟨by decide, by decide⟩ (wc_iret (pc := 8) (dAt dtX1_isOverdue 4 rfl) rfl (nar_bool (Or.inl rfl)) hm)
def tX1_overdue : Mt := (⟨"FlyingDoctors", "overdue", "(I)I"⟩, prog_1_method_59_code, 5, (Option.some Jvm.ClassFile.FieldType.int), [])
def DX1_overdue : List (Nat × Instr × Nat) := [(0, .iconst 0, 1), (1, .istore_n 2, 1), (2, .iconst (-1), 1), (3, .istore_n 3, 1), (4, .iconst 0, 1), (5, .istore 4, 2), (7, .iload 4, 2), (9, .aload_n 0, 1), (10, .getfield 158, 3), (13, .invokeinterface 16 1, 5), (18, .if_icmp .ge 44, 3), (21, .aload_n 0, 1), (22, .aload_n 0, 1), (23, .getfield 158, 3), (26, .iload 4, 2), (28, .invokeinterface 22 2, 5), (33, .checkcast 154, 3), (36, .invokevirtual 489, 3), (39, .ifCond .ne 6, 3), (42, .goto 14, 3), (45, .iload_n 2, 1), (46, .iload_n 1, 1), (47, .if_icmp .ne 6, 3), (50, .iload 4, 2), (52, .istore_n 3, 1), (53, .iinc 2 1, 3), (56, .iinc 4 1, 3), (59, .goto (-52), 3), (62, .iload_n 1, 1), (63, .iconst (-1), 1), (64, .iload_n 2, 1), (65, .iconst 1, 1), (66, .isub, 1), (67, .invokestatic 314, 3), (70, .invokestatic 318, 3), (73, .iload_n 1, 1), (74, .iconst (-1), 1), (75, .if_icmp .ne 7, 3), (78, .iload_n 2, 1), (79, .goto 4, 3), (82, .iload_n 3, 1), (83, .ireturn, 1)]
theorem dtX1_overdue : chkD (mB tX1_overdue) DX1_overdue = true := by decide +kernel
theorem moX1_overdue : MethOk tX1_overdue 1 := ⟨Or.inl ⟨rfl, q1975⟩, by decide +kernel, ⟨by decide, by decide⟩, by decide +kernel⟩
def mX1_overdue (x1 : Int) (h : Hp) (Q : Rs → Hp → Prop) : Prop := wh4 (fun (C105 : Int → Int → Int → Hp → Prop) (x101 : Int) (x102 : Int) (x103 : Int) (h104 : Hp) => oJ2_size 56 h104 ∧ if ¬ ((vJ2_size 56 h104) ≤ x103) then oJ2_get 56 x103 h104 ∧ ob h104 (vJ2_get 56 x103 h104) 7 ∧ mX1_isOverdue (vJ2_get 56 x103 h104) h104 (kI Q (fun x112 h111 => ((¬ (¬ (x112 ≠ 0)) → ((¬ (x101 ≠ x1)) → nm (x101 + 1)) ∧ (¬ (¬ (x101 ≠ x1)) → nm (x101 + 1)))) ∧ ∀ v116 : Int, v116 = (if ¬ (x112 ≠ 0) then x101 else (x101 + 1)) → ∀ v117 : Int, v117 = (if ¬ (x112 ≠ 0) then x102 else (if ¬ (x101 ≠ x1) then x103 else x102)) → nm (x103 + 1) ∧ ∀ i119 : Int, i119 = (x103 + 1) → C105 v116 v117 i119 h111)) else nm (x101 - 1) ∧ mX1_found (vX1_in x1 (-1) (x101 - 1) h104) h104 (kN Q (fun h142 => ∀ v143 : Int, v143 = (if ¬ (x1 ≠ (-1)) then x101 else x102) → Q (rV (vI v143)) h142))) 0 (-1) 0 h
theorem wX1_overdue {G : Gx} (hg : gF G = true) {d : Nat} {x1 : Int} {h : Hp} {Q : Rs → Hp → Prop} (hm : mX1_overdue x1 h Q) : Ct G tX1_overdue (d + 9) [vR 50, vI x1] h Q := by
  refine ct_enter (L0 := [some (vR 50), some (vI x1), none, none, none]) rfl rfl ?_
  unfold mX1_overdue at hm
  refine wc_iconst (pc := 0) (dAt dtX1_overdue 0 rfl) ⟨by decide, by decide⟩ (wc_istore_n (pc := 1) (dAt dtX1_overdue 1 rfl) (by decide) (wc_L (L' := [some (vR 50), some (vI x1), some (vI 0), none, none]) rfl (wc_iconst (pc := 2) (dAt dtX1_overdue 2 rfl) ⟨by decide, by decide⟩ (wc_istore_n (pc := 3) (dAt dtX1_overdue 3 rfl) (by decide) (wc_L (L' := [some (vR 50), some (vI x1), some (vI 0), some (vI (-1)), none]) rfl (wc_iconst (pc := 4) (dAt dtX1_overdue 4 rfl) ⟨by decide, by decide⟩ (wc_istore (pc := 5) (dAt dtX1_overdue 5 rfl) (by decide) (wc_L (L' := [some (vR 50), some (vI x1), some (vI 0), some (vI (-1)), some (vI 0)]) rfl (?_)))))))))
  refine wh4_ind (P := fun (x101 : Int) (x102 : Int) (x103 : Int) (h104 : Hp) => Wc G tX1_overdue (d + 9) h Q 7 [some (vR 50), some (vI x1), some (vI x101), some (vI x102), some (vI x103)] [] h104) (fun C105 ih106 x101 x102 x103 h104 hm => ?_) hm
  obtain ⟨o107, hm⟩ := hm
  refine wc_iload (pc := 7) (dAt dtX1_overdue 6 rfl) rfl (wc_aload_n (pc := 9) (dAt dtX1_overdue 7 rfl) rfl (wc_getKR hg (pc := 10) (dAt dtX1_overdue 8 rfl) flX1_158_1 rfl ka50 kf50_6 (wc_kf hg fun zk => (wc_callF (k := 32) (x := ⟨"java/util/List", "size", "()I"⟩) (y' := tJ2_size) (P := eI (vJ2_size 56 h104) h104) (pc := 13) (dAt dtX1_overdue 9 rfl) q364 q366 q365 ⟨by decide, by decide⟩ moJ2_size rfl q370 q371 q369 q367 q368 (by decide) (zk.2 _ ka56).1 rfl rfl (Nat.le_of_ble_eq_true rfl) (wJ2_size hg o107 ⟨rfl, rfl⟩) (ep_I (wc_icmp_ge (pc := 18) (tgt := 62) (dAt dtX1_overdue 10 rfl) (by decide) (fun c108 => ?_) (fun c108 => ?_))) ex_I))))
  · replace hm := ite_f (fun z => z c108) hm
    obtain ⟨o141, hm⟩ := hm
    refine wc_iload_n (pc := 62) (dAt dtX1_overdue 28 rfl) rfl (wc_iconst (pc := 63) (dAt dtX1_overdue 29 rfl) ⟨by decide, by decide⟩ (wc_iload_n (pc := 64) (dAt dtX1_overdue 30 rfl) rfl (wc_iconst (pc := 65) (dAt dtX1_overdue 31 rfl) ⟨by decide, by decide⟩ (wc_isub (pc := 66) (dAt dtX1_overdue 32 rfl) o141 (wc_callS (y' := tX1_in) (P := eI (vX1_in x1 (-1) (x101 - 1) h104) h104) (pc := 67) (dAt dtX1_overdue 33 rfl) lkX1_314 moX1_in q374 q128 rfl rfl (Nat.le_of_ble_eq_true rfl) (wX1_in hg ⟨rfl, rfl⟩) (ep_I (wc_callS (y' := tX1_found) (av := [vI (vX1_in x1 (-1) (x101 - 1) h104)]) (st := []) (pc := 70) (dAt dtX1_overdue 34 rfl) lkX1_318 moX1_found q687 q128 rfl rfl (Nat.le_of_ble_eq_true rfl) (wX1_found hg hm) (kr_N (fun h142 hm => ?_)) (kx_N rfl))) ex_I)))))
    obtain ⟨v143, ev143⟩ : ∃ v143 : Int, v143 = (if ¬ (x1 ≠ (-1)) then x101 else x102) := ⟨_, rfl⟩
    replace hm := hm v143 ev143
    refine wc_iload_n (pc := 73) (dAt dtX1_overdue 35 rfl) rfl (wc_iconst (pc := 74) (dAt dtX1_overdue 36 rfl) ⟨by decide, by decide⟩ (?_))
    have kj144 : Wc G tX1_overdue (d + 9) h Q 83 [some (vR 50), none, none, none, none] [vI v143] h142 := by
      exact wc_iret (pc := 83) (dAt dtX1_overdue 41 rfl) rfl (nar_int _) hm
    have k145 : (¬ (x1 ≠ (-1))) → Wc G tX1_overdue (d + 9) h Q 78 [some (vR 50), some (vI x1), some (vI x101), some (vI x102), some (vI x103)] [] h142 := fun c147 => by
      have z148 := kj144
      rw [show v143 = x101 from ev143.trans (if_pos c147)] at z148
      exact wc_iload_n (pc := 78) (dAt dtX1_overdue 38 rfl) rfl (wc_goto (pc := 79) (tgt := 83) (dAt dtX1_overdue 39 rfl) (by decide) (wc_drp [1, 2, 3, 4] rfl (z148)))
    have k146 : ¬ (¬ (x1 ≠ (-1))) → Wc G tX1_overdue (d + 9) h Q 82 [some (vR 50), some (vI x1), some (vI x101), some (vI x102), some (vI x103)] [] h142 := fun c147 => by
      have z150 := kj144
      rw [show v143 = x102 from ev143.trans (if_neg c147)] at z150
      exact wc_iload_n (pc := 82) (dAt dtX1_overdue 40 rfl) rfl (wc_drp [1, 2, 3, 4] rfl (z150))
    exact wc_icmp_ne (pc := 75) (tgt := 82) (dAt dtX1_overdue 37 rfl) (by decide) (fun c152 => (k146 (fun z => z c152))) (fun c152 => (k145 c152))
  · replace hm := ite_t c108 hm
    obtain ⟨o109, o110, hm⟩ := hm
    refine wc_aload_n (pc := 21) (dAt dtX1_overdue 11 rfl) rfl (wc_aload_n (pc := 22) (dAt dtX1_overdue 12 rfl) rfl (wc_getKR hg (pc := 23) (dAt dtX1_overdue 13 rfl) flX1_158_1 rfl ka50 kf50_6 (wc_iload (pc := 26) (dAt dtX1_overdue 14 rfl) rfl (wc_kf hg fun zk => (wc_callF (k := 32) (x := ⟨"java/util/List", "get", "(I)Ljava/lang/Object;"⟩) (y' := tJ2_get) (P := eR (vJ2_get 56 x103 h104) h104) (pc := 28) (dAt dtX1_overdue 15 rfl) q506 q508 q507 ⟨by decide, by decide⟩ moJ2_get rfl q511 q512 q510 q367 q509 (by decide) (zk.2 _ ka56).1 rfl rfl (Nat.le_of_ble_eq_true rfl) (wJ2_get hg o109 ⟨rfl, rfl⟩) (ep_R (wc_cast (pc := 33) (dAt dtX1_overdue 16 rfl) q567 (by decide) (Or.inl rfl) o110 (wc_kf hg fun zk => wc_callV (k := 1) (y' := tX1_isOverdue) (av := [vR (vJ2_get 56 x103 h104)]) (st := []) (pc := 36) (dAt dtX1_overdue 17 rfl) lkX1_489 moX1_isOverdue q1978 qs55 (by decide) (zk.2 _ ka50).1 rfl rfl (Nat.le_of_ble_eq_true rfl) (wX1_isOverdue hg hm) (kr_I (fun x112 h111 hm => ?_)) (kx_I rfl)))) ex_R)))))
    obtain ⟨o115, hm⟩ := hm
    obtain ⟨v116, ev116⟩ : ∃ v116 : Int, v116 = (if ¬ (x112 ≠ 0) then x101 else (x101 + 1)) := ⟨_, rfl⟩
    replace hm := hm v116 ev116
    obtain ⟨v117, ev117⟩ : ∃ v117 : Int, v117 = (if ¬ (x112 ≠ 0) then x102 else (if ¬ (x101 ≠ x1) then x103 else x102)) := ⟨_, rfl⟩
    replace hm := hm v117 ev117
    have kj120 : Wc G tX1_overdue (d + 9) h Q 56 [some (vR 50), some (vI x1), some (vI v116), some (vI v117), some (vI x103)] [] h111 := by
      obtain ⟨o118, hm⟩ := hm
      obtain ⟨i119, ei119⟩ : ∃ i119 : Int, i119 = (x103 + 1) := ⟨_, rfl⟩
      replace hm := hm i119 ei119
      exact wc_iinc (v := i119) (pc := 56) (dAt dtX1_overdue 26 rfl) rfl ei119 (ei119 ▸ o118) (by decide) (wc_L (L' := [some (vR 50), some (vI x1), some (vI v116), some (vI v117), some (vI i119)]) rfl (wc_goto (pc := 59) (tgt := 7) (dAt dtX1_overdue 27 rfl) (by decide) (ih106 _ _ _ _ hm)))
    have p121 := o115
    have k122 : (¬ (x112 ≠ 0)) → Wc G tX1_overdue (d + 9) h Q 42 [some (vR 50), some (vI x1), some (vI x101), some (vI x102), some (vI x103)] [] h111 := fun c124 => by
      have z125 := kj120
      rw [show v116 = x101 from ev116.trans (if_pos c124)] at z125
      rw [show v117 = x102 from ev117.trans (if_pos c124)] at z125
      exact wc_goto (pc := 42) (tgt := 56) (dAt dtX1_overdue 19 rfl) (by decide) (z125)
    have k123 : ¬ (¬ (x112 ≠ 0)) → Wc G tX1_overdue (d + 9) h Q 45 [some (vR 50), some (vI x1), some (vI x101), some (vI x102), some (vI x103)] [] h111 := fun c124 => by
      obtain ⟨p128, p129⟩ := (p121 c124)
      have k130 : (¬ (x101 ≠ x1)) → Wc G tX1_overdue (d + 9) h Q 50 [some (vR 50), some (vI x1), some (vI x101), some (vI x102), some (vI x103)] [] h111 := fun c132 => by
        have o113 := (p128 c132)
        have z133 := kj120
        rw [show v116 = (x101 + 1) from ev116.trans (if_neg c124)] at z133
        rw [show v117 = x103 from ev117.trans ((if_neg c124).trans (if_pos c132))] at z133
        exact wc_iload (pc := 50) (dAt dtX1_overdue 23 rfl) rfl (wc_istore_n (pc := 52) (dAt dtX1_overdue 24 rfl) (by decide) (wc_L (L' := [some (vR 50), some (vI x1), some (vI x101), some (vI x103), some (vI x103)]) rfl (wc_iinc (pc := 53) (dAt dtX1_overdue 25 rfl) rfl rfl o113 (by decide) (wc_L (L' := [some (vR 50), some (vI x1), some (vI (x101 + 1)), some (vI x103), some (vI x103)]) rfl (z133)))))
      have k131 : ¬ (¬ (x101 ≠ x1)) → Wc G tX1_overdue (d + 9) h Q 53 [some (vR 50), some (vI x1), some (vI x101), some (vI x102), some (vI x103)] [] h111 := fun c132 => by
        have o114 := (p129 c132)
        have z136 := kj120
        rw [show v116 = (x101 + 1) from ev116.trans (if_neg c124)] at z136
        rw [show v117 = x102 from ev117.trans ((if_neg c124).trans (if_neg c132))] at z136
        exact wc_iinc (pc := 53) (dAt dtX1_overdue 25 rfl) rfl rfl o114 (by decide) (wc_L (L' := [some (vR 50), some (vI x1), some (vI (x101 + 1)), some (vI x102), some (vI x103)]) rfl (z136))
      exact wc_iload_n (pc := 45) (dAt dtX1_overdue 20 rfl) rfl (wc_iload_n (pc := 46) (dAt dtX1_overdue 21 rfl) rfl (wc_icmp_ne (pc := 47) (tgt := 53) (dAt dtX1_overdue 22 rfl) (by decide) (fun c139 => (k131 (fun z => z c139))) (fun c139 => (k130 c139))))
    exact wc_if_ne (pc := 39) (tgt := 45) (dAt dtX1_overdue 18 rfl) (by decide) (fun c140 => (k123 (fun z => z c140))) (fun c140 => (k122 c140))
def tX0_overdue : Mt := (⟨"FlyingDoctorsLaw", "overdue", "(LFlyingDoctors;I[J)I"⟩, method_23_code, 4, (Option.some Jvm.ClassFile.FieldType.int), [((0 : Nat), (9 : Nat), (12 : Nat), (13 : Nat))])
def DX0_overdue : List (Nat × Instr × Nat) := [(0, .aload_n 2, 1), (1, .iconst 0, 1), (2, .aload_n 0, 1), (3, .iload_n 1, 1), (4, .invokevirtual 82, 3), (7, .i2l, 1), (8, .lastore, 1), (9, .goto 6, 3), (12, .astore_n 3, 1), (13, .iconst 1, 1), (14, .ireturn, 1), (15, .iconst 0, 1), (16, .ireturn, 1)]
theorem dtX0_overdue : chkD (mB tX0_overdue) DX0_overdue = true := by decide +kernel
theorem moX0_overdue : MethOk tX0_overdue 3 := ⟨Or.inr q1971, by decide +kernel, ⟨by decide, by decide⟩, by decide +kernel⟩
def mX0_overdue (x1 : Int) (h : Hp) (Q : Rs → Hp → Prop) : Prop := mX1_overdue x1 h (kIx (fun a103 h104 => ob h104 a103 41 ∧ (Q (rV (vI 1)) h104)) (fun x102 h101 => ∀ h106 : Hp, h106 = sL h101 158 0 x102 → Q (rV (vI 0)) h106))
theorem wX0_overdue {G : Gx} (hg : gF G = true) {d : Nat} {x1 : Int} {h : Hp} {Q : Rs → Hp → Prop} (hm : mX0_overdue x1 h Q) : Ct G tX0_overdue (d + 10) [vR 50, vI x1, vR 158] h Q := by
  refine ct_enter (L0 := [some (vR 50), some (vI x1), some (vR 158), none]) rfl rfl ?_
  unfold mX0_overdue at hm
  refine wc_aload_n (pc := 0) (dAt dtX0_overdue 0 rfl) rfl (wc_iconst (pc := 1) (dAt dtX0_overdue 1 rfl) ⟨by decide, by decide⟩ (wc_aload_n (pc := 2) (dAt dtX0_overdue 2 rfl) rfl (wc_iload_n (pc := 3) (dAt dtX0_overdue 3 rfl) rfl (wc_kf hg fun zk => wc_callV (k := 1) (y' := tX1_overdue) (av := [vI x1]) (st := [vI 0, vR 158]) (pc := 4) (dAt dtX0_overdue 4 rfl) lkX0_82 moX1_overdue q1973 q1974 (by decide) (zk.2 _ ka50).1 rfl rfl (Nat.le_of_ble_eq_true rfl) (wX1_overdue hg hm) (krx_I (fun x102 h101 hm => ?_)) (kxx_I (fun a103 h104 hm => ?_))))))
  · obtain ⟨h106, eh106⟩ : ∃ h106 : Hp, h106 = sL h101 158 0 x102 := ⟨_, rfl⟩
    replace hm := hm h106 eh106
    exact wc_i2l (pc := 7) (dAt dtX0_overdue 5 rfl) (wc_lastK hg (pc := 8) (dAt dtX0_overdue 6 rfl) kr158 (by decide) (by decide) (by decide) (wc_hp eh106 (wc_goto (pc := 9) (tgt := 15) (dAt dtX0_overdue 7 rfl) (by decide) (wc_iconst (pc := 15) (dAt dtX0_overdue 11 rfl) ⟨by decide, by decide⟩ (wc_iret (pc := 16) (dAt dtX0_overdue 12 rfl) rfl (nar_int _) hm)))))
  · obtain ⟨o105, hm⟩ := hm
    refine wx_hit rfl rfl (by decide) q676 (by decide) o105 rfl ?_
    exact wc_astore_n (pc := 12) (dAt dtX0_overdue 8 rfl) (by decide) (wc_L (L' := [some (vR 50), some (vI x1), some (vR 158), some (vR a103)]) rfl (wc_iconst (pc := 13) (dAt dtX0_overdue 9 rfl) ⟨by decide, by decide⟩ (wc_iret (pc := 14) (dAt dtX0_overdue 10 rfl) rfl (nar_int _) hm)))
