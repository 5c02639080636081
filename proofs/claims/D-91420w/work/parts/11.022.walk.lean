set_option maxRecDepth 100000
set_option maxHeartbeats 1000000
/-! what methods do, and their walks, by program -/
def tX4_clears : Mt := (⟨"FlyingDoctorsModel", "clears", "()V"⟩, prog_24_method_48_code, 2, (Option.none : Option Jvm.ClassFile.FieldType), [])
def DX4_clears : List (Nat × Instr × Nat) := [(0, .iconst 0, 1), (1, .istore_n 1, 1), (2, .iload_n 1, 1), (3, .bipush 10, 2), (5, .if_icmp .ge 16, 3), (8, .aload_n 0, 1), (9, .getfield 190, 3), (12, .iload_n 1, 1), (13, .iconst 0, 1), (14, .iastore, 1), (15, .iinc 1 1, 3), (18, .goto (-16), 3), (21, .aload_n 0, 1), (22, .iconst 0, 1), (23, .putfield 441, 3), (26, .return_, 1)]
theorem dtX4_clears : chkD (mB tX4_clears) DX4_clears = true := by decide +kernel
theorem moX4_clears : MethOk tX4_clears 0 := ⟨Or.inl ⟨rfl, q2683⟩, by decide +kernel, ⟨by decide, by decide⟩, by decide +kernel⟩
def mX4_clears  (h : Hp) (Q : Rs → Hp → Prop) : Prop := wh2 (fun (C103 : Int → Hp → Prop) (x101 : Int) (h102 : Hp) => if ¬ (10 ≤ x101) then 0 ≤ x101 ∧ x101 < 10 ∧ ∀ h108 : Hp, h108 = sI h102 109 (Int.toNat x101) 0 → nm (x101 + 1) ∧ ∀ i110 : Int, i110 = (x101 + 1) → C103 i110 h108 else ∀ h111 : Hp, h111 = sI h102 75 59 0 → Q rN h111) 0 h
theorem wX4_clears {G : Gx} (hg : gF G = true) {d : Nat}  {h : Hp} {Q : Rs → Hp → Prop} (hm : mX4_clears  h Q) : Ct G tX4_clears (d + 0) [vR 75] h Q := by
  refine ct_enter (L0 := [some (vR 75), none]) rfl rfl ?_
  unfold mX4_clears at hm
  refine wc_iconst (pc := 0) (dAt dtX4_clears 0 rfl) ⟨by decide, by decide⟩ (wc_istore_n (pc := 1) (dAt dtX4_clears 1 rfl) (by decide) (wc_L (L' := [some (vR 75), some (vI 0)]) rfl (?_)))
  refine wh2_ind (P := fun (x101 : Int) (h102 : Hp) => Wc G tX4_clears (d + 0) h Q 2 [some (vR 75), some (vI x101)] [] h102) (fun C103 ih104 x101 h102 hm => ?_) hm
  refine wc_iload_n (pc := 2) (dAt dtX4_clears 2 rfl) rfl (wc_bipush (pc := 3) (dAt dtX4_clears 3 rfl) ⟨by decide, by decide, by decide⟩ (wc_icmp_ge (pc := 5) (tgt := 21) (dAt dtX4_clears 4 rfl) (by decide) (fun c105 => ?_) (fun c105 => ?_)))
  · replace hm := ite_f (fun z => z c105) hm
    obtain ⟨h111, eh111⟩ : ∃ h111 : Hp, h111 = sI h102 75 59 0 := ⟨_, rfl⟩
    replace hm := hm h111 eh111
    exact wc_aload_n (pc := 21) (dAt dtX4_clears 12 rfl) rfl (wc_iconst (pc := 22) (dAt dtX4_clears 13 rfl) ⟨by decide, by decide⟩ (wc_putKI hg (pc := 23) (dAt dtX4_clears 14 rfl) flX4_441_4 (Or.inl rfl) rfl ka75 (by decide) (okI_int _) (wc_hp eh111 (wc_vret (pc := 26) (dAt dtX4_clears 15 rfl) rfl hm))))
  · replace hm := ite_t c105 hm
    obtain ⟨o106, o107, hm⟩ := hm
    obtain ⟨h108, eh108⟩ : ∃ h108 : Hp, h108 = sI h102 109 (Int.toNat x101) 0 := ⟨_, rfl⟩
    replace hm := hm h108 eh108
    obtain ⟨o109, hm⟩ := hm
    obtain ⟨i110, ei110⟩ : ∃ i110 : Int, i110 = (x101 + 1) := ⟨_, rfl⟩
    replace hm := hm i110 ei110
    exact wc_aload_n (pc := 8) (dAt dtX4_clears 5 rfl) rfl (wc_getKR hg (pc := 9) (dAt dtX4_clears 6 rfl) flX4_190_4 rfl ka75 kf75_57 (wc_iload_n (pc := 12) (dAt dtX4_clears 7 rfl) rfl (wc_iconst (pc := 13) (dAt dtX4_clears 8 rfl) ⟨by decide, by decide⟩ (wc_iastK hg (pc := 14) (dAt dtX4_clears 9 rfl) kr109 (by decide) o106 o107 (wc_hp eh108 (wc_iinc (v := i110) (pc := 15) (dAt dtX4_clears 10 rfl) rfl ei110 (ei110 ▸ o109) (by decide) (wc_L (L' := [some (vR 75), some (vI i110)]) rfl (wc_goto (pc := 18) (tgt := 2) (dAt dtX4_clears 11 rfl) (by decide) (ih104 _ _ hm)))))))))
def tX4_isNight : Mt := (⟨"FlyingDoctorsModel", "isNight", "(I)Z"⟩, prog_24_method_5_code, 1, (Option.some Jvm.ClassFile.FieldType.boolean), [])
def DX4_isNight : List (Nat × Instr × Nat) := [(0, .iload_n 0, 1), (1, .bipush 96, 2), (3, .irem, 1), (4, .bipush 24, 2), (6, .if_icmp .lt 12, 3), (9, .iload_n 0, 1), (10, .bipush 96, 2), (12, .irem, 1), (13, .bipush 72, 2), (15, .if_icmp .lt 7, 3), (18, .iconst 1, 1), (19, .goto 4, 3), (22, .iconst 0, 1), (23, .ireturn, 1)]
theorem dtX4_isNight : chkD (mB tX4_isNight) DX4_isNight = true := by decide +kernel
theorem moX4_isNight : MethOk tX4_isNight 1 := ⟨Or.inl ⟨rfl, q2686⟩, by decide +kernel, ⟨by decide, by decide⟩, by decide +kernel⟩
def vX4_isNight (x0 : Int) (h : Hp) : Int := (b2i (((Int.tmod x0 96) < 24) ∨ (¬ ((Int.tmod x0 96) < 72))))
theorem wX4_isNight {G : Gx} (hg : gF G = true) {d : Nat} {x0 : Int} {h : Hp} {Q : Rs → Hp → Prop} (hq : Q (rV (vI (vX4_isNight x0 h))) h) : Ct G tX4_isNight (d + 0) [vI x0] h Q := by
  refine ct_enter (L0 := [some (vI x0)]) rfl rfl ?_
  have k101 : (((Int.tmod x0 96) < 24) ∨ (¬ ((Int.tmod x0 96) < 72))) → Wc G tX4_isNight (d + 0) h Q 18 [some (vI x0)] [] h := fun c103 => by
    have z : Q (rV (vI 1)) h := by
      rw [show (vX4_isNight x0 h) = 1 from (b2i_t c103)] at hq
      exact hq
    exact wc_iconst (pc := 18) (dAt dtX4_isNight 10 rfl) ⟨by decide, by decide⟩ (wc_goto (pc := 19) (tgt := 23) (dAt dtX4_isNight 11 rfl) (by decide) (wc_iret (pc := 23) (dAt dtX4_isNight 13 rfl) rfl (nar_bool (Or.inr rfl)) z))
  have k102 : ¬ (((Int.tmod x0 96) < 24) ∨ (¬ ((Int.tmod x0 96) < 72))) → Wc G tX4_isNight (d + 0) h Q 22 [some (vI x0)] [] h := fun c103 => by
    have z : Q (rV (vI 0)) h := by
      rw [show (vX4_isNight x0 h) = 0 from (b2i_f c103)] at hq
      exact hq
    exact wc_iconst (pc := 22) (dAt dtX4_isNight 12 rfl) ⟨by decide, by decide⟩ (wc_iret (pc := 23) (dAt dtX4_isNight 13 rfl) rfl (nar_bool (Or.inl rfl)) z)
  exact wc_iload_n (pc := 0) (dAt dtX4_isNight 0 rfl) rfl (wc_bipush (pc := 1) (dAt dtX4_isNight 1 rfl) ⟨by decide, by decide, by decide⟩ (wc_irem (pc := 3) (dAt dtX4_isNight 2 rfl) (by decide) (wc_bipush (pc := 4) (dAt dtX4_isNight 3 rfl) ⟨by decide, by decide, by decide⟩ (wc_icmp_lt (pc := 6) (tgt := 18) (dAt dtX4_isNight 4 rfl) (by decide) (fun c104 => (k101 (Or.inl c104))) (fun c104 => wc_iload_n (pc := 9) (dAt dtX4_isNight 5 rfl) rfl (wc_bipush (pc := 10) (dAt dtX4_isNight 6 rfl) ⟨by decide, by decide, by decide⟩ (wc_irem (pc := 12) (dAt dtX4_isNight 7 rfl) (by decide) (wc_bipush (pc := 13) (dAt dtX4_isNight 8 rfl) ⟨by decide, by decide, by decide⟩ (wc_icmp_lt (pc := 15) (tgt := 22) (dAt dtX4_isNight 9 rfl) (by decide) (fun c105 => (k102 (fun z => z.elim c104 (fun z => z c105)))) (fun c105 => (k101 (Or.inr c105))))))))))))
theorem bX4_isNight (x0 : Int) (h : Hp) : (vX4_isNight x0 h) = 0 ∨ (vX4_isNight x0 h) = 1 := (bool_b2i _)
def tX4_place_2 : Mt := (⟨"FlyingDoctorsModel", "place", "(III)V"⟩, prog_24_method_57_code, 4, (Option.none : Option Jvm.ClassFile.FieldType), [])
def DX4_place_2 : List (Nat × Instr × Nat) := [(0, .aload_n 0, 1), (1, .invokevirtual 463, 3), (4, .aload_n 0, 1), (5, .getfield 190, 3), (8, .iconst 0, 1), (9, .aload_n 0, 1), (10, .iload_n 1, 1), (11, .iload_n 2, 1), (12, .bipush 96, 2), (14, .idiv, 1), (15, .iload_n 3, 1), (16, .invokevirtual 460, 3), (19, .iastore, 1), (20, .aload_n 0, 1), (21, .getfield 190, 3), (24, .iconst 1, 1), (25, .aload_n 0, 1), (26, .getfield 42, 3), (29, .iload_n 1, 1), (30, .iaload, 1), (31, .iastore, 1), (32, .aload_n 0, 1), (33, .getfield 190, 3), (36, .iconst 3, 1), (37, .aload_n 0, 1), (38, .getfield 35, 3), (41, .iload_n 1, 1), (42, .iaload, 1), (43, .iconst 1, 1), (44, .iand, 1), (45, .iastore, 1), (46, .aload_n 0, 1), (47, .getfield 190, 3), (50, .iconst 4, 1), (51, .iload_n 2, 1), (52, .invokestatic 466, 3), (55, .ifCond .eq 7, 3), (58, .iconst 1, 1), (59, .goto 4, 3), (62, .iconst 0, 1), (63, .iastore, 1), (64, .return_, 1)]
theorem dtX4_place_2 : chkD (mB tX4_place_2) DX4_place_2 = true := by decide +kernel
theorem moX4_place_2 : MethOk tX4_place_2 3 := ⟨Or.inl ⟨rfl, q2679⟩, by decide +kernel, ⟨by decide, by decide⟩, by decide +kernel⟩
def mX4_place_2 (x1 : Int) (x2 : Int) (x3 : Int) (h : Hp) (Q : Rs → Hp → Prop) : Prop := mX4_clears h (kN Q (fun h101 => mX4_wetOf x1 (Int.tdiv x2 96) x3 h101 (kI Q (fun x103 h102 => ∀ h104 : Hp, h104 = sI h102 109 0 x103 → 0 ≤ x1 ∧ x1 < 12 ∧ ∀ h107 : Hp, h107 = sI h104 109 1 (hI h104 78 (Int.toNat x1)) → ∀ h108 : Hp, h108 = sI h107 109 3 (iand (hI h107 79 (Int.toNat x1)) 1) → ∀ v109 : Int, v109 = (b2i (¬ ((vX4_isNight x2 h108) = 0))) → ∀ h110 : Hp, h110 = sI h108 109 4 v109 → Q rN h110))))
theorem wX4_place_2 {G : Gx} (hg : gF G = true) {d : Nat} {x1 : Int} {x2 : Int} {x3 : Int} {h : Hp} {Q : Rs → Hp → Prop} (hm : mX4_place_2 x1 x2 x3 h Q) : Ct G tX4_place_2 (d + 2) [vR 75, vI x1, vI x2, vI x3] h Q := by
  refine ct_enter (L0 := [some (vR 75), some (vI x1), some (vI x2), some (vI x3)]) rfl rfl ?_
  unfold mX4_place_2 at hm
  refine wc_aload_n (pc := 0) (dAt dtX4_place_2 0 rfl) rfl (wc_kf hg fun zk => wc_callV (k := 4) (y' := tX4_clears) (av := []) (st := []) (pc := 1) (dAt dtX4_place_2 1 rfl) lkX4_463 moX4_clears q2682 qs94 (by decide) (zk.2 _ ka75).1 rfl rfl (Nat.le_of_ble_eq_true rfl) (wX4_clears hg hm) (kr_N (fun h101 hm => ?_)) (kx_N rfl))
  refine wc_aload_n (pc := 4) (dAt dtX4_place_2 2 rfl) rfl (wc_getKR hg (pc := 5) (dAt dtX4_place_2 3 rfl) flX4_190_4 rfl ka75 kf75_57 (wc_iconst (pc := 8) (dAt dtX4_place_2 4 rfl) ⟨by decide, by decide⟩ (wc_aload_n (pc := 9) (dAt dtX4_place_2 5 rfl) rfl (wc_iload_n (pc := 10) (dAt dtX4_place_2 6 rfl) rfl (wc_iload_n (pc := 11) (dAt dtX4_place_2 7 rfl) rfl (wc_bipush (pc := 12) (dAt dtX4_place_2 8 rfl) ⟨by decide, by decide, by decide⟩ (wc_idiv (pc := 14) (dAt dtX4_place_2 9 rfl) (by decide) (wc_iload_n (pc := 15) (dAt dtX4_place_2 10 rfl) rfl (wc_kf hg fun zk => wc_callV (k := 4) (y' := tX4_wetOf) (av := [vI x1, vI (Int.tdiv x2 96), vI x3]) (st := [vI 0, vR 109]) (pc := 16) (dAt dtX4_place_2 11 rfl) lkX4_460 moX4_wetOf q2655 qs89 (by decide) (zk.2 _ ka75).1 rfl rfl (Nat.le_of_ble_eq_true rfl) (wX4_wetOf hg hm) (kr_I (fun x103 h102 hm => ?_)) (kx_I rfl))))))))))
  obtain ⟨h104, eh104⟩ : ∃ h104 : Hp, h104 = sI h102 109 0 x103 := ⟨_, rfl⟩
  replace hm := hm h104 eh104
  obtain ⟨o105, o106, hm⟩ := hm
  obtain ⟨h107, eh107⟩ : ∃ h107 : Hp, h107 = sI h104 109 1 (hI h104 78 (Int.toNat x1)) := ⟨_, rfl⟩
  replace hm := hm h107 eh107
  obtain ⟨h108, eh108⟩ : ∃ h108 : Hp, h108 = sI h107 109 3 (iand (hI h107 79 (Int.toNat x1)) 1) := ⟨_, rfl⟩
  replace hm := hm h108 eh108
  obtain ⟨v109, ev109⟩ : ∃ v109 : Int, v109 = (b2i (¬ ((vX4_isNight x2 h108) = 0))) := ⟨_, rfl⟩
  replace hm := hm v109 ev109
  refine wc_iastK hg (pc := 19) (dAt dtX4_place_2 12 rfl) kr109 (by decide) (by decide) (by decide) (wc_hp eh104 (wc_aload_n (pc := 20) (dAt dtX4_place_2 13 rfl) rfl (wc_getKR hg (pc := 21) (dAt dtX4_place_2 14 rfl) flX4_190_4 rfl ka75 kf75_57 (wc_iconst (pc := 24) (dAt dtX4_place_2 15 rfl) ⟨by decide, by decide⟩ (wc_aload_n (pc := 25) (dAt dtX4_place_2 16 rfl) rfl (wc_getKR hg (pc := 26) (dAt dtX4_place_2 17 rfl) flX4_42_4 rfl ka75 kf75_7 (wc_iload_n (pc := 29) (dAt dtX4_place_2 18 rfl) rfl (wc_ialdK hg (pc := 30) (dAt dtX4_place_2 19 rfl) kr78 o105 o106 (wc_iastK hg (pc := 31) (dAt dtX4_place_2 20 rfl) kr109 (by decide) (by decide) (by decide) (wc_hp eh107 (wc_aload_n (pc := 32) (dAt dtX4_place_2 21 rfl) rfl (wc_getKR hg (pc := 33) (dAt dtX4_place_2 22 rfl) flX4_190_4 rfl ka75 kf75_57 (wc_iconst (pc := 36) (dAt dtX4_place_2 23 rfl) ⟨by decide, by decide⟩ (wc_aload_n (pc := 37) (dAt dtX4_place_2 24 rfl) rfl (wc_getKR hg (pc := 38) (dAt dtX4_place_2 25 rfl) flX4_35_4 rfl ka75 kf75_8 (wc_iload_n (pc := 41) (dAt dtX4_place_2 26 rfl) rfl (wc_ialdK hg (pc := 42) (dAt dtX4_place_2 27 rfl) kr79 o105 o106 (wc_iconst (pc := 43) (dAt dtX4_place_2 28 rfl) ⟨by decide, by decide⟩ (wc_iand (pc := 44) (dAt dtX4_place_2 29 rfl) (wc_iastK hg (pc := 45) (dAt dtX4_place_2 30 rfl) kr109 (by decide) (by decide) (by decide) (wc_hp eh108 (wc_aload_n (pc := 46) (dAt dtX4_place_2 31 rfl) rfl (wc_getKR hg (pc := 47) (dAt dtX4_place_2 32 rfl) flX4_190_4 rfl ka75 kf75_57 (wc_iconst (pc := 50) (dAt dtX4_place_2 33 rfl) ⟨by decide, by decide⟩ (wc_iload_n (pc := 51) (dAt dtX4_place_2 34 rfl) rfl (wc_callS (y' := tX4_isNight) (P := eI (vX4_isNight x2 h108) h108) (pc := 52) (dAt dtX4_place_2 35 rfl) lkX4_466 moX4_isNight q2685 q134 rfl rfl (Nat.le_of_ble_eq_true rfl) (wX4_isNight hg ⟨rfl, rfl⟩) (ep_I (?_)) ex_I))))))))))))))))))))))))))
  have kj111 : Wc G tX4_place_2 (d + 2) h Q 63 [some (vR 75), none, none, none] [vI v109, vI 4, vR 109] h108 := by
    obtain ⟨h110, eh110⟩ : ∃ h110 : Hp, h110 = sI h108 109 4 v109 := ⟨_, rfl⟩
    replace hm := hm h110 eh110
    exact wc_iastK hg (pc := 63) (dAt dtX4_place_2 40 rfl) kr109 (by decide) (by decide) (by decide) (wc_hp eh110 (wc_vret (pc := 64) (dAt dtX4_place_2 41 rfl) rfl hm))
  have k112 : (¬ ((vX4_isNight x2 h108) = 0)) → Wc G tX4_place_2 (d + 2) h Q 58 [some (vR 75), some (vI x1), some (vI x2), some (vI x3)] [vI 4, vR 109] h108 := fun c114 => by
    have z115 := kj111
    rw [show v109 = 1 from ev109.trans (b2i_t c114)] at z115
    exact wc_iconst (pc := 58) (dAt dtX4_place_2 37 rfl) ⟨by decide, by decide⟩ (wc_goto (pc := 59) (tgt := 63) (dAt dtX4_place_2 38 rfl) (by decide) (wc_drp [1, 2, 3] rfl (z115)))
  have k113 : ¬ (¬ ((vX4_isNight x2 h108) = 0)) → Wc G tX4_place_2 (d + 2) h Q 62 [some (vR 75), some (vI x1), some (vI x2), some (vI x3)] [vI 4, vR 109] h108 := fun c114 => by
    have z117 := kj111
    rw [show v109 = 0 from ev109.trans (b2i_f c114)] at z117
    exact wc_iconst (pc := 62) (dAt dtX4_place_2 39 rfl) ⟨by decide, by decide⟩ (wc_drp [1, 2, 3] rfl (z117))
  exact wc_if_eq (pc := 55) (tgt := 62) (dAt dtX4_place_2 36 rfl) (by decide) (fun c119 => (k113 (fun z => z c119))) (fun c119 => (k112 c119))
def tX4_abs : Mt := (⟨"FlyingDoctorsModel", "abs", "(I)I"⟩, prog_24_method_6_code, 1, (Option.some Jvm.ClassFile.FieldType.int), [])
def DX4_abs : List (Nat × Instr × Nat) := [(0, .iload_n 0, 1), (1, .ifCond .ge 8, 3), (4, .iload_n 0, 1), (5, .ineg, 1), (6, .goto 4, 3), (9, .iload_n 0, 1), (10, .ireturn, 1)]
theorem dtX4_abs : chkD (mB tX4_abs) DX4_abs = true := by decide +kernel
theorem moX4_abs : MethOk tX4_abs 1 := ⟨Or.inl ⟨rfl, q2693⟩, by decide +kernel, ⟨by decide, by decide⟩, by decide +kernel⟩
def vX4_abs (x0 : Int) (h : Hp) : Int := (if ¬ (0 ≤ x0) then (- x0) else x0)
def oX4_abs (x0 : Int) (h : Hp) : Prop := ((¬ (0 ≤ x0)) → nm (- x0))
theorem wX4_abs {G : Gx} (hg : gF G = true) {d : Nat} {x0 : Int} {h : Hp} {Q : Rs → Hp → Prop} (hm : oX4_abs x0 h) (hq : Q (rV (vI (vX4_abs x0 h))) h) : Ct G tX4_abs (d + 0) [vI x0] h Q := by
  refine ct_enter (L0 := [some (vI x0)]) rfl rfl ?_
  have p102 := hm
  have k103 : (¬ (0 ≤ x0)) → Wc G tX4_abs (d + 0) h Q 4 [some (vI x0)] [] h := fun c105 => by
    have o101 := (p102 c105)
    have z : Q (rV (vI (- x0))) h := by
      rw [show (vX4_abs x0 h) = (- x0) from (if_pos c105)] at hq
      exact hq
    exact wc_iload_n (pc := 4) (dAt dtX4_abs 2 rfl) rfl (wc_ineg (pc := 5) (dAt dtX4_abs 3 rfl) o101 (wc_goto (pc := 6) (tgt := 10) (dAt dtX4_abs 4 rfl) (by decide) (wc_iret (pc := 10) (dAt dtX4_abs 6 rfl) rfl (nar_int _) z)))
  have k104 : ¬ (¬ (0 ≤ x0)) → Wc G tX4_abs (d + 0) h Q 9 [some (vI x0)] [] h := fun c105 => by
    have z : Q (rV (vI x0)) h := by
      rw [show (vX4_abs x0 h) = x0 from (if_neg c105)] at hq
      exact hq
    exact wc_iload_n (pc := 9) (dAt dtX4_abs 5 rfl) rfl (wc_iret (pc := 10) (dAt dtX4_abs 6 rfl) rfl (nar_int _) z)
  exact wc_iload_n (pc := 0) (dAt dtX4_abs 0 rfl) rfl (wc_if_ge (pc := 1) (tgt := 9) (dAt dtX4_abs 1 rfl) (by decide) (fun c106 => (k104 (fun z => z c106))) (fun c106 => (k103 c106)))
def tX4_miles : Mt := (⟨"FlyingDoctorsModel", "miles", "(II)I"⟩, prog_24_method_7_code, 3, (Option.some Jvm.ClassFile.FieldType.int), [])
def DX4_miles : List (Nat × Instr × Nat) := [(0, .iconst 4, 1), (1, .aload_n 0, 1), (2, .getfield 17, 3), (5, .iload_n 1, 1), (6, .iaload, 1), (7, .aload_n 0, 1), (8, .getfield 17, 3), (11, .iload_n 2, 1), (12, .iaload, 1), (13, .isub, 1), (14, .invokestatic 21, 3), (17, .aload_n 0, 1), (18, .getfield 25, 3), (21, .iload_n 1, 1), (22, .iaload, 1), (23, .aload_n 0, 1), (24, .getfield 25, 3), (27, .iload_n 2, 1), (28, .iaload, 1), (29, .isub, 1), (30, .invokestatic 21, 3), (33, .iadd, 1), (34, .imul, 1), (35, .ireturn, 1)]
theorem dtX4_miles : chkD (mB tX4_miles) DX4_miles = true := by decide +kernel
theorem moX4_miles : MethOk tX4_miles 2 := ⟨Or.inl ⟨rfl, q2690⟩, by decide +kernel, ⟨by decide, by decide⟩, by decide +kernel⟩
def vX4_miles (x1 : Int) (x2 : Int) (h : Hp) : Int := (4 * ((vX4_abs ((hI h 76 (Int.toNat x1)) - (hI h 76 (Int.toNat x2))) h) + (vX4_abs ((hI h 77 (Int.toNat x1)) - (hI h 77 (Int.toNat x2))) h)))
def oX4_miles (x1 : Int) (x2 : Int) (h : Hp) : Prop := 0 ≤ x1 ∧ x1 < 12 ∧ 0 ≤ x2 ∧ x2 < 12 ∧ nm ((hI h 76 (Int.toNat x1)) - (hI h 76 (Int.toNat x2))) ∧ oX4_abs ((hI h 76 (Int.toNat x1)) - (hI h 76 (Int.toNat x2))) h ∧ nm ((hI h 77 (Int.toNat x1)) - (hI h 77 (Int.toNat x2))) ∧ oX4_abs ((hI h 77 (Int.toNat x1)) - (hI h 77 (Int.toNat x2))) h ∧ nm ((vX4_abs ((hI h 76 (Int.toNat x1)) - (hI h 76 (Int.toNat x2))) h) + (vX4_abs ((hI h 77 (Int.toNat x1)) - (hI h 77 (Int.toNat x2))) h)) ∧ nm (4 * ((vX4_abs ((hI h 76 (Int.toNat x1)) - (hI h 76 (Int.toNat x2))) h) + (vX4_abs ((hI h 77 (Int.toNat x1)) - (hI h 77 (Int.toNat x2))) h)))
theorem wX4_miles {G : Gx} (hg : gF G = true) {d : Nat} {x1 : Int} {x2 : Int} {h : Hp} {Q : Rs → Hp → Prop} (hm : oX4_miles x1 x2 h) (hq : Q (rV (vI (vX4_miles x1 x2 h))) h) : Ct G tX4_miles (d + 1) [vR 75, vI x1, vI x2] h Q := by
  refine ct_enter (L0 := [some (vR 75), some (vI x1), some (vI x2)]) rfl rfl ?_
  obtain ⟨o101, o102, o103, o104, o105, o106, o107, o108, o109, o110⟩ := hm
  have z : Q (rV (vI (4 * ((vX4_abs ((hI h 76 (Int.toNat x1)) - (hI h 76 (Int.toNat x2))) h) + (vX4_abs ((hI h 77 (Int.toNat x1)) - (hI h 77 (Int.toNat x2))) h))))) h := by
    rw [show (vX4_miles x1 x2 h) = (4 * ((vX4_abs ((hI h 76 (Int.toNat x1)) - (hI h 76 (Int.toNat x2))) h) + (vX4_abs ((hI h 77 (Int.toNat x1)) - (hI h 77 (Int.toNat x2))) h))) from rfl] at hq
    exact hq
  exact wc_iconst (pc := 0) (dAt dtX4_miles 0 rfl) ⟨by decide, by decide⟩ (wc_aload_n (pc := 1) (dAt dtX4_miles 1 rfl) rfl (wc_getKR hg (pc := 2) (dAt dtX4_miles 2 rfl) flX4_17_4 rfl ka75 kf75_5 (wc_iload_n (pc := 5) (dAt dtX4_miles 3 rfl) rfl (wc_ialdK hg (pc := 6) (dAt dtX4_miles 4 rfl) kr76 o101 o102 (wc_aload_n (pc := 7) (dAt dtX4_miles 5 rfl) rfl (wc_getKR hg (pc := 8) (dAt dtX4_miles 6 rfl) flX4_17_4 rfl ka75 kf75_5 (wc_iload_n (pc := 11) (dAt dtX4_miles 7 rfl) rfl (wc_ialdK hg (pc := 12) (dAt dtX4_miles 8 rfl) kr76 o103 o104 (wc_isub (pc := 13) (dAt dtX4_miles 9 rfl) o105 (wc_callS (y' := tX4_abs) (P := eI (vX4_abs ((hI h 76 (Int.toNat x1)) - (hI h 76 (Int.toNat x2))) h) h) (pc := 14) (dAt dtX4_miles 10 rfl) lkX4_21 moX4_abs q2692 q134 rfl rfl (Nat.le_of_ble_eq_true rfl) (wX4_abs hg o106 ⟨rfl, rfl⟩) (ep_I (wc_aload_n (pc := 17) (dAt dtX4_miles 11 rfl) rfl (wc_getKR hg (pc := 18) (dAt dtX4_miles 12 rfl) flX4_25_4 rfl ka75 kf75_6 (wc_iload_n (pc := 21) (dAt dtX4_miles 13 rfl) rfl (wc_ialdK hg (pc := 22) (dAt dtX4_miles 14 rfl) kr77 o101 o102 (wc_aload_n (pc := 23) (dAt dtX4_miles 15 rfl) rfl (wc_getKR hg (pc := 24) (dAt dtX4_miles 16 rfl) flX4_25_4 rfl ka75 kf75_6 (wc_iload_n (pc := 27) (dAt dtX4_miles 17 rfl) rfl (wc_ialdK hg (pc := 28) (dAt dtX4_miles 18 rfl) kr77 o103 o104 (wc_isub (pc := 29) (dAt dtX4_miles 19 rfl) o107 (wc_callS (y' := tX4_abs) (P := eI (vX4_abs ((hI h 77 (Int.toNat x1)) - (hI h 77 (Int.toNat x2))) h) h) (pc := 30) (dAt dtX4_miles 20 rfl) lkX4_21 moX4_abs q2692 q134 rfl rfl (Nat.le_of_ble_eq_true rfl) (wX4_abs hg o108 ⟨rfl, rfl⟩) (ep_I (wc_iadd (pc := 33) (dAt dtX4_miles 21 rfl) o109 (wc_imul (pc := 34) (dAt dtX4_miles 22 rfl) o110 (wc_iret (pc := 35) (dAt dtX4_miles 23 rfl) rfl (nar_int _) z)))) ex_I))))))))))) ex_I))))))))))
def tX4_works : Mt := (⟨"FlyingDoctorsModel", "works", "(III)I"⟩, prog_24_method_49_code, 3, (Option.some Jvm.ClassFile.FieldType.int), [])
def DX4_works : List (Nat × Instr × Nat) := [(0, .iload_n 0, 1), (1, .tableswitch 105 6 12 #[43, 57, 71, 82, 93, 97, 101], 43), (44, .iload_n 1, 1), (45, .ifCond .eq 11, 3), (48, .iload_n 2, 1), (49, .ifCond .eq 7, 3), (52, .iconst 1, 1), (53, .goto 4, 3), (56, .iconst 0, 1), (57, .ireturn, 1), (58, .iload_n 1, 1), (59, .ifCond .ne 7, 3), (62, .iload_n 2, 1), (63, .ifCond .eq 7, 3), (66, .iconst 1, 1), (67, .goto 4, 3), (70, .iconst 0, 1), (71, .ireturn, 1), (72, .iload_n 1, 1), (73, .iload_n 2, 1), (74, .if_icmp .ge 7, 3), (77, .iconst 1, 1), (78, .goto 4, 3), (81, .iconst 0, 1), (82, .ireturn, 1), (83, .iload_n 1, 1), (84, .iload_n 2, 1), (85, .if_icmp .ne 7, 3), (88, .iconst 1, 1), (89, .goto 4, 3), (92, .iconst 0, 1), (93, .ireturn, 1), (94, .iload_n 1, 1), (95, .iload_n 2, 1), (96, .iadd, 1), (97, .ireturn, 1), (98, .iload_n 1, 1), (99, .iload_n 2, 1), (100, .isub, 1), (101, .ireturn, 1), (102, .iload_n 1, 1), (103, .iload_n 2, 1), (104, .imul, 1), (105, .ireturn, 1), (106, .iload_n 2, 1), (107, .ifCond .ne 7, 3), (110, .iconst 0, 1), (111, .goto 6, 3), (114, .iload_n 1, 1), (115, .iload_n 2, 1), (116, .idiv, 1), (117, .ireturn, 1)]
theorem dtX4_works : chkD (mB tX4_works) DX4_works = true := by decide +kernel
theorem moX4_works : MethOk tX4_works 3 := ⟨Or.inl ⟨rfl, q2700⟩, by decide +kernel, ⟨by decide, by decide⟩, by decide +kernel⟩
def mX4_works (x0 : Int) (x1 : Int) (x2 : Int) (h : Hp) (Q : Rs → Hp → Prop) : Prop := if x0 = 6 then ∀ v102 : Int, v102 = (b2i (¬ (x1 = 0) ∧ (¬ (x2 = 0)))) → Q (rV (vI v102)) h else if x0 = 7 then ∀ v114 : Int, v114 = (b2i ((x1 ≠ 0) ∨ (¬ (x2 = 0)))) → Q (rV (vI v114)) h else if x0 = 8 then ∀ v126 : Int, v126 = (b2i (¬ (x2 ≤ x1))) → Q (rV (vI v126)) h else if x0 = 9 then ∀ v137 : Int, v137 = (b2i (¬ (x1 ≠ x2))) → Q (rV (vI v137)) h else if x0 = 10 then Q (rV (vI (wr (x1 + x2)))) h else if x0 = 11 then Q (rV (vI (wr (x1 - x2)))) h else if x0 = 12 then Q (rV (vI (wr (x1 * x2)))) h else ((¬ (¬ (x2 ≠ 0)) → x2 ≠ 0)) ∧ ∀ v152 : Int, v152 = (if ¬ (x2 ≠ 0) then 0 else (wr (Int.tdiv x1 x2))) → Q (rV (vI v152)) h
theorem wX4_works {G : Gx} (hg : gF G = true) {d : Nat} {x0 : Int} {x1 : Int} {x2 : Int} {h : Hp} {Q : Rs → Hp → Prop} (hm : mX4_works x0 x1 x2 h Q) : Ct G tX4_works (d + 0) [vI x0, vI x1, vI x2] h Q := by
  refine ct_enter (L0 := [some (vI x0), some (vI x1), some (vI x2)]) rfl rfl ?_
  unfold mX4_works at hm
  refine wc_iload_n (pc := 0) (dAt dtX4_works 0 rfl) rfl (?_)
  by_cases c101 : x0 = 6
  · replace hm := ite_t c101 hm
    refine wc_tableIn (pc := 1) (tgt := 44) (dAt dtX4_works 1 rfl) (by omega) (by omega) (by rw [c101]; rfl) (by decide) ?_
    obtain ⟨v102, ev102⟩ : ∃ v102 : Int, v102 = (b2i (¬ (x1 = 0) ∧ (¬ (x2 = 0)))) := ⟨_, rfl⟩
    replace hm := hm v102 ev102
    refine wc_iload_n (pc := 44) (dAt dtX4_works 2 rfl) rfl (?_)
    have kj103 : Wc G tX4_works (d + 0) h Q 57 [none, none, none] [vI v102] h := by
      exact wc_iret (pc := 57) (dAt dtX4_works 9 rfl) rfl (nar_int _) hm
    have k104 : (¬ (x1 = 0) ∧ (¬ (x2 = 0))) → Wc G tX4_works (d + 0) h Q 52 [some (vI x0), some (vI x1), some (vI x2)] [] h := fun c106 => by
      have z107 := kj103
      rw [show v102 = 1 from ev102.trans (b2i_t c106)] at z107
      exact wc_iconst (pc := 52) (dAt dtX4_works 6 rfl) ⟨by decide, by decide⟩ (wc_goto (pc := 53) (tgt := 57) (dAt dtX4_works 7 rfl) (by decide) (wc_drp [0, 1, 2] rfl (z107)))
    have k105 : ¬ (¬ (x1 = 0) ∧ (¬ (x2 = 0))) → Wc G tX4_works (d + 0) h Q 56 [some (vI x0), some (vI x1), some (vI x2)] [] h := fun c106 => by
      have z109 := kj103
      rw [show v102 = 0 from ev102.trans (b2i_f c106)] at z109
      exact wc_iconst (pc := 56) (dAt dtX4_works 8 rfl) ⟨by decide, by decide⟩ (wc_drp [0, 1, 2] rfl (z109))
    exact wc_if_eq (pc := 45) (tgt := 56) (dAt dtX4_works 3 rfl) (by decide) (fun c111 => (k105 (fun z => z.1 c111))) (fun c111 => wc_iload_n (pc := 48) (dAt dtX4_works 4 rfl) rfl (wc_if_eq (pc := 49) (tgt := 56) (dAt dtX4_works 5 rfl) (by decide) (fun c112 => (k105 (fun z => (fun z => z c112) z.2))) (fun c112 => (k104 ⟨c111, c112⟩))))
  replace hm := ite_f c101 hm
  by_cases c113 : x0 = 7
  · replace hm := ite_t c113 hm
    refine wc_tableIn (pc := 1) (tgt := 58) (dAt dtX4_works 1 rfl) (by omega) (by omega) (by rw [c113]; rfl) (by decide) ?_
    obtain ⟨v114, ev114⟩ : ∃ v114 : Int, v114 = (b2i ((x1 ≠ 0) ∨ (¬ (x2 = 0)))) := ⟨_, rfl⟩
    replace hm := hm v114 ev114
    refine wc_iload_n (pc := 58) (dAt dtX4_works 10 rfl) rfl (?_)
    have kj115 : Wc G tX4_works (d + 0) h Q 71 [none, none, none] [vI v114] h := by
      exact wc_iret (pc := 71) (dAt dtX4_works 17 rfl) rfl (nar_int _) hm
    have k116 : ((x1 ≠ 0) ∨ (¬ (x2 = 0))) → Wc G tX4_works (d + 0) h Q 66 [some (vI x0), some (vI x1), some (vI x2)] [] h := fun c118 => by
      have z119 := kj115
      rw [show v114 = 1 from ev114.trans (b2i_t c118)] at z119
      exact wc_iconst (pc := 66) (dAt dtX4_works 14 rfl) ⟨by decide, by decide⟩ (wc_goto (pc := 67) (tgt := 71) (dAt dtX4_works 15 rfl) (by decide) (wc_drp [0, 1, 2] rfl (z119)))
    have k117 : ¬ ((x1 ≠ 0) ∨ (¬ (x2 = 0))) → Wc G tX4_works (d + 0) h Q 70 [some (vI x0), some (vI x1), some (vI x2)] [] h := fun c118 => by
      have z121 := kj115
      rw [show v114 = 0 from ev114.trans (b2i_f c118)] at z121
      exact wc_iconst (pc := 70) (dAt dtX4_works 16 rfl) ⟨by decide, by decide⟩ (wc_drp [0, 1, 2] rfl (z121))
    exact wc_if_ne (pc := 59) (tgt := 66) (dAt dtX4_works 11 rfl) (by decide) (fun c123 => (k116 (Or.inl c123))) (fun c123 => wc_iload_n (pc := 62) (dAt dtX4_works 12 rfl) rfl (wc_if_eq (pc := 63) (tgt := 70) (dAt dtX4_works 13 rfl) (by decide) (fun c124 => (k117 (fun z => z.elim c123 (fun z => z c124)))) (fun c124 => (k116 (Or.inr c124)))))
  replace hm := ite_f c113 hm
  by_cases c125 : x0 = 8
  · replace hm := ite_t c125 hm
    refine wc_tableIn (pc := 1) (tgt := 72) (dAt dtX4_works 1 rfl) (by omega) (by omega) (by rw [c125]; rfl) (by decide) ?_
    obtain ⟨v126, ev126⟩ : ∃ v126 : Int, v126 = (b2i (¬ (x2 ≤ x1))) := ⟨_, rfl⟩
    replace hm := hm v126 ev126
    refine wc_iload_n (pc := 72) (dAt dtX4_works 18 rfl) rfl (wc_iload_n (pc := 73) (dAt dtX4_works 19 rfl) rfl (?_))
    have kj127 : Wc G tX4_works (d + 0) h Q 82 [none, none, none] [vI v126] h := by
      exact wc_iret (pc := 82) (dAt dtX4_works 24 rfl) rfl (nar_int _) hm
    have k128 : (¬ (x2 ≤ x1)) → Wc G tX4_works (d + 0) h Q 77 [some (vI x0), some (vI x1), some (vI x2)] [] h := fun c130 => by
      have z131 := kj127
      rw [show v126 = 1 from ev126.trans (b2i_t c130)] at z131
      exact wc_iconst (pc := 77) (dAt dtX4_works 21 rfl) ⟨by decide, by decide⟩ (wc_goto (pc := 78) (tgt := 82) (dAt dtX4_works 22 rfl) (by decide) (wc_drp [0, 1, 2] rfl (z131)))
    have k129 : ¬ (¬ (x2 ≤ x1)) → Wc G tX4_works (d + 0) h Q 81 [some (vI x0), some (vI x1), some (vI x2)] [] h := fun c130 => by
      have z133 := kj127
      rw [show v126 = 0 from ev126.trans (b2i_f c130)] at z133
      exact wc_iconst (pc := 81) (dAt dtX4_works 23 rfl) ⟨by decide, by decide⟩ (wc_drp [0, 1, 2] rfl (z133))
    exact wc_icmp_ge (pc := 74) (tgt := 81) (dAt dtX4_works 20 rfl) (by decide) (fun c135 => (k129 (fun z => z c135))) (fun c135 => (k128 c135))
  replace hm := ite_f c125 hm
  by_cases c136 : x0 = 9
  · replace hm := ite_t c136 hm
    refine wc_tableIn (pc := 1) (tgt := 83) (dAt dtX4_works 1 rfl) (by omega) (by omega) (by rw [c136]; rfl) (by decide) ?_
    obtain ⟨v137, ev137⟩ : ∃ v137 : Int, v137 = (b2i (¬ (x1 ≠ x2))) := ⟨_, rfl⟩
    replace hm := hm v137 ev137
    refine wc_iload_n (pc := 83) (dAt dtX4_works 25 rfl) rfl (wc_iload_n (pc := 84) (dAt dtX4_works 26 rfl) rfl (?_))
    have kj138 : Wc G tX4_works (d + 0) h Q 93 [none, none, none] [vI v137] h := by
      exact wc_iret (pc := 93) (dAt dtX4_works 31 rfl) rfl (nar_int _) hm
    have k139 : (¬ (x1 ≠ x2)) → Wc G tX4_works (d + 0) h Q 88 [some (vI x0), some (vI x1), some (vI x2)] [] h := fun c141 => by
      have z142 := kj138
      rw [show v137 = 1 from ev137.trans (b2i_t c141)] at z142
      exact wc_iconst (pc := 88) (dAt dtX4_works 28 rfl) ⟨by decide, by decide⟩ (wc_goto (pc := 89) (tgt := 93) (dAt dtX4_works 29 rfl) (by decide) (wc_drp [0, 1, 2] rfl (z142)))
    have k140 : ¬ (¬ (x1 ≠ x2)) → Wc G tX4_works (d + 0) h Q 92 [some (vI x0), some (vI x1), some (vI x2)] [] h := fun c141 => by
      have z144 := kj138
      rw [show v137 = 0 from ev137.trans (b2i_f c141)] at z144
      exact wc_iconst (pc := 92) (dAt dtX4_works 30 rfl) ⟨by decide, by decide⟩ (wc_drp [0, 1, 2] rfl (z144))
    exact wc_icmp_ne (pc := 85) (tgt := 92) (dAt dtX4_works 27 rfl) (by decide) (fun c146 => (k140 (fun z => z c146))) (fun c146 => (k139 c146))
  replace hm := ite_f c136 hm
  by_cases c147 : x0 = 10
  · replace hm := ite_t c147 hm
    refine wc_tableIn (pc := 1) (tgt := 94) (dAt dtX4_works 1 rfl) (by omega) (by omega) (by rw [c147]; rfl) (by decide) ?_
    exact wc_iload_n (pc := 94) (dAt dtX4_works 32 rfl) rfl (wc_iload_n (pc := 95) (dAt dtX4_works 33 rfl) rfl (wc_iaddW (pc := 96) (dAt dtX4_works 34 rfl) (wc_iret (pc := 97) (dAt dtX4_works 35 rfl) rfl (nar_int _) hm)))
  replace hm := ite_f c147 hm
  by_cases c148 : x0 = 11
  · replace hm := ite_t c148 hm
    refine wc_tableIn (pc := 1) (tgt := 98) (dAt dtX4_works 1 rfl) (by omega) (by omega) (by rw [c148]; rfl) (by decide) ?_
    exact wc_iload_n (pc := 98) (dAt dtX4_works 36 rfl) rfl (wc_iload_n (pc := 99) (dAt dtX4_works 37 rfl) rfl (wc_isubW (pc := 100) (dAt dtX4_works 38 rfl) (wc_iret (pc := 101) (dAt dtX4_works 39 rfl) rfl (nar_int _) hm)))
  replace hm := ite_f c148 hm
  by_cases c149 : x0 = 12
  · replace hm := ite_t c149 hm
    refine wc_tableIn (pc := 1) (tgt := 102) (dAt dtX4_works 1 rfl) (by omega) (by omega) (by rw [c149]; rfl) (by decide) ?_
    exact wc_iload_n (pc := 102) (dAt dtX4_works 40 rfl) rfl (wc_iload_n (pc := 103) (dAt dtX4_works 41 rfl) rfl (wc_imulW (pc := 104) (dAt dtX4_works 42 rfl) (wc_iret (pc := 105) (dAt dtX4_works 43 rfl) rfl (nar_int _) hm)))
  replace hm := ite_f c149 hm
  refine wc_tableOut (pc := 1) (tgt := 106) (dAt dtX4_works 1 rfl) (by omega) (by decide) ?_
  obtain ⟨o151, hm⟩ := hm
  obtain ⟨v152, ev152⟩ : ∃ v152 : Int, v152 = (if ¬ (x2 ≠ 0) then 0 else (wr (Int.tdiv x1 x2))) := ⟨_, rfl⟩
  replace hm := hm v152 ev152
  refine wc_iload_n (pc := 106) (dAt dtX4_works 44 rfl) rfl (?_)
  have kj153 : Wc G tX4_works (d + 0) h Q 117 [none, none, none] [vI v152] h := by
    exact wc_iret (pc := 117) (dAt dtX4_works 51 rfl) rfl (nar_int _) hm
  have p154 := o151
  have k155 : (¬ (x2 ≠ 0)) → Wc G tX4_works (d + 0) h Q 110 [some (vI x0), some (vI x1), some (vI x2)] [] h := fun c157 => by
    have z158 := kj153
    rw [show v152 = 0 from ev152.trans (if_pos c157)] at z158
    exact wc_iconst (pc := 110) (dAt dtX4_works 46 rfl) ⟨by decide, by decide⟩ (wc_goto (pc := 111) (tgt := 117) (dAt dtX4_works 47 rfl) (by decide) (wc_drp [0, 1, 2] rfl (z158)))
  have k156 : ¬ (¬ (x2 ≠ 0)) → Wc G tX4_works (d + 0) h Q 114 [some (vI x0), some (vI x1), some (vI x2)] [] h := fun c157 => by
    have o150 := (p154 c157)
    have z160 := kj153
    rw [show v152 = (wr (Int.tdiv x1 x2)) from ev152.trans (if_neg c157)] at z160
    exact wc_iload_n (pc := 114) (dAt dtX4_works 48 rfl) rfl (wc_iload_n (pc := 115) (dAt dtX4_works 49 rfl) rfl (wc_idivW (pc := 116) (dAt dtX4_works 50 rfl) o150 (wc_drp [0, 1, 2] rfl (z160))))
  exact wc_if_ne (pc := 107) (tgt := 114) (dAt dtX4_works 45 rfl) (by decide) (fun c162 => (k156 (fun z => z c162))) (fun c162 => (k155 c162))
def tX4_worth : Mt := (⟨"FlyingDoctorsModel", "worth", "(II)I"⟩, prog_24_method_50_code, 7, (Option.some Jvm.ClassFile.FieldType.int), [])
def DX4_worth : List (Nat × Instr × Nat) := [(0, .iconst 0, 1), (1, .istore_n 3, 1), (2, .iload_n 2, 1), (3, .istore 4, 2), (5, .aload_n 0, 1), (6, .getfield 180, 3), (9, .iload 4, 2), (11, .iaload, 1), (12, .ifCond .eq 169, 3), (15, .aload_n 0, 1), (16, .getfield 180, 3), (19, .iload 4, 2), (21, .iaload, 1), (22, .istore 5, 2), (24, .iinc 4 1, 3), (27, .iload 5, 2), (29, .iconst 1, 1), (30, .if_icmp .lt 85, 3), (33, .iload 5, 2), (35, .iconst 4, 1), (36, .if_icmp .gt 79, 3), (39, .aload_n 0, 1), (40, .getfield 180, 3), (43, .iload 4, 2), (45, .iaload, 1), (46, .istore 6, 2), (48, .iinc 4 1, 3), (51, .aload_n 0, 1), (52, .getfield 193, 3), (55, .iload_n 3, 1), (56, .iload 5, 2), (58, .iconst 1, 1), (59, .if_icmp .ne 8, 3), (62, .iload 6, 2), (64, .goto 44, 3), (67, .iload 5, 2), (69, .iconst 2, 1), (70, .if_icmp .ne 13, 3), (73, .aload_n 0, 1), (74, .getfield 190, 3), (77, .iload 6, 2), (79, .iaload, 1), (80, .goto 28, 3), (83, .iload 5, 2), (85, .iconst 3, 1), (86, .if_icmp .ne 13, 3), (89, .aload_n 0, 1), (90, .iload_n 1, 1), (91, .iload 6, 2), (93, .invokevirtual 438, 3), (96, .goto 12, 3), (99, .aload_n 0, 1), (100, .getfield 441, 3), (103, .iload 6, 2), (105, .ishr, 1), (106, .iconst 1, 1), (107, .iand, 1), (108, .iastore, 1), (109, .iinc 3 1, 3), (112, .goto 66, 3), (115, .iload 5, 2), (117, .iconst 5, 1), (118, .if_icmp .ne 30, 3), (121, .aload_n 0, 1), (122, .getfield 193, 3), (125, .iload_n 3, 1), (126, .iconst 1, 1), (127, .isub, 1), (128, .aload_n 0, 1), (129, .getfield 193, 3), (132, .iload_n 3, 1), (133, .iconst 1, 1), (134, .isub, 1), (135, .iaload, 1), (136, .ifCond .ne 7, 3), (139, .iconst 1, 1), (140, .goto 4, 3), (143, .iconst 0, 1), (144, .iastore, 1), (145, .goto 33, 3), (148, .iinc 3 (-1), 3), (151, .aload_n 0, 1), (152, .getfield 193, 3), (155, .iload_n 3, 1), (156, .iconst 1, 1), (157, .isub, 1), (158, .iload 5, 2), (160, .aload_n 0, 1), (161, .getfield 193, 3), (164, .iload_n 3, 1), (165, .iconst 1, 1), (166, .isub, 1), (167, .iaload, 1), (168, .aload_n 0, 1), (169, .getfield 193, 3), (172, .iload_n 3, 1), (173, .iaload, 1), (174, .invokestatic 444, 3), (177, .iastore, 1), (178, .goto (-173), 3), (181, .aload_n 0, 1), (182, .getfield 193, 3), (185, .iconst 0, 1), (186, .iaload, 1), (187, .ireturn, 1)]
theorem dtX4_worth : chkD (mB tX4_worth) DX4_worth = true := by decide +kernel
theorem moX4_worth : MethOk tX4_worth 2 := ⟨Or.inl ⟨rfl, q2697⟩, by decide +kernel, ⟨by decide, by decide⟩, by decide +kernel⟩
def mX4_worth (x1 : Int) (x2 : Int) (h : Hp) (Q : Rs → Hp → Prop) : Prop := wh3 (fun (C104 : Int → Int → Hp → Prop) (x101 : Int) (x102 : Int) (h103 : Hp) => 0 ≤ x102 ∧ x102 < 22000 ∧ if ¬ ((hI h103 106 (Int.toNat x102)) = 0) then ∀ v109 : Int, v109 = (hI h103 106 (Int.toNat x102)) → nm (x102 + 1) ∧ ∀ i111 : Int, i111 = (x102 + 1) → if ¬ (v109 < 1) ∧ (¬ (4 < v109)) then 0 ≤ i111 ∧ i111 < 22000 ∧ ∀ v115 : Int, v115 = (hI h103 106 (Int.toNat i111)) → nm (i111 + 1) ∧ ∀ i117 : Int, i117 = (i111 + 1) → ((¬ (¬ (v109 ≠ 1)) → ((¬ (v109 ≠ 2)) → 0 ≤ v115 ∧ v115 < 10) ∧ (¬ (¬ (v109 ≠ 2)) → ((¬ (v109 ≠ 3)) → oX4_paramOf x1 v115 h103)))) ∧ ∀ v122 : Int, v122 = (if ¬ (v109 ≠ 1) then v115 else (if ¬ (v109 ≠ 2) then (hI h103 109 (Int.toNat v115)) else (if ¬ (v109 ≠ 3) then (vX4_paramOf x1 v115 h103) else (iand (ishr (hI h103 75 59) v115) 1)))) → 0 ≤ x101 ∧ x101 < 820 ∧ ∀ h125 : Hp, h125 = sI h103 110 (Int.toNat x101) v122 → nm (x101 + 1) ∧ ∀ i127 : Int, i127 = (x101 + 1) → C104 i127 i117 h125 else if ¬ (v109 ≠ 5) then nm (x101 - 1) ∧ 0 ≤ (x101 - 1) ∧ (x101 - 1) < 820 ∧ ∀ v157 : Int, v157 = (b2i (¬ ((hI h103 110 (Int.toNat (x101 - 1))) ≠ 0))) → ∀ h158 : Hp, h158 = sI h103 110 (Int.toNat (x101 - 1)) v157 → C104 x101 i111 h158 else nm (x101 + (-1)) ∧ ∀ i169 : Int, i169 = (x101 + (-1)) → nm (i169 - 1) ∧ 0 ≤ (i169 - 1) ∧ (i169 - 1) < 820 ∧ 0 ≤ i169 ∧ i169 < 820 ∧ mX4_works v109 (hI h103 110 (Int.toNat (i169 - 1))) (hI h103 110 (Int.toNat i169)) h103 (kI Q (fun x176 h175 => ∀ h177 : Hp, h177 = sI h175 110 (Int.toNat (i169 - 1)) x176 → C104 i169 i111 h177)) else Q (rV (vI (hI h103 110 0))) h103) 0 x2 h
theorem wX4_worth {G : Gx} (hg : gF G = true) {d : Nat} {x1 : Int} {x2 : Int} {h : Hp} {Q : Rs → Hp → Prop} (hm : mX4_worth x1 x2 h Q) : Ct G tX4_worth (d + 1) [vR 75, vI x1, vI x2] h Q := by
  refine ct_enter (L0 := [some (vR 75), some (vI x1), some (vI x2), none, none, none, none]) rfl rfl ?_
  unfold mX4_worth at hm
  refine wc_iconst (pc := 0) (dAt dtX4_worth 0 rfl) ⟨by decide, by decide⟩ (wc_istore_n (pc := 1) (dAt dtX4_worth 1 rfl) (by decide) (wc_L (L' := [some (vR 75), some (vI x1), some (vI x2), some (vI 0), none, none, none]) rfl (wc_iload_n (pc := 2) (dAt dtX4_worth 2 rfl) rfl (wc_istore (pc := 3) (dAt dtX4_worth 3 rfl) (by decide) (wc_L (L' := [some (vR 75), some (vI x1), some (vI x2), some (vI 0), some (vI x2), none, none]) rfl (wc_drp [2] rfl (wc_L (L' := [some (vR 75), some (vI x1), none, some (vI 0), some (vI x2), none, none]) rfl (?_))))))))
  refine wh3_ind (P := fun (x101 : Int) (x102 : Int) (h103 : Hp) => Wc G tX4_worth (d + 1) h Q 5 [some (vR 75), some (vI x1), none, some (vI x101), some (vI x102), none, none] [] h103) (fun C104 ih105 x101 x102 h103 hm => ?_) hm
  obtain ⟨o106, o107, hm⟩ := hm
  refine wc_aload_n (pc := 5) (dAt dtX4_worth 4 rfl) rfl (wc_getKR hg (pc := 6) (dAt dtX4_worth 5 rfl) flX4_180_4 rfl ka75 kf75_51 (wc_iload (pc := 9) (dAt dtX4_worth 6 rfl) rfl (wc_ialdK hg (pc := 11) (dAt dtX4_worth 7 rfl) kr106 o106 o107 (wc_if_eq (pc := 12) (tgt := 181) (dAt dtX4_worth 8 rfl) (by decide) (fun c108 => ?_) (fun c108 => ?_)))))
  · replace hm := ite_f (fun z => z c108) hm
    exact wc_aload_n (pc := 181) (dAt dtX4_worth 100 rfl) rfl (wc_getKR hg (pc := 182) (dAt dtX4_worth 101 rfl) flX4_193_4 rfl ka75 kf75_58 (wc_iconst (pc := 185) (dAt dtX4_worth 102 rfl) ⟨by decide, by decide⟩ (wc_ialdK hg (pc := 186) (dAt dtX4_worth 103 rfl) kr110 (by decide) (by decide) (wc_iret (pc := 187) (dAt dtX4_worth 104 rfl) rfl (nar_int _) hm))))
  · replace hm := ite_t c108 hm
    obtain ⟨v109, ev109⟩ : ∃ v109 : Int, v109 = (hI h103 106 (Int.toNat x102)) := ⟨_, rfl⟩
    replace hm := hm v109 ev109
    obtain ⟨o110, hm⟩ := hm
    obtain ⟨i111, ei111⟩ : ∃ i111 : Int, i111 = (x102 + 1) := ⟨_, rfl⟩
    replace hm := hm i111 ei111
    refine wc_aload_n (pc := 15) (dAt dtX4_worth 9 rfl) rfl (wc_getKR hg (pc := 16) (dAt dtX4_worth 10 rfl) flX4_180_4 rfl ka75 kf75_51 (wc_iload (pc := 19) (dAt dtX4_worth 11 rfl) rfl (wc_ialdK hg (pc := 21) (dAt dtX4_worth 12 rfl) kr106 o106 o107 (wc_vi ev109 (wc_istore (pc := 22) (dAt dtX4_worth 13 rfl) (by decide) (wc_L (L' := [some (vR 75), some (vI x1), none, some (vI x101), some (vI x102), some (vI v109), none]) rfl (wc_iinc (v := i111) (pc := 24) (dAt dtX4_worth 14 rfl) rfl ei111 (ei111 ▸ o110) (by decide) (wc_L (L' := [some (vR 75), some (vI x1), none, some (vI x101), some (vI i111), some (vI v109), none]) rfl (wc_iload (pc := 27) (dAt dtX4_worth 15 rfl) rfl (wc_iconst (pc := 29) (dAt dtX4_worth 16 rfl) ⟨by decide, by decide⟩ (?_)))))))))))
    have k178 : (¬ (v109 < 1) ∧ (¬ (4 < v109))) → Wc G tX4_worth (d + 1) h Q 39 [some (vR 75), some (vI x1), none, some (vI x101), some (vI i111), some (vI v109), none] [] h103 := fun c112 => by
      replace hm := ite_t c112 hm
      obtain ⟨o113, o114, hm⟩ := hm
      obtain ⟨v115, ev115⟩ : ∃ v115 : Int, v115 = (hI h103 106 (Int.toNat i111)) := ⟨_, rfl⟩
      replace hm := hm v115 ev115
      obtain ⟨o116, hm⟩ := hm
      obtain ⟨i117, ei117⟩ : ∃ i117 : Int, i117 = (i111 + 1) := ⟨_, rfl⟩
      replace hm := hm i117 ei117
      obtain ⟨o121, hm⟩ := hm
      obtain ⟨v122, ev122⟩ : ∃ v122 : Int, v122 = (if ¬ (v109 ≠ 1) then v115 else (if ¬ (v109 ≠ 2) then (hI h103 109 (Int.toNat v115)) else (if ¬ (v109 ≠ 3) then (vX4_paramOf x1 v115 h103) else (iand (ishr (hI h103 75 59) v115) 1)))) := ⟨_, rfl⟩
      replace hm := hm v122 ev122
      refine wc_aload_n (pc := 39) (dAt dtX4_worth 21 rfl) rfl (wc_getKR hg (pc := 40) (dAt dtX4_worth 22 rfl) flX4_180_4 rfl ka75 kf75_51 (wc_iload (pc := 43) (dAt dtX4_worth 23 rfl) rfl (wc_ialdK hg (pc := 45) (dAt dtX4_worth 24 rfl) kr106 o113 o114 (wc_vi ev115 (wc_istore (pc := 46) (dAt dtX4_worth 25 rfl) (by decide) (wc_L (L' := [some (vR 75), some (vI x1), none, some (vI x101), some (vI i111), some (vI v109), some (vI v115)]) rfl (wc_iinc (v := i117) (pc := 48) (dAt dtX4_worth 26 rfl) rfl ei117 (ei117 ▸ o116) (by decide) (wc_L (L' := [some (vR 75), some (vI x1), none, some (vI x101), some (vI i117), some (vI v109), some (vI v115)]) rfl (wc_aload_n (pc := 51) (dAt dtX4_worth 27 rfl) rfl (wc_getKR hg (pc := 52) (dAt dtX4_worth 28 rfl) flX4_193_4 rfl ka75 kf75_58 (wc_iload_n (pc := 55) (dAt dtX4_worth 29 rfl) rfl (wc_iload (pc := 56) (dAt dtX4_worth 30 rfl) rfl (wc_iconst (pc := 58) (dAt dtX4_worth 31 rfl) ⟨by decide, by decide⟩ (?_))))))))))))))
      have kj128 : Wc G tX4_worth (d + 1) h Q 108 [some (vR 75), some (vI x1), none, some (vI x101), some (vI i117), none, none] [vI v122, vI x101, vR 110] h103 := by
        obtain ⟨o123, o124, hm⟩ := hm
        obtain ⟨h125, eh125⟩ : ∃ h125 : Hp, h125 = sI h103 110 (Int.toNat x101) v122 := ⟨_, rfl⟩
        replace hm := hm h125 eh125
        obtain ⟨o126, hm⟩ := hm
        obtain ⟨i127, ei127⟩ : ∃ i127 : Int, i127 = (x101 + 1) := ⟨_, rfl⟩
        replace hm := hm i127 ei127
        exact wc_iastK hg (pc := 108) (dAt dtX4_worth 57 rfl) kr110 (by decide) o123 o124 (wc_hp eh125 (wc_iinc (v := i127) (pc := 109) (dAt dtX4_worth 58 rfl) rfl ei127 (ei127 ▸ o126) (by decide) (wc_L (L' := [some (vR 75), some (vI x1), none, some (vI i127), some (vI i117), none, none]) rfl (wc_goto (pc := 112) (tgt := 178) (dAt dtX4_worth 59 rfl) (by decide) (wc_goto (pc := 178) (tgt := 5) (dAt dtX4_worth 99 rfl) (by decide) (ih105 _ _ _ hm))))))
      have p129 := o121
      have k130 : (¬ (v109 ≠ 1)) → Wc G tX4_worth (d + 1) h Q 62 [some (vR 75), some (vI x1), none, some (vI x101), some (vI i117), some (vI v109), some (vI v115)] [vI x101, vR 110] h103 := fun c132 => by
        have z133 := kj128
        rw [show v122 = v115 from ev122.trans (if_pos c132)] at z133
        exact wc_iload (pc := 62) (dAt dtX4_worth 33 rfl) rfl (wc_goto (pc := 64) (tgt := 108) (dAt dtX4_worth 34 rfl) (by decide) (wc_drp [5, 6] rfl (z133)))
      have k131 : ¬ (¬ (v109 ≠ 1)) → Wc G tX4_worth (d + 1) h Q 67 [some (vR 75), some (vI x1), none, some (vI x101), some (vI i117), some (vI v109), some (vI v115)] [vI x101, vR 110] h103 := fun c132 => by
        obtain ⟨p135, p136⟩ := (p129 c132)
        have k137 : (¬ (v109 ≠ 2)) → Wc G tX4_worth (d + 1) h Q 73 [some (vR 75), some (vI x1), none, some (vI x101), some (vI i117), some (vI v109), some (vI v115)] [vI x101, vR 110] h103 := fun c139 => by
          obtain ⟨o118, o119⟩ := (p135 c139)
          have z140 := kj128
          rw [show v122 = (hI h103 109 (Int.toNat v115)) from ev122.trans ((if_neg c132).trans (if_pos c139))] at z140
          exact wc_aload_n (pc := 73) (dAt dtX4_worth 38 rfl) rfl (wc_getKR hg (pc := 74) (dAt dtX4_worth 39 rfl) flX4_190_4 rfl ka75 kf75_57 (wc_iload (pc := 77) (dAt dtX4_worth 40 rfl) rfl (wc_ialdK hg (pc := 79) (dAt dtX4_worth 41 rfl) kr109 o118 o119 (wc_goto (pc := 80) (tgt := 108) (dAt dtX4_worth 42 rfl) (by decide) (wc_drp [5, 6] rfl (z140))))))
        have k138 : ¬ (¬ (v109 ≠ 2)) → Wc G tX4_worth (d + 1) h Q 83 [some (vR 75), some (vI x1), none, some (vI x101), some (vI i117), some (vI v109), some (vI v115)] [vI x101, vR 110] h103 := fun c139 => by
          have p142 := (p136 c139)
          have k143 : (¬ (v109 ≠ 3)) → Wc G tX4_worth (d + 1) h Q 89 [some (vR 75), some (vI x1), none, some (vI x101), some (vI i117), some (vI v109), some (vI v115)] [vI x101, vR 110] h103 := fun c145 => by
            have o120 := (p142 c145)
            have z146 := kj128
            rw [show v122 = (vX4_paramOf x1 v115 h103) from ev122.trans ((if_neg c132).trans ((if_neg c139).trans (if_pos c145)))] at z146
            exact wc_aload_n (pc := 89) (dAt dtX4_worth 46 rfl) rfl (wc_iload_n (pc := 90) (dAt dtX4_worth 47 rfl) rfl (wc_iload (pc := 91) (dAt dtX4_worth 48 rfl) rfl (wc_kf hg fun zk => wc_callV (k := 4) (y' := tX4_paramOf) (P := eI (vX4_paramOf x1 v115 h103) h103) (pc := 93) (dAt dtX4_worth 49 rfl) lkX4_438 moX4_paramOf q2636 qs87 (by decide) (zk.2 _ ka75).1 rfl rfl (Nat.le_of_ble_eq_true rfl) (wX4_paramOf hg o120 ⟨rfl, rfl⟩) (ep_I (wc_goto (pc := 96) (tgt := 108) (dAt dtX4_worth 50 rfl) (by decide) (wc_drp [5, 6] rfl (z146)))) ex_I)))
          have k144 : ¬ (¬ (v109 ≠ 3)) → Wc G tX4_worth (d + 1) h Q 99 [some (vR 75), some (vI x1), none, some (vI x101), some (vI i117), some (vI v109), some (vI v115)] [vI x101, vR 110] h103 := fun c145 => by
            have z148 := kj128
            rw [show v122 = (iand (ishr (hI h103 75 59) v115) 1) from ev122.trans ((if_neg c132).trans ((if_neg c139).trans (if_neg c145)))] at z148
            exact wc_aload_n (pc := 99) (dAt dtX4_worth 51 rfl) rfl (wc_getKI hg (pc := 100) (dAt dtX4_worth 52 rfl) flX4_441_4 rfl ka75 (wc_iload (pc := 103) (dAt dtX4_worth 53 rfl) rfl (wc_ishr (pc := 105) (dAt dtX4_worth 54 rfl) (wc_iconst (pc := 106) (dAt dtX4_worth 55 rfl) ⟨by decide, by decide⟩ (wc_iand (pc := 107) (dAt dtX4_worth 56 rfl) (wc_drp [5, 6] rfl (z148)))))))
          exact wc_iload (pc := 83) (dAt dtX4_worth 43 rfl) rfl (wc_iconst (pc := 85) (dAt dtX4_worth 44 rfl) ⟨by decide, by decide⟩ (wc_icmp_ne (pc := 86) (tgt := 99) (dAt dtX4_worth 45 rfl) (by decide) (fun c150 => (k144 (fun z => z c150))) (fun c150 => (k143 c150))))
        exact wc_iload (pc := 67) (dAt dtX4_worth 35 rfl) rfl (wc_iconst (pc := 69) (dAt dtX4_worth 36 rfl) ⟨by decide, by decide⟩ (wc_icmp_ne (pc := 70) (tgt := 83) (dAt dtX4_worth 37 rfl) (by decide) (fun c151 => (k138 (fun z => z c151))) (fun c151 => (k137 c151))))
      exact wc_icmp_ne (pc := 59) (tgt := 67) (dAt dtX4_worth 32 rfl) (by decide) (fun c152 => (k131 (fun z => z c152))) (fun c152 => (k130 c152))
    have k179 : ¬ (¬ (v109 < 1) ∧ (¬ (4 < v109))) → Wc G tX4_worth (d + 1) h Q 115 [some (vR 75), some (vI x1), none, some (vI x101), some (vI i111), some (vI v109), none] [] h103 := fun c112 => by
      replace hm := ite_f c112 hm
      refine wc_iload (pc := 115) (dAt dtX4_worth 60 rfl) rfl (wc_iconst (pc := 117) (dAt dtX4_worth 61 rfl) ⟨by decide, by decide⟩ (wc_icmp_ne (pc := 118) (tgt := 148) (dAt dtX4_worth 62 rfl) (by decide) (fun c153 => ?_) (fun c153 => ?_)))
      · replace hm := ite_f (fun z => z c153) hm
        obtain ⟨o168, hm⟩ := hm
        obtain ⟨i169, ei169⟩ : ∃ i169 : Int, i169 = (x101 + (-1)) := ⟨_, rfl⟩
        replace hm := hm i169 ei169
        obtain ⟨o170, o171, o172, o173, o174, hm⟩ := hm
        refine wc_iinc (v := i169) (pc := 148) (dAt dtX4_worth 80 rfl) rfl ei169 (ei169 ▸ o168) (by decide) (wc_L (L' := [some (vR 75), some (vI x1), none, some (vI i169), some (vI i111), some (vI v109), none]) rfl (wc_aload_n (pc := 151) (dAt dtX4_worth 81 rfl) rfl (wc_getKR hg (pc := 152) (dAt dtX4_worth 82 rfl) flX4_193_4 rfl ka75 kf75_58 (wc_iload_n (pc := 155) (dAt dtX4_worth 83 rfl) rfl (wc_iconst (pc := 156) (dAt dtX4_worth 84 rfl) ⟨by decide, by decide⟩ (wc_isub (pc := 157) (dAt dtX4_worth 85 rfl) o170 (wc_iload (pc := 158) (dAt dtX4_worth 86 rfl) rfl (wc_aload_n (pc := 160) (dAt dtX4_worth 87 rfl) rfl (wc_getKR hg (pc := 161) (dAt dtX4_worth 88 rfl) flX4_193_4 rfl ka75 kf75_58 (wc_iload_n (pc := 164) (dAt dtX4_worth 89 rfl) rfl (wc_iconst (pc := 165) (dAt dtX4_worth 90 rfl) ⟨by decide, by decide⟩ (wc_isub (pc := 166) (dAt dtX4_worth 91 rfl) o170 (wc_ialdK hg (pc := 167) (dAt dtX4_worth 92 rfl) kr110 o171 o172 (wc_aload_n (pc := 168) (dAt dtX4_worth 93 rfl) rfl (wc_getKR hg (pc := 169) (dAt dtX4_worth 94 rfl) flX4_193_4 rfl ka75 kf75_58 (wc_iload_n (pc := 172) (dAt dtX4_worth 95 rfl) rfl (wc_ialdK hg (pc := 173) (dAt dtX4_worth 96 rfl) kr110 o173 o174 (wc_callS (y' := tX4_works) (av := [vI v109, vI (hI h103 110 (Int.toNat (i169 - 1))), vI (hI h103 110 (Int.toNat i169))]) (st := [vI (i169 - 1), vR 110]) (pc := 174) (dAt dtX4_worth 97 rfl) lkX4_444 moX4_works q2699 q134 rfl rfl (Nat.le_of_ble_eq_true rfl) (wX4_works hg hm) (kr_I (fun x176 h175 hm => ?_)) (kx_I rfl)))))))))))))))))))
        obtain ⟨h177, eh177⟩ : ∃ h177 : Hp, h177 = sI h175 110 (Int.toNat (i169 - 1)) x176 := ⟨_, rfl⟩
        replace hm := hm h177 eh177
        exact wc_iastK hg (pc := 177) (dAt dtX4_worth 98 rfl) kr110 (by decide) o171 o172 (wc_hp eh177 (wc_goto (pc := 178) (tgt := 5) (dAt dtX4_worth 99 rfl) (by decide) (wc_drp [5] rfl (ih105 _ _ _ hm))))
      · replace hm := ite_t c153 hm
        obtain ⟨o154, o155, o156, hm⟩ := hm
        obtain ⟨v157, ev157⟩ : ∃ v157 : Int, v157 = (b2i (¬ ((hI h103 110 (Int.toNat (x101 - 1))) ≠ 0))) := ⟨_, rfl⟩
        replace hm := hm v157 ev157
        refine wc_aload_n (pc := 121) (dAt dtX4_worth 63 rfl) rfl (wc_getKR hg (pc := 122) (dAt dtX4_worth 64 rfl) flX4_193_4 rfl ka75 kf75_58 (wc_iload_n (pc := 125) (dAt dtX4_worth 65 rfl) rfl (wc_iconst (pc := 126) (dAt dtX4_worth 66 rfl) ⟨by decide, by decide⟩ (wc_isub (pc := 127) (dAt dtX4_worth 67 rfl) o154 (wc_aload_n (pc := 128) (dAt dtX4_worth 68 rfl) rfl (wc_getKR hg (pc := 129) (dAt dtX4_worth 69 rfl) flX4_193_4 rfl ka75 kf75_58 (wc_iload_n (pc := 132) (dAt dtX4_worth 70 rfl) rfl (wc_iconst (pc := 133) (dAt dtX4_worth 71 rfl) ⟨by decide, by decide⟩ (wc_isub (pc := 134) (dAt dtX4_worth 72 rfl) o154 (wc_ialdK hg (pc := 135) (dAt dtX4_worth 73 rfl) kr110 o155 o156 (?_)))))))))))
        have kj159 : Wc G tX4_worth (d + 1) h Q 144 [some (vR 75), some (vI x1), none, some (vI x101), some (vI i111), none, none] [vI v157, vI (x101 - 1), vR 110] h103 := by
          obtain ⟨h158, eh158⟩ : ∃ h158 : Hp, h158 = sI h103 110 (Int.toNat (x101 - 1)) v157 := ⟨_, rfl⟩
          replace hm := hm h158 eh158
          exact wc_iastK hg (pc := 144) (dAt dtX4_worth 78 rfl) kr110 (by decide) o155 o156 (wc_hp eh158 (wc_goto (pc := 145) (tgt := 178) (dAt dtX4_worth 79 rfl) (by decide) (wc_goto (pc := 178) (tgt := 5) (dAt dtX4_worth 99 rfl) (by decide) (ih105 _ _ _ hm))))
        have k160 : (¬ ((hI h103 110 (Int.toNat (x101 - 1))) ≠ 0)) → Wc G tX4_worth (d + 1) h Q 139 [some (vR 75), some (vI x1), none, some (vI x101), some (vI i111), some (vI v109), none] [vI (x101 - 1), vR 110] h103 := fun c162 => by
          have z163 := kj159
          rw [show v157 = 1 from ev157.trans (b2i_t c162)] at z163
          exact wc_iconst (pc := 139) (dAt dtX4_worth 75 rfl) ⟨by decide, by decide⟩ (wc_goto (pc := 140) (tgt := 144) (dAt dtX4_worth 76 rfl) (by decide) (wc_drp [5] rfl (z163)))
        have k161 : ¬ (¬ ((hI h103 110 (Int.toNat (x101 - 1))) ≠ 0)) → Wc G tX4_worth (d + 1) h Q 143 [some (vR 75), some (vI x1), none, some (vI x101), some (vI i111), some (vI v109), none] [vI (x101 - 1), vR 110] h103 := fun c162 => by
          have z165 := kj159
          rw [show v157 = 0 from ev157.trans (b2i_f c162)] at z165
          exact wc_iconst (pc := 143) (dAt dtX4_worth 77 rfl) ⟨by decide, by decide⟩ (wc_drp [5] rfl (z165))
        exact wc_if_ne (pc := 136) (tgt := 143) (dAt dtX4_worth 74 rfl) (by decide) (fun c167 => (k161 (fun z => z c167))) (fun c167 => (k160 c167))
    exact wc_icmp_lt (pc := 30) (tgt := 115) (dAt dtX4_worth 17 rfl) (by decide) (fun c180 => (k179 (fun z => z.1 c180))) (fun c180 => wc_iload (pc := 33) (dAt dtX4_worth 18 rfl) rfl (wc_iconst (pc := 35) (dAt dtX4_worth 19 rfl) ⟨by decide, by decide⟩ (wc_icmp_gt (pc := 36) (tgt := 115) (dAt dtX4_worth 20 rfl) (by decide) (fun c181 => (k179 (fun z => (fun z => z c181) z.2))) (fun c181 => (k178 ⟨c180, c181⟩)))))
