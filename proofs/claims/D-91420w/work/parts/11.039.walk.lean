set_option maxRecDepth 100000
set_option maxHeartbeats 1000000
/-! what methods do, and their walks, by program -/
def tX4_isFlight : Mt := (⟨"FlyingDoctorsModel", "isFlight", "(I)Z"⟩, prog_24_method_90_code, 2, (Option.some Jvm.ClassFile.FieldType.boolean), [])
def DX4_isFlight : List (Nat × Instr × Nat) := [(0, .aload_n 0, 1), (1, .iconst 0, 1), (2, .putfield 1, 3), (5, .aload_n 0, 1), (6, .iload_n 1, 1), (7, .ifCond .lt 15, 3), (10, .iload_n 1, 1), (11, .aload_n 0, 1), (12, .getfield 550, 3), (15, .if_icmp .ge 7, 3), (18, .iconst 1, 1), (19, .goto 4, 3), (22, .iconst 0, 1), (23, .iconst 1, 1), (24, .invokevirtual 10, 3), (27, .ireturn, 1)]
theorem dtX4_isFlight : chkD (mB tX4_isFlight) DX4_isFlight = true := by decide +kernel
theorem moX4_isFlight : MethOk tX4_isFlight 1 := ⟨Or.inl ⟨rfl, q2837⟩, by decide +kernel, ⟨by decide, by decide⟩, by decide +kernel⟩
def mX4_isFlight (x1 : Int) (h : Hp) (Q : Rs → Hp → Prop) : Prop := ∀ h101 : Hp, h101 = sI h 75 0 0 → ∀ v102 : Int, v102 = (b2i (¬ (x1 < 0) ∧ (¬ ((hI h101 75 80) ≤ x1)))) → mX4_right v102 1 h101 (kI Q (fun x104 h103 => (x104 = 0 ∨ x104 = 1) ∧ Q (rV (vI x104)) h103))
theorem wX4_isFlight {G : Gx} (hg : gF G = true) {d : Nat} {x1 : Int} {h : Hp} {Q : Rs → Hp → Prop} (hm : mX4_isFlight x1 h Q) : Ct G tX4_isFlight (d + 1) [vR 75, vI x1] h Q := by
  refine ct_enter (L0 := [some (vR 75), some (vI x1)]) rfl rfl ?_
  unfold mX4_isFlight at hm
  obtain ⟨h101, eh101⟩ : ∃ h101 : Hp, h101 = sI h 75 0 0 := ⟨_, rfl⟩
  replace hm := hm h101 eh101
  obtain ⟨v102, ev102⟩ : ∃ v102 : Int, v102 = (b2i (¬ (x1 < 0) ∧ (¬ ((hI h101 75 80) ≤ x1)))) := ⟨_, rfl⟩
  replace hm := hm v102 ev102
  refine wc_aload_n (pc := 0) (dAt dtX4_isFlight 0 rfl) rfl (wc_iconst (pc := 1) (dAt dtX4_isFlight 1 rfl) ⟨by decide, by decide⟩ (wc_putKI hg (pc := 2) (dAt dtX4_isFlight 2 rfl) flX4_1_4 (Or.inl rfl) rfl ka75 (by decide) (okI_int _) (wc_hp eh101 (wc_aload_n (pc := 5) (dAt dtX4_isFlight 3 rfl) rfl (wc_iload_n (pc := 6) (dAt dtX4_isFlight 4 rfl) rfl (?_))))))
  have kj106 : Wc G tX4_isFlight (d + 1) h Q 23 [some (vR 75), none] [vI v102, vR 75] h101 := by
    refine wc_iconst (pc := 23) (dAt dtX4_isFlight 13 rfl) ⟨by decide, by decide⟩ (wc_kf hg fun zk => wc_callV (k := 4) (y' := tX4_right) (av := [vI v102, vI 1]) (st := []) (pc := 24) (dAt dtX4_isFlight 14 rfl) lkX4_10 moX4_right q2152 qs64 (by decide) (zk.2 _ ka75).1 rfl rfl (Nat.le_of_ble_eq_true rfl) (wX4_right hg hm) (kr_I (fun x104 h103 hm => ?_)) (kx_I rfl))
    obtain ⟨o105, hm⟩ := hm
    exact wc_iret (pc := 27) (dAt dtX4_isFlight 15 rfl) rfl (nar_bool o105) hm
  have k107 : (¬ (x1 < 0) ∧ (¬ ((hI h101 75 80) ≤ x1))) → Wc G tX4_isFlight (d + 1) h Q 18 [some (vR 75), some (vI x1)] [vR 75] h101 := fun c109 => by
    have z110 := kj106
    rw [show v102 = 1 from ev102.trans (b2i_t c109)] at z110
    exact wc_iconst (pc := 18) (dAt dtX4_isFlight 10 rfl) ⟨by decide, by decide⟩ (wc_goto (pc := 19) (tgt := 23) (dAt dtX4_isFlight 11 rfl) (by decide) (wc_drp [1] rfl (z110)))
  have k108 : ¬ (¬ (x1 < 0) ∧ (¬ ((hI h101 75 80) ≤ x1))) → Wc G tX4_isFlight (d + 1) h Q 22 [some (vR 75), some (vI x1)] [vR 75] h101 := fun c109 => by
    have z112 := kj106
    rw [show v102 = 0 from ev102.trans (b2i_f c109)] at z112
    exact wc_iconst (pc := 22) (dAt dtX4_isFlight 12 rfl) ⟨by decide, by decide⟩ (wc_drp [1] rfl (z112))
  exact wc_if_lt (pc := 7) (tgt := 22) (dAt dtX4_isFlight 5 rfl) (by decide) (fun c114 => (k108 (fun z => z.1 c114))) (fun c114 => wc_iload_n (pc := 10) (dAt dtX4_isFlight 6 rfl) rfl (wc_aload_n (pc := 11) (dAt dtX4_isFlight 7 rfl) rfl (wc_getKI hg (pc := 12) (dAt dtX4_isFlight 8 rfl) flX4_550_4 rfl ka75 (wc_icmp_ge (pc := 15) (tgt := 22) (dAt dtX4_isFlight 9 rfl) (by decide) (fun c115 => (k108 (fun z => (fun z => z c115) z.2))) (fun c115 => (k107 ⟨c114, c115⟩))))))
def tX4_leg_2 : Mt := (⟨"FlyingDoctorsModel", "leg", "(III)I"⟩, prog_24_method_91_code, 5, (Option.some Jvm.ClassFile.FieldType.int), [])
def DX4_leg_2 : List (Nat × Instr × Nat) := [(0, .aload_n 0, 1), (1, .iload_n 1, 1), (2, .invokevirtual 569, 3), (5, .ifCond .eq 39, 3), (8, .aload_n 0, 1), (9, .iload_n 2, 1), (10, .ifCond .lt 26, 3), (13, .iload_n 2, 1), (14, .aload_n 0, 1), (15, .getfield 256, 3), (18, .iload_n 1, 1), (19, .iaload, 1), (20, .if_icmp .ge 16, 3), (23, .iload_n 3, 1), (24, .ifCond .lt 12, 3), (27, .iload_n 3, 1), (28, .iconst 5, 1), (29, .if_icmp .gt 7, 3), (32, .iconst 1, 1), (33, .goto 4, 3), (36, .iconst 0, 1), (37, .iconst 1, 1), (38, .invokevirtual 10, 3), (41, .ifCond .ne 5, 3), (44, .iconst 0, 1), (45, .ireturn, 1), (46, .bipush 7, 2), (48, .iload_n 1, 1), (49, .imul, 1), (50, .iload_n 2, 1), (51, .iadd, 1), (52, .istore 4, 2), (54, .iload_n 3, 1), (55, .ifCond .ne 13, 3), (58, .aload_n 0, 1), (59, .getfield 274, 3), (62, .iload 4, 2), (64, .iaload, 1), (65, .goto 70, 3), (68, .iload_n 3, 1), (69, .iconst 1, 1), (70, .if_icmp .ne 13, 3), (73, .aload_n 0, 1), (74, .getfield 277, 3), (77, .iload 4, 2), (79, .iaload, 1), (80, .goto 55, 3), (83, .iload_n 3, 1), (84, .iconst 2, 1), (85, .if_icmp .ne 13, 3), (88, .aload_n 0, 1), (89, .getfield 280, 3), (92, .iload 4, 2), (94, .iaload, 1), (95, .goto 40, 3), (98, .iload_n 3, 1), (99, .iconst 3, 1), (100, .if_icmp .ne 13, 3), (103, .aload_n 0, 1), (104, .getfield 283, 3), (107, .iload 4, 2), (109, .iaload, 1), (110, .goto 25, 3), (113, .iload_n 3, 1), (114, .iconst 4, 1), (115, .if_icmp .ne 13, 3), (118, .aload_n 0, 1), (119, .getfield 286, 3), (122, .iload 4, 2), (124, .iaload, 1), (125, .goto 10, 3), (128, .aload_n 0, 1), (129, .getfield 289, 3), (132, .iload 4, 2), (134, .iaload, 1), (135, .ireturn, 1)]
theorem dtX4_leg_2 : chkD (mB tX4_leg_2) DX4_leg_2 = true := by decide +kernel
theorem moX4_leg_2 : MethOk tX4_leg_2 3 := ⟨Or.inl ⟨rfl, q2833⟩, by decide +kernel, ⟨by decide, by decide⟩, by decide +kernel⟩
def mX4_leg_2 (x1 : Int) (x2 : Int) (x3 : Int) (h : Hp) (Q : Rs → Hp → Prop) : Prop := mX4_isFlight x1 h (kI Q (fun x102 h101 => if ¬ (x102 = 0) then ((¬ (x2 < 0) → 0 ≤ x1 ∧ x1 < 60)) ∧ ∀ v107 : Int, v107 = (b2i (¬ (x2 < 0) ∧ (¬ ((hI h101 130 (Int.toNat x1)) ≤ x2) ∧ (¬ (x3 < 0) ∧ (¬ (5 < x3)))))) → mX4_right v107 1 h101 (kI Q (fun x109 h108 => if ¬ (x109 ≠ 0) then Q (rV (vI 0)) h108 else nm (7 * x1) ∧ nm ((7 * x1) + x2) ∧ ∀ v113 : Int, v113 = ((7 * x1) + x2) → if ¬ (x3 ≠ 0) then 0 ≤ v113 ∧ v113 < 420 ∧ Q (rV (vI (hI h108 136 (Int.toNat v113)))) h108 else ((((¬ (x3 ≠ 1)) → 0 ≤ v113 ∧ v113 < 420) ∧ (¬ (¬ (x3 ≠ 1)) → ((¬ (x3 ≠ 2)) → 0 ≤ v113 ∧ v113 < 420) ∧ (¬ (¬ (x3 ≠ 2)) → ((¬ (x3 ≠ 3)) → 0 ≤ v113 ∧ v113 < 420) ∧ (¬ (¬ (x3 ≠ 3)) → ((¬ (x3 ≠ 4)) → 0 ≤ v113 ∧ v113 < 420) ∧ (¬ (¬ (x3 ≠ 4)) → 0 ≤ v113 ∧ v113 < 420)))))) ∧ ∀ v128 : Int, v128 = (if ¬ (x3 ≠ 1) then (hI h108 137 (Int.toNat v113)) else (if ¬ (x3 ≠ 2) then (hI h108 138 (Int.toNat v113)) else (if ¬ (x3 ≠ 3) then (hI h108 139 (Int.toNat v113)) else (if ¬ (x3 ≠ 4) then (hI h108 140 (Int.toNat v113)) else (hI h108 141 (Int.toNat v113)))))) → Q (rV (vI v128)) h108)) else Q (rV (vI 0)) h101))
theorem wX4_leg_2 {G : Gx} (hg : gF G = true) {d : Nat} {x1 : Int} {x2 : Int} {x3 : Int} {h : Hp} {Q : Rs → Hp → Prop} (hm : mX4_leg_2 x1 x2 x3 h Q) : Ct G tX4_leg_2 (d + 2) [vR 75, vI x1, vI x2, vI x3] h Q := by
  refine ct_enter (L0 := [some (vR 75), some (vI x1), some (vI x2), some (vI x3), none]) rfl rfl ?_
  unfold mX4_leg_2 at hm
  refine wc_aload_n (pc := 0) (dAt dtX4_leg_2 0 rfl) rfl (wc_iload_n (pc := 1) (dAt dtX4_leg_2 1 rfl) rfl (wc_kf hg fun zk => wc_callV (k := 4) (y' := tX4_isFlight) (av := [vI x1]) (st := []) (pc := 2) (dAt dtX4_leg_2 2 rfl) lkX4_569 moX4_isFlight q2836 qs117 (by decide) (zk.2 _ ka75).1 rfl rfl (Nat.le_of_ble_eq_true rfl) (wX4_isFlight hg hm) (kr_I (fun x102 h101 hm => ?_)) (kx_I rfl)))
  refine wc_if_eq (pc := 5) (tgt := 44) (dAt dtX4_leg_2 3 rfl) (by decide) (fun c103 => ?_) (fun c103 => ?_)
  · replace hm := ite_f (fun z => z c103) hm
    exact wc_iconst (pc := 44) (dAt dtX4_leg_2 24 rfl) ⟨by decide, by decide⟩ (wc_iret (pc := 45) (dAt dtX4_leg_2 25 rfl) rfl (nar_int _) hm)
  · replace hm := ite_t c103 hm
    obtain ⟨o106, hm⟩ := hm
    obtain ⟨v107, ev107⟩ : ∃ v107 : Int, v107 = (b2i (¬ (x2 < 0) ∧ (¬ ((hI h101 130 (Int.toNat x1)) ≤ x2) ∧ (¬ (x3 < 0) ∧ (¬ (5 < x3)))))) := ⟨_, rfl⟩
    replace hm := hm v107 ev107
    refine wc_aload_n (pc := 8) (dAt dtX4_leg_2 4 rfl) rfl (wc_iload_n (pc := 9) (dAt dtX4_leg_2 5 rfl) rfl (?_))
    have kj164 : Wc G tX4_leg_2 (d + 2) h Q 37 [some (vR 75), some (vI x1), some (vI x2), some (vI x3), none] [vI v107, vR 75] h101 := by
      refine wc_iconst (pc := 37) (dAt dtX4_leg_2 21 rfl) ⟨by decide, by decide⟩ (wc_kf hg fun zk => wc_callV (k := 4) (y' := tX4_right) (av := [vI v107, vI 1]) (st := []) (pc := 38) (dAt dtX4_leg_2 22 rfl) lkX4_10 moX4_right q2152 qs64 (by decide) (zk.2 _ ka75).1 rfl rfl (Nat.le_of_ble_eq_true rfl) (wX4_right hg hm) (kr_I (fun x109 h108 hm => ?_)) (kx_I rfl))
      refine wc_if_ne (pc := 41) (tgt := 46) (dAt dtX4_leg_2 23 rfl) (by decide) (fun c110 => ?_) (fun c110 => ?_)
      · replace hm := ite_f (fun z => z c110) hm
        obtain ⟨o111, o112, hm⟩ := hm
        obtain ⟨v113, ev113⟩ : ∃ v113 : Int, v113 = ((7 * x1) + x2) := ⟨_, rfl⟩
        replace hm := hm v113 ev113
        refine wc_bipush (pc := 46) (dAt dtX4_leg_2 26 rfl) ⟨by decide, by decide, by decide⟩ (wc_iload_n (pc := 48) (dAt dtX4_leg_2 27 rfl) rfl (wc_imul (pc := 49) (dAt dtX4_leg_2 28 rfl) o111 (wc_iload_n (pc := 50) (dAt dtX4_leg_2 29 rfl) rfl (wc_iadd (pc := 51) (dAt dtX4_leg_2 30 rfl) o112 (wc_vi ev113 (wc_istore (pc := 52) (dAt dtX4_leg_2 31 rfl) (by decide) (wc_L (L' := [some (vR 75), some (vI x1), some (vI x2), some (vI x3), some (vI v113)]) rfl (wc_iload_n (pc := 54) (dAt dtX4_leg_2 32 rfl) rfl (wc_if_ne (pc := 55) (tgt := 68) (dAt dtX4_leg_2 33 rfl) (by decide) (fun c114 => ?_) (fun c114 => ?_))))))))))
        · replace hm := ite_f (fun z => z c114) hm
          obtain ⟨o127, hm⟩ := hm
          obtain ⟨v128, ev128⟩ : ∃ v128 : Int, v128 = (if ¬ (x3 ≠ 1) then (hI h108 137 (Int.toNat v113)) else (if ¬ (x3 ≠ 2) then (hI h108 138 (Int.toNat v113)) else (if ¬ (x3 ≠ 3) then (hI h108 139 (Int.toNat v113)) else (if ¬ (x3 ≠ 4) then (hI h108 140 (Int.toNat v113)) else (hI h108 141 (Int.toNat v113)))))) := ⟨_, rfl⟩
          replace hm := hm v128 ev128
          refine wc_iload_n (pc := 68) (dAt dtX4_leg_2 39 rfl) rfl (wc_iconst (pc := 69) (dAt dtX4_leg_2 40 rfl) ⟨by decide, by decide⟩ (?_))
          have kj129 : Wc G tX4_leg_2 (d + 2) h Q 135 [some (vR 75), none, none, none, none] [vI v128] h108 := by
            exact wc_iret (pc := 135) (dAt dtX4_leg_2 75 rfl) rfl (nar_int _) hm
          obtain ⟨p130, p131⟩ := o127
          have k132 : (¬ (x3 ≠ 1)) → Wc G tX4_leg_2 (d + 2) h Q 73 [some (vR 75), some (vI x1), some (vI x2), some (vI x3), some (vI v113)] [] h108 := fun c134 => by
            obtain ⟨o117, o118⟩ := (p130 c134)
            have z135 := kj129
            rw [show v128 = (hI h108 137 (Int.toNat v113)) from ev128.trans (if_pos c134)] at z135
            exact wc_aload_n (pc := 73) (dAt dtX4_leg_2 42 rfl) rfl (wc_getKR hg (pc := 74) (dAt dtX4_leg_2 43 rfl) flX4_277_4 rfl ka75 kf75_91 (wc_iload (pc := 77) (dAt dtX4_leg_2 44 rfl) rfl (wc_ialdK hg (pc := 79) (dAt dtX4_leg_2 45 rfl) kr137 o117 o118 (wc_goto (pc := 80) (tgt := 135) (dAt dtX4_leg_2 46 rfl) (by decide) (wc_drp [1, 2, 3, 4] rfl (z135))))))
          have k133 : ¬ (¬ (x3 ≠ 1)) → Wc G tX4_leg_2 (d + 2) h Q 83 [some (vR 75), some (vI x1), some (vI x2), some (vI x3), some (vI v113)] [] h108 := fun c134 => by
            obtain ⟨p137, p138⟩ := (p131 c134)
            have k139 : (¬ (x3 ≠ 2)) → Wc G tX4_leg_2 (d + 2) h Q 88 [some (vR 75), some (vI x1), some (vI x2), some (vI x3), some (vI v113)] [] h108 := fun c141 => by
              obtain ⟨o119, o120⟩ := (p137 c141)
              have z142 := kj129
              rw [show v128 = (hI h108 138 (Int.toNat v113)) from ev128.trans ((if_neg c134).trans (if_pos c141))] at z142
              exact wc_aload_n (pc := 88) (dAt dtX4_leg_2 50 rfl) rfl (wc_getKR hg (pc := 89) (dAt dtX4_leg_2 51 rfl) flX4_280_4 rfl ka75 kf75_92 (wc_iload (pc := 92) (dAt dtX4_leg_2 52 rfl) rfl (wc_ialdK hg (pc := 94) (dAt dtX4_leg_2 53 rfl) kr138 o119 o120 (wc_goto (pc := 95) (tgt := 135) (dAt dtX4_leg_2 54 rfl) (by decide) (wc_drp [1, 2, 3, 4] rfl (z142))))))
            have k140 : ¬ (¬ (x3 ≠ 2)) → Wc G tX4_leg_2 (d + 2) h Q 98 [some (vR 75), some (vI x1), some (vI x2), some (vI x3), some (vI v113)] [] h108 := fun c141 => by
              obtain ⟨p144, p145⟩ := (p138 c141)
              have k146 : (¬ (x3 ≠ 3)) → Wc G tX4_leg_2 (d + 2) h Q 103 [some (vR 75), some (vI x1), some (vI x2), some (vI x3), some (vI v113)] [] h108 := fun c148 => by
                obtain ⟨o121, o122⟩ := (p144 c148)
                have z149 := kj129
                rw [show v128 = (hI h108 139 (Int.toNat v113)) from ev128.trans ((if_neg c134).trans ((if_neg c141).trans (if_pos c148)))] at z149
                exact wc_aload_n (pc := 103) (dAt dtX4_leg_2 58 rfl) rfl (wc_getKR hg (pc := 104) (dAt dtX4_leg_2 59 rfl) flX4_283_4 rfl ka75 kf75_93 (wc_iload (pc := 107) (dAt dtX4_leg_2 60 rfl) rfl (wc_ialdK hg (pc := 109) (dAt dtX4_leg_2 61 rfl) kr139 o121 o122 (wc_goto (pc := 110) (tgt := 135) (dAt dtX4_leg_2 62 rfl) (by decide) (wc_drp [1, 2, 3, 4] rfl (z149))))))
              have k147 : ¬ (¬ (x3 ≠ 3)) → Wc G tX4_leg_2 (d + 2) h Q 113 [some (vR 75), some (vI x1), some (vI x2), some (vI x3), some (vI v113)] [] h108 := fun c148 => by
                obtain ⟨p151, p152⟩ := (p145 c148)
                have k153 : (¬ (x3 ≠ 4)) → Wc G tX4_leg_2 (d + 2) h Q 118 [some (vR 75), some (vI x1), some (vI x2), some (vI x3), some (vI v113)] [] h108 := fun c155 => by
                  obtain ⟨o123, o124⟩ := (p151 c155)
                  have z156 := kj129
                  rw [show v128 = (hI h108 140 (Int.toNat v113)) from ev128.trans ((if_neg c134).trans ((if_neg c141).trans ((if_neg c148).trans (if_pos c155))))] at z156
                  exact wc_aload_n (pc := 118) (dAt dtX4_leg_2 66 rfl) rfl (wc_getKR hg (pc := 119) (dAt dtX4_leg_2 67 rfl) flX4_286_4 rfl ka75 kf75_94 (wc_iload (pc := 122) (dAt dtX4_leg_2 68 rfl) rfl (wc_ialdK hg (pc := 124) (dAt dtX4_leg_2 69 rfl) kr140 o123 o124 (wc_goto (pc := 125) (tgt := 135) (dAt dtX4_leg_2 70 rfl) (by decide) (wc_drp [1, 2, 3, 4] rfl (z156))))))
                have k154 : ¬ (¬ (x3 ≠ 4)) → Wc G tX4_leg_2 (d + 2) h Q 128 [some (vR 75), some (vI x1), some (vI x2), some (vI x3), some (vI v113)] [] h108 := fun c155 => by
                  obtain ⟨o125, o126⟩ := (p152 c155)
                  have z158 := kj129
                  rw [show v128 = (hI h108 141 (Int.toNat v113)) from ev128.trans ((if_neg c134).trans ((if_neg c141).trans ((if_neg c148).trans (if_neg c155))))] at z158
                  exact wc_aload_n (pc := 128) (dAt dtX4_leg_2 71 rfl) rfl (wc_getKR hg (pc := 129) (dAt dtX4_leg_2 72 rfl) flX4_289_4 rfl ka75 kf75_95 (wc_iload (pc := 132) (dAt dtX4_leg_2 73 rfl) rfl (wc_ialdK hg (pc := 134) (dAt dtX4_leg_2 74 rfl) kr141 o125 o126 (wc_drp [1, 2, 3, 4] rfl (z158)))))
                exact wc_iload_n (pc := 113) (dAt dtX4_leg_2 63 rfl) rfl (wc_iconst (pc := 114) (dAt dtX4_leg_2 64 rfl) ⟨by decide, by decide⟩ (wc_icmp_ne (pc := 115) (tgt := 128) (dAt dtX4_leg_2 65 rfl) (by decide) (fun c160 => (k154 (fun z => z c160))) (fun c160 => (k153 c160))))
              exact wc_iload_n (pc := 98) (dAt dtX4_leg_2 55 rfl) rfl (wc_iconst (pc := 99) (dAt dtX4_leg_2 56 rfl) ⟨by decide, by decide⟩ (wc_icmp_ne (pc := 100) (tgt := 113) (dAt dtX4_leg_2 57 rfl) (by decide) (fun c161 => (k147 (fun z => z c161))) (fun c161 => (k146 c161))))
            exact wc_iload_n (pc := 83) (dAt dtX4_leg_2 47 rfl) rfl (wc_iconst (pc := 84) (dAt dtX4_leg_2 48 rfl) ⟨by decide, by decide⟩ (wc_icmp_ne (pc := 85) (tgt := 98) (dAt dtX4_leg_2 49 rfl) (by decide) (fun c162 => (k140 (fun z => z c162))) (fun c162 => (k139 c162))))
          exact wc_icmp_ne (pc := 70) (tgt := 83) (dAt dtX4_leg_2 41 rfl) (by decide) (fun c163 => (k133 (fun z => z c163))) (fun c163 => (k132 c163))
        · replace hm := ite_t c114 hm
          obtain ⟨o115, o116, hm⟩ := hm
          exact wc_aload_n (pc := 58) (dAt dtX4_leg_2 34 rfl) rfl (wc_getKR hg (pc := 59) (dAt dtX4_leg_2 35 rfl) flX4_274_4 rfl ka75 kf75_90 (wc_iload (pc := 62) (dAt dtX4_leg_2 36 rfl) rfl (wc_ialdK hg (pc := 64) (dAt dtX4_leg_2 37 rfl) kr136 o115 o116 (wc_goto (pc := 65) (tgt := 135) (dAt dtX4_leg_2 38 rfl) (by decide) (wc_iret (pc := 135) (dAt dtX4_leg_2 75 rfl) rfl (nar_int _) hm)))))
      · replace hm := ite_t c110 hm
        exact wc_iconst (pc := 44) (dAt dtX4_leg_2 24 rfl) ⟨by decide, by decide⟩ (wc_iret (pc := 45) (dAt dtX4_leg_2 25 rfl) rfl (nar_int _) hm)
    have p165 := o106
    have k166 : (¬ (x2 < 0) ∧ (¬ ((hI h101 130 (Int.toNat x1)) ≤ x2) ∧ (¬ (x3 < 0) ∧ (¬ (5 < x3))))) → Wc G tX4_leg_2 (d + 2) h Q 32 [some (vR 75), some (vI x1), some (vI x2), some (vI x3), none] [vR 75] h101 := fun c168 => by
      have z169 := kj164
      rw [show v107 = 1 from ev107.trans (b2i_t c168)] at z169
      exact wc_iconst (pc := 32) (dAt dtX4_leg_2 18 rfl) ⟨by decide, by decide⟩ (wc_goto (pc := 33) (tgt := 37) (dAt dtX4_leg_2 19 rfl) (by decide) (z169))
    have k167 : ¬ (¬ (x2 < 0) ∧ (¬ ((hI h101 130 (Int.toNat x1)) ≤ x2) ∧ (¬ (x3 < 0) ∧ (¬ (5 < x3))))) → Wc G tX4_leg_2 (d + 2) h Q 36 [some (vR 75), some (vI x1), some (vI x2), some (vI x3), none] [vR 75] h101 := fun c168 => by
      have z171 := kj164
      rw [show v107 = 0 from ev107.trans (b2i_f c168)] at z171
      exact wc_iconst (pc := 36) (dAt dtX4_leg_2 20 rfl) ⟨by decide, by decide⟩ (z171)
    exact wc_if_lt (pc := 10) (tgt := 36) (dAt dtX4_leg_2 6 rfl) (by decide) (fun c173 => (k167 (fun z => z.1 c173))) (fun c173 => wc_iload_n (pc := 13) (dAt dtX4_leg_2 7 rfl) rfl (wc_aload_n (pc := 14) (dAt dtX4_leg_2 8 rfl) rfl (wc_getKR hg (pc := 15) (dAt dtX4_leg_2 9 rfl) flX4_256_4 rfl ka75 kf75_84 (wc_iload_n (pc := 18) (dAt dtX4_leg_2 10 rfl) rfl (wc_ialdK hg (pc := 19) (dAt dtX4_leg_2 11 rfl) kr130 (p165 c173).1 (p165 c173).2 (wc_icmp_ge (pc := 20) (tgt := 36) (dAt dtX4_leg_2 12 rfl) (by decide) (fun c174 => (k167 (fun z => (fun z => z.1 c174) z.2))) (fun c174 => wc_iload_n (pc := 23) (dAt dtX4_leg_2 13 rfl) rfl (wc_if_lt (pc := 24) (tgt := 36) (dAt dtX4_leg_2 14 rfl) (by decide) (fun c175 => (k167 (fun z => (fun z => (fun z => z.1 c175) z.2) z.2))) (fun c175 => wc_iload_n (pc := 27) (dAt dtX4_leg_2 15 rfl) rfl (wc_iconst (pc := 28) (dAt dtX4_leg_2 16 rfl) ⟨by decide, by decide⟩ (wc_icmp_gt (pc := 29) (tgt := 36) (dAt dtX4_leg_2 17 rfl) (by decide) (fun c176 => (k167 (fun z => (fun z => (fun z => (fun z => z c176) z.2) z.2) z.2))) (fun c176 => (k166 ⟨c173, ⟨c174, ⟨c175, c176⟩⟩⟩)))))))))))))
def tX1_holds : Mt := (⟨"FlyingDoctors", "holds", "(I)I"⟩, prog_1_method_52_code, 4, (Option.some Jvm.ClassFile.FieldType.int), [])
def DX1_holds : List (Nat × Instr × Nat) := [(0, .aload_n 0, 1), (1, .iload_n 1, 1), (2, .invokevirtual 464, 3), (5, .astore_n 2, 1), (6, .iconst 0, 1), (7, .istore_n 3, 1), (8, .iload_n 3, 1), (9, .aload_n 2, 1), (10, .getfield 182, 3), (13, .if_icmp .ge 69, 3), (16, .aload_n 2, 1), (17, .getfield 228, 3), (20, .iload_n 3, 1), (21, .iaload, 1), (22, .aload_n 0, 1), (23, .getfield 173, 3), (26, .if_icmp .le 50, 3), (29, .aload_n 0, 1), (30, .aload_n 2, 1), (31, .getfield 140, 3), (34, .aload_n 2, 1), (35, .getfield 189, 3), (38, .iload_n 3, 1), (39, .aaload, 1), (40, .aload_n 2, 1), (41, .getfield 228, 3), (44, .iload_n 3, 1), (45, .iaload, 1), (46, .aload_n 0, 1), (47, .getfield 173, 3), (50, .aload_n 2, 1), (51, .iload_n 3, 1), (52, .invokevirtual 185, 3), (55, .aload_n 2, 1), (56, .getfield 196, 3), (59, .iload_n 3, 1), (60, .iaload, 1), (61, .aload_n 2, 1), (62, .getfield 225, 3), (65, .iload_n 3, 1), (66, .iaload, 1), (67, .invokevirtual 235, 3), (70, .iconst (-1), 1), (71, .if_icmp .eq 5, 3), (74, .iload_n 3, 1), (75, .ireturn, 1), (76, .iinc 3 1, 3), (79, .goto (-71), 3), (82, .iconst (-1), 1), (83, .ireturn, 1)]
theorem dtX1_holds : chkD (mB tX1_holds) DX1_holds = true := by decide +kernel
theorem moX1_holds : MethOk tX1_holds 1 := ⟨Or.inl ⟨rfl, q1946⟩, by decide +kernel, ⟨by decide, by decide⟩, by decide +kernel⟩
def mX1_holds (x1 : Int) (h : Hp) (Q : Rs → Hp → Prop) : Prop := mX1_flightAt x1 h (kR Q (fun r102 h101 => wh2 (fun (C105 : Int → Hp → Prop) (x103 : Int) (h104 : Hp) => ob h104 r102 20 ∧ if ¬ ((hI h104 r102 2) ≤ x103) then ob h104 (hR h104 r102 5) 70 ∧ 0 ≤ x103 ∧ x103 < (hN h104 (hR h104 r102 5)) ∧ if ¬ ((hI h104 (hR h104 r102 5) (Int.toNat x103)) ≤ (hI h104 50 20)) then ob h104 (hR h104 r102 3) 75 ∧ x103 < (hN h104 (hR h104 r102 3)) ∧ oX20_ahead r102 x103 h104 ∧ ob h104 (hR h104 r102 6) 70 ∧ x103 < (hN h104 (hR h104 r102 6)) ∧ ob h104 (hR h104 r102 8) 70 ∧ x103 < (hN h104 (hR h104 r102 8)) ∧ mX1_mayNot (hR h104 r102 0) (hR h104 (hR h104 r102 3) (Int.toNat x103)) (hI h104 (hR h104 r102 5) (Int.toNat x103)) (hI h104 50 20) (vX20_ahead r102 x103 h104) (hI h104 (hR h104 r102 6) (Int.toNat x103)) (hI h104 (hR h104 r102 8) (Int.toNat x103)) h104 (kI Q (fun x121 h120 => if ¬ (x121 = (-1)) then Q (rV (vI x103)) h120 else nm (x103 + 1) ∧ ∀ i124 : Int, i124 = (x103 + 1) → C105 i124 h120)) else nm (x103 + 1) ∧ ∀ i126 : Int, i126 = (x103 + 1) → C105 i126 h104 else Q (rV (vI (-1))) h104) 0 h101))
theorem wX1_holds {G : Gx} (hg : gF G = true) {d : Nat} {x1 : Int} {h : Hp} {Q : Rs → Hp → Prop} (hm : mX1_holds x1 h Q) : Ct G tX1_holds (d + 363) [vR 50, vI x1] h Q := by
  refine ct_enter (L0 := [some (vR 50), some (vI x1), none, none]) rfl rfl ?_
  unfold mX1_holds at hm
  refine wc_aload_n (pc := 0) (dAt dtX1_holds 0 rfl) rfl (wc_iload_n (pc := 1) (dAt dtX1_holds 1 rfl) rfl (wc_kf hg fun zk => wc_callV (k := 1) (y' := tX1_flightAt) (av := [vI x1]) (st := []) (pc := 2) (dAt dtX1_holds 2 rfl) lkX1_464 moX1_flightAt q1938 qs52 (by decide) (zk.2 _ ka50).1 rfl rfl (Nat.le_of_ble_eq_true rfl) (wX1_flightAt hg hm) (kr_R (fun r102 h101 hm => ?_)) (kx_R rfl)))
  refine wc_astore_n (pc := 5) (dAt dtX1_holds 3 rfl) (by decide) (wc_L (L' := [some (vR 50), some (vI x1), some (vR r102), none]) rfl (wc_iconst (pc := 6) (dAt dtX1_holds 4 rfl) ⟨by decide, by decide⟩ (wc_istore_n (pc := 7) (dAt dtX1_holds 5 rfl) (by decide) (wc_L (L' := [some (vR 50), some (vI x1), some (vR r102), some (vI 0)]) rfl (wc_drp [1] rfl (wc_L (L' := [some (vR 50), none, some (vR r102), some (vI 0)]) rfl (?_)))))))
  refine wh2_ind (P := fun (x103 : Int) (h104 : Hp) => Wc G tX1_holds (d + 363) h Q 8 [some (vR 50), none, some (vR r102), some (vI x103)] [] h104) (fun C105 ih106 x103 h104 hm => ?_) hm
  obtain ⟨o107, hm⟩ := hm
  refine wc_iload_n (pc := 8) (dAt dtX1_holds 6 rfl) rfl (wc_aload_n (pc := 9) (dAt dtX1_holds 7 rfl) rfl (wc_getI (pc := 10) (dAt dtX1_holds 8 rfl) flX1_182_20 rfl o107 (wc_icmp_ge (pc := 13) (tgt := 82) (dAt dtX1_holds 9 rfl) (by decide) (fun c108 => ?_) (fun c108 => ?_))))
  · replace hm := ite_f (fun z => z c108) hm
    exact wc_iconst (pc := 82) (dAt dtX1_holds 48 rfl) ⟨by decide, by decide⟩ (wc_iret (pc := 83) (dAt dtX1_holds 49 rfl) rfl (nar_int _) hm)
  · replace hm := ite_t c108 hm
    obtain ⟨o109, o110, o111, hm⟩ := hm
    refine wc_aload_n (pc := 16) (dAt dtX1_holds 10 rfl) rfl (wc_getR (pc := 17) (dAt dtX1_holds 11 rfl) flX1_228_20 rfl o107 (wc_iload_n (pc := 20) (dAt dtX1_holds 12 rfl) rfl (wc_iald (pc := 21) (dAt dtX1_holds 13 rfl) o109 o110 o111 (wc_aload_n (pc := 22) (dAt dtX1_holds 14 rfl) rfl (wc_getKI hg (pc := 23) (dAt dtX1_holds 15 rfl) flX1_173_1 rfl ka50 (wc_icmp_le (pc := 26) (tgt := 76) (dAt dtX1_holds 16 rfl) (by decide) (fun c112 => ?_) (fun c112 => ?_)))))))
    · replace hm := ite_f (fun z => z c112) hm
      obtain ⟨o125, hm⟩ := hm
      obtain ⟨i126, ei126⟩ : ∃ i126 : Int, i126 = (x103 + 1) := ⟨_, rfl⟩
      replace hm := hm i126 ei126
      exact wc_iinc (v := i126) (pc := 76) (dAt dtX1_holds 46 rfl) rfl ei126 (ei126 ▸ o125) (by decide) (wc_L (L' := [some (vR 50), none, some (vR r102), some (vI i126)]) rfl (wc_goto (pc := 79) (tgt := 8) (dAt dtX1_holds 47 rfl) (by decide) (ih106 _ _ hm)))
    · replace hm := ite_t c112 hm
      obtain ⟨o113, o114, o115, o116, o117, o118, o119, hm⟩ := hm
      refine wc_aload_n (pc := 29) (dAt dtX1_holds 17 rfl) rfl (wc_aload_n (pc := 30) (dAt dtX1_holds 18 rfl) rfl (wc_getR (pc := 31) (dAt dtX1_holds 19 rfl) flX1_140_20 rfl o107 (wc_aload_n (pc := 34) (dAt dtX1_holds 20 rfl) rfl (wc_getR (pc := 35) (dAt dtX1_holds 21 rfl) flX1_189_20 rfl o107 (wc_iload_n (pc := 38) (dAt dtX1_holds 22 rfl) rfl (wc_aald (pc := 39) (dAt dtX1_holds 23 rfl) ⟨by decide, by decide⟩ o113 o110 o114 (wc_aload_n (pc := 40) (dAt dtX1_holds 24 rfl) rfl (wc_getR (pc := 41) (dAt dtX1_holds 25 rfl) flX1_228_20 rfl o107 (wc_iload_n (pc := 44) (dAt dtX1_holds 26 rfl) rfl (wc_iald (pc := 45) (dAt dtX1_holds 27 rfl) o109 o110 o111 (wc_aload_n (pc := 46) (dAt dtX1_holds 28 rfl) rfl (wc_getKI hg (pc := 47) (dAt dtX1_holds 29 rfl) flX1_173_1 rfl ka50 (wc_aload_n (pc := 50) (dAt dtX1_holds 30 rfl) rfl (wc_iload_n (pc := 51) (dAt dtX1_holds 31 rfl) rfl (wc_callV (k := 20) (y' := tX20_ahead) (P := eR (vX20_ahead r102 x103 h104) h104) (pc := 52) (dAt dtX1_holds 32 rfl) lkX1_185 moX20_ahead q1892 q1893 (by decide) o107 rfl rfl (Nat.le_of_ble_eq_true rfl) (wX20_ahead hg o115 ⟨rfl, rfl⟩) (ep_R (wc_aload_n (pc := 55) (dAt dtX1_holds 33 rfl) rfl (wc_getR (pc := 56) (dAt dtX1_holds 34 rfl) flX1_196_20 rfl o107 (wc_iload_n (pc := 59) (dAt dtX1_holds 35 rfl) rfl (wc_iald (pc := 60) (dAt dtX1_holds 36 rfl) o116 o110 o117 (wc_aload_n (pc := 61) (dAt dtX1_holds 37 rfl) rfl (wc_getR (pc := 62) (dAt dtX1_holds 38 rfl) flX1_225_20 rfl o107 (wc_iload_n (pc := 65) (dAt dtX1_holds 39 rfl) rfl (wc_iald (pc := 66) (dAt dtX1_holds 40 rfl) o118 o110 o119 (wc_kf hg fun zk => wc_callV (k := 1) (y' := tX1_mayNot) (av := [vR (hR h104 r102 0), vR (hR h104 (hR h104 r102 3) (Int.toNat x103)), vI (hI h104 (hR h104 r102 5) (Int.toNat x103)), vI (hI h104 50 20), vR (vX20_ahead r102 x103 h104), vI (hI h104 (hR h104 r102 6) (Int.toNat x103)), vI (hI h104 (hR h104 r102 8) (Int.toNat x103))]) (st := []) (pc := 67) (dAt dtX1_holds 41 rfl) lkX1_235 moX1_mayNot q1553 qs36 (by decide) (zk.2 _ ka50).1 rfl rfl (Nat.le_of_ble_eq_true rfl) (wX1_mayNot hg hm) (kr_I (fun x121 h120 hm => ?_)) (kx_I rfl))))))))))) ex_R)))))))))))))))
      refine wc_iconst (pc := 70) (dAt dtX1_holds 42 rfl) ⟨by decide, by decide⟩ (wc_icmp_eq (pc := 71) (tgt := 76) (dAt dtX1_holds 43 rfl) (by decide) (fun c122 => ?_) (fun c122 => ?_))
      · replace hm := ite_f (fun z => z c122) hm
        obtain ⟨o123, hm⟩ := hm
        obtain ⟨i124, ei124⟩ : ∃ i124 : Int, i124 = (x103 + 1) := ⟨_, rfl⟩
        replace hm := hm i124 ei124
        exact wc_iinc (v := i124) (pc := 76) (dAt dtX1_holds 46 rfl) rfl ei124 (ei124 ▸ o123) (by decide) (wc_L (L' := [some (vR 50), none, some (vR r102), some (vI i124)]) rfl (wc_goto (pc := 79) (tgt := 8) (dAt dtX1_holds 47 rfl) (by decide) (ih106 _ _ hm)))
      · replace hm := ite_t c122 hm
        exact wc_iload_n (pc := 74) (dAt dtX1_holds 44 rfl) rfl (wc_iret (pc := 75) (dAt dtX1_holds 45 rfl) rfl (nar_int _) hm)
def tX0_holds : Mt := (⟨"FlyingDoctorsLaw", "holds", "(LFlyingDoctors;I[J)I"⟩, method_20_code, 4, (Option.some Jvm.ClassFile.FieldType.int), [((0 : Nat), (9 : Nat), (12 : Nat), (13 : Nat))])
def DX0_holds : List (Nat × Instr × Nat) := [(0, .aload_n 2, 1), (1, .iconst 0, 1), (2, .aload_n 0, 1), (3, .iload_n 1, 1), (4, .invokevirtual 73, 3), (7, .i2l, 1), (8, .lastore, 1), (9, .goto 6, 3), (12, .astore_n 3, 1), (13, .iconst 1, 1), (14, .ireturn, 1), (15, .iconst 0, 1), (16, .ireturn, 1)]
theorem dtX0_holds : chkD (mB tX0_holds) DX0_holds = true := by decide +kernel
theorem moX0_holds : MethOk tX0_holds 3 := ⟨Or.inr q1942, by decide +kernel, ⟨by decide, by decide⟩, by decide +kernel⟩
def mX0_holds (x1 : Int) (h : Hp) (Q : Rs → Hp → Prop) : Prop := mX1_holds x1 h (kIx (fun a103 h104 => ob h104 a103 41 ∧ (Q (rV (vI 1)) h104)) (fun x102 h101 => ∀ h106 : Hp, h106 = sL h101 158 0 x102 → Q (rV (vI 0)) h106))
theorem wX0_holds {G : Gx} (hg : gF G = true) {d : Nat} {x1 : Int} {h : Hp} {Q : Rs → Hp → Prop} (hm : mX0_holds x1 h Q) : Ct G tX0_holds (d + 364) [vR 50, vI x1, vR 158] h Q := by
  refine ct_enter (L0 := [some (vR 50), some (vI x1), some (vR 158), none]) rfl rfl ?_
  unfold mX0_holds at hm
  refine wc_aload_n (pc := 0) (dAt dtX0_holds 0 rfl) rfl (wc_iconst (pc := 1) (dAt dtX0_holds 1 rfl) ⟨by decide, by decide⟩ (wc_aload_n (pc := 2) (dAt dtX0_holds 2 rfl) rfl (wc_iload_n (pc := 3) (dAt dtX0_holds 3 rfl) rfl (wc_kf hg fun zk => wc_callV (k := 1) (y' := tX1_holds) (av := [vI x1]) (st := [vI 0, vR 158]) (pc := 4) (dAt dtX0_holds 4 rfl) lkX0_73 moX1_holds q1944 q1945 (by decide) (zk.2 _ ka50).1 rfl rfl (Nat.le_of_ble_eq_true rfl) (wX1_holds hg hm) (krx_I (fun x102 h101 hm => ?_)) (kxx_I (fun a103 h104 hm => ?_))))))
  · obtain ⟨h106, eh106⟩ : ∃ h106 : Hp, h106 = sL h101 158 0 x102 := ⟨_, rfl⟩
    replace hm := hm h106 eh106
    exact wc_i2l (pc := 7) (dAt dtX0_holds 5 rfl) (wc_lastK hg (pc := 8) (dAt dtX0_holds 6 rfl) kr158 (by decide) (by decide) (by decide) (wc_hp eh106 (wc_goto (pc := 9) (tgt := 15) (dAt dtX0_holds 7 rfl) (by decide) (wc_iconst (pc := 15) (dAt dtX0_holds 11 rfl) ⟨by decide, by decide⟩ (wc_iret (pc := 16) (dAt dtX0_holds 12 rfl) rfl (nar_int _) hm)))))
  · obtain ⟨o105, hm⟩ := hm
    refine wx_hit rfl rfl (by decide) q676 (by decide) o105 rfl ?_
    exact wc_astore_n (pc := 12) (dAt dtX0_holds 8 rfl) (by decide) (wc_L (L' := [some (vR 50), some (vI x1), some (vR 158), some (vR a103)]) rfl (wc_iconst (pc := 13) (dAt dtX0_holds 9 rfl) ⟨by decide, by decide⟩ (wc_iret (pc := 14) (dAt dtX0_holds 10 rfl) rfl (nar_int _) hm)))
def tX4_holds : Mt := (⟨"FlyingDoctorsModel", "holds", "(I)I"⟩, prog_24_method_92_code, 5, (Option.some Jvm.ClassFile.FieldType.int), [])
def DX4_holds : List (Nat × Instr × Nat) := [(0, .aload_n 0, 1), (1, .iload_n 1, 1), (2, .invokevirtual 569, 3), (5, .ifCond .ne 5, 3), (8, .iconst 0, 1), (9, .ireturn, 1), (10, .iconst 0, 1), (11, .istore_n 2, 1), (12, .iload_n 2, 1), (13, .aload_n 0, 1), (14, .getfield 256, 3), (17, .iload_n 1, 1), (18, .iaload, 1), (19, .if_icmp .ge 98, 3), (22, .bipush 7, 2), (24, .iload_n 1, 1), (25, .imul, 1), (26, .iload_n 2, 1), (27, .iadd, 1), (28, .istore_n 3, 1), (29, .iload_n 2, 1), (30, .ifCond .ne 12, 3), (33, .aload_n 0, 1), (34, .getfield 259, 3), (37, .iload_n 1, 1), (38, .iaload, 1), (39, .goto 11, 3), (42, .aload_n 0, 1), (43, .getfield 274, 3), (46, .iload_n 3, 1), (47, .iconst 1, 1), (48, .isub, 1), (49, .iaload, 1), (50, .istore 4, 2), (52, .aload_n 0, 1), (53, .getfield 280, 3), (56, .iload_n 3, 1), (57, .iaload, 1), (58, .aload_n 0, 1), (59, .getfield 81, 3), (62, .if_icmp .le 49, 3), (65, .aload_n 0, 1), (66, .aload_n 0, 1), (67, .getfield 250, 3), (70, .iload_n 1, 1), (71, .iaload, 1), (72, .aload_n 0, 1), (73, .getfield 274, 3), (76, .iload_n 3, 1), (77, .iaload, 1), (78, .aload_n 0, 1), (79, .getfield 280, 3), (82, .iload_n 3, 1), (83, .iaload, 1), (84, .aload_n 0, 1), (85, .getfield 81, 3), (88, .iload 4, 2), (90, .aload_n 0, 1), (91, .getfield 283, 3), (94, .iload_n 3, 1), (95, .iaload, 1), (96, .aload_n 0, 1), (97, .getfield 289, 3), (100, .iload_n 3, 1), (101, .iaload, 1), (102, .invokevirtual 481, 3), (105, .iconst (-1), 1), (106, .if_icmp .eq 5, 3), (109, .iload_n 2, 1), (110, .ireturn, 1), (111, .iinc 2 1, 3), (114, .goto (-102), 3), (117, .iconst (-1), 1), (118, .ireturn, 1)]
theorem dtX4_holds : chkD (mB tX4_holds) DX4_holds = true := by decide +kernel
theorem moX4_holds : MethOk tX4_holds 1 := ⟨Or.inl ⟨rfl, q2841⟩, by decide +kernel, ⟨by decide, by decide⟩, by decide +kernel⟩
def mX4_holds (x1 : Int) (h : Hp) (Q : Rs → Hp → Prop) : Prop := mX4_isFlight x1 h (kI Q (fun x102 h101 => if ¬ (x102 ≠ 0) then Q (rV (vI 0)) h101 else wh2 (fun (C106 : Int → Hp → Prop) (x104 : Int) (h105 : Hp) => 0 ≤ x1 ∧ x1 < 60 ∧ if ¬ ((hI h105 130 (Int.toNat x1)) ≤ x104) then nm (7 * x1) ∧ nm ((7 * x1) + x104) ∧ ∀ v113 : Int, v113 = ((7 * x1) + x104) → ((¬ (¬ (x104 ≠ 0)) → nm (v113 - 1) ∧ 0 ≤ (v113 - 1) ∧ (v113 - 1) < 420)) ∧ ∀ v118 : Int, v118 = (if ¬ (x104 ≠ 0) then (hI h105 131 (Int.toNat x1)) else (hI h105 136 (Int.toNat (v113 - 1)))) → 0 ≤ v113 ∧ v113 < 420 ∧ if ¬ ((hI h105 138 (Int.toNat v113)) ≤ (hI h105 75 1)) then mX4_mayNot (hI h105 128 (Int.toNat x1)) (hI h105 136 (Int.toNat v113)) (hI h105 138 (Int.toNat v113)) (hI h105 75 1) v118 (hI h105 139 (Int.toNat v113)) (hI h105 141 (Int.toNat v113)) h105 (kI Q (fun x123 h122 => if ¬ (x123 = (-1)) then Q (rV (vI x104)) h122 else nm (x104 + 1) ∧ ∀ i126 : Int, i126 = (x104 + 1) → C106 i126 h122)) else nm (x104 + 1) ∧ ∀ i128 : Int, i128 = (x104 + 1) → C106 i128 h105 else Q (rV (vI (-1))) h105) 0 h101))
theorem wX4_holds {G : Gx} (hg : gF G = true) {d : Nat} {x1 : Int} {h : Hp} {Q : Rs → Hp → Prop} (hm : mX4_holds x1 h Q) : Ct G tX4_holds (d + 4) [vR 75, vI x1] h Q := by
  refine ct_enter (L0 := [some (vR 75), some (vI x1), none, none, none]) rfl rfl ?_
  unfold mX4_holds at hm
  refine wc_aload_n (pc := 0) (dAt dtX4_holds 0 rfl) rfl (wc_iload_n (pc := 1) (dAt dtX4_holds 1 rfl) rfl (wc_kf hg fun zk => wc_callV (k := 4) (y' := tX4_isFlight) (av := [vI x1]) (st := []) (pc := 2) (dAt dtX4_holds 2 rfl) lkX4_569 moX4_isFlight q2836 qs117 (by decide) (zk.2 _ ka75).1 rfl rfl (Nat.le_of_ble_eq_true rfl) (wX4_isFlight hg hm) (kr_I (fun x102 h101 hm => ?_)) (kx_I rfl)))
  refine wc_if_ne (pc := 5) (tgt := 10) (dAt dtX4_holds 3 rfl) (by decide) (fun c103 => ?_) (fun c103 => ?_)
  · replace hm := ite_f (fun z => z c103) hm
    refine wc_iconst (pc := 10) (dAt dtX4_holds 6 rfl) ⟨by decide, by decide⟩ (wc_istore_n (pc := 11) (dAt dtX4_holds 7 rfl) (by decide) (wc_L (L' := [some (vR 75), some (vI x1), some (vI 0), none, none]) rfl (?_)))
    refine wh2_ind (P := fun (x104 : Int) (h105 : Hp) => Wc G tX4_holds (d + 4) h Q 12 [some (vR 75), some (vI x1), some (vI x104), none, none] [] h105) (fun C106 ih107 x104 h105 hm => ?_) hm
    obtain ⟨o108, o109, hm⟩ := hm
    refine wc_iload_n (pc := 12) (dAt dtX4_holds 8 rfl) rfl (wc_aload_n (pc := 13) (dAt dtX4_holds 9 rfl) rfl (wc_getKR hg (pc := 14) (dAt dtX4_holds 10 rfl) flX4_256_4 rfl ka75 kf75_84 (wc_iload_n (pc := 17) (dAt dtX4_holds 11 rfl) rfl (wc_ialdK hg (pc := 18) (dAt dtX4_holds 12 rfl) kr130 o108 o109 (wc_icmp_ge (pc := 19) (tgt := 117) (dAt dtX4_holds 13 rfl) (by decide) (fun c110 => ?_) (fun c110 => ?_))))))
    · replace hm := ite_f (fun z => z c110) hm
      exact wc_iconst (pc := 117) (dAt dtX4_holds 72 rfl) ⟨by decide, by decide⟩ (wc_iret (pc := 118) (dAt dtX4_holds 73 rfl) rfl (nar_int _) hm)
    · replace hm := ite_t c110 hm
      obtain ⟨o111, o112, hm⟩ := hm
      obtain ⟨v113, ev113⟩ : ∃ v113 : Int, v113 = ((7 * x1) + x104) := ⟨_, rfl⟩
      replace hm := hm v113 ev113
      obtain ⟨o117, hm⟩ := hm
      obtain ⟨v118, ev118⟩ : ∃ v118 : Int, v118 = (if ¬ (x104 ≠ 0) then (hI h105 131 (Int.toNat x1)) else (hI h105 136 (Int.toNat (v113 - 1)))) := ⟨_, rfl⟩
      replace hm := hm v118 ev118
      refine wc_bipush (pc := 22) (dAt dtX4_holds 14 rfl) ⟨by decide, by decide, by decide⟩ (wc_iload_n (pc := 24) (dAt dtX4_holds 15 rfl) rfl (wc_imul (pc := 25) (dAt dtX4_holds 16 rfl) o111 (wc_iload_n (pc := 26) (dAt dtX4_holds 17 rfl) rfl (wc_iadd (pc := 27) (dAt dtX4_holds 18 rfl) o112 (wc_vi ev113 (wc_istore_n (pc := 28) (dAt dtX4_holds 19 rfl) (by decide) (wc_L (L' := [some (vR 75), some (vI x1), some (vI x104), some (vI v113), none]) rfl (wc_iload_n (pc := 29) (dAt dtX4_holds 20 rfl) rfl (?_)))))))))
      have kj129 : Wc G tX4_holds (d + 4) h Q 50 [some (vR 75), some (vI x1), some (vI x104), some (vI v113), none] [vI v118] h105 := by
        obtain ⟨o119, o120, hm⟩ := hm
        refine wc_istore (pc := 50) (dAt dtX4_holds 33 rfl) (by decide) (wc_L (L' := [some (vR 75), some (vI x1), some (vI x104), some (vI v113), some (vI v118)]) rfl (wc_aload_n (pc := 52) (dAt dtX4_holds 34 rfl) rfl (wc_getKR hg (pc := 53) (dAt dtX4_holds 35 rfl) flX4_280_4 rfl ka75 kf75_92 (wc_iload_n (pc := 56) (dAt dtX4_holds 36 rfl) rfl (wc_ialdK hg (pc := 57) (dAt dtX4_holds 37 rfl) kr138 o119 o120 (wc_aload_n (pc := 58) (dAt dtX4_holds 38 rfl) rfl (wc_getKI hg (pc := 59) (dAt dtX4_holds 39 rfl) flX4_81_4 rfl ka75 (wc_icmp_le (pc := 62) (tgt := 111) (dAt dtX4_holds 40 rfl) (by decide) (fun c121 => ?_) (fun c121 => ?_)))))))))
        · replace hm := ite_f (fun z => z c121) hm
          obtain ⟨o127, hm⟩ := hm
          obtain ⟨i128, ei128⟩ : ∃ i128 : Int, i128 = (x104 + 1) := ⟨_, rfl⟩
          replace hm := hm i128 ei128
          exact wc_iinc (v := i128) (pc := 111) (dAt dtX4_holds 70 rfl) rfl ei128 (ei128 ▸ o127) (by decide) (wc_L (L' := [some (vR 75), some (vI x1), some (vI i128), some (vI v113), some (vI v118)]) rfl (wc_goto (pc := 114) (tgt := 12) (dAt dtX4_holds 71 rfl) (by decide) (wc_drp [3, 4] rfl (ih107 _ _ hm))))
        · replace hm := ite_t c121 hm
          refine wc_aload_n (pc := 65) (dAt dtX4_holds 41 rfl) rfl (wc_aload_n (pc := 66) (dAt dtX4_holds 42 rfl) rfl (wc_getKR hg (pc := 67) (dAt dtX4_holds 43 rfl) flX4_250_4 rfl ka75 kf75_82 (wc_iload_n (pc := 70) (dAt dtX4_holds 44 rfl) rfl (wc_ialdK hg (pc := 71) (dAt dtX4_holds 45 rfl) kr128 o108 o109 (wc_aload_n (pc := 72) (dAt dtX4_holds 46 rfl) rfl (wc_getKR hg (pc := 73) (dAt dtX4_holds 47 rfl) flX4_274_4 rfl ka75 kf75_90 (wc_iload_n (pc := 76) (dAt dtX4_holds 48 rfl) rfl (wc_ialdK hg (pc := 77) (dAt dtX4_holds 49 rfl) kr136 o119 o120 (wc_aload_n (pc := 78) (dAt dtX4_holds 50 rfl) rfl (wc_getKR hg (pc := 79) (dAt dtX4_holds 51 rfl) flX4_280_4 rfl ka75 kf75_92 (wc_iload_n (pc := 82) (dAt dtX4_holds 52 rfl) rfl (wc_ialdK hg (pc := 83) (dAt dtX4_holds 53 rfl) kr138 o119 o120 (wc_aload_n (pc := 84) (dAt dtX4_holds 54 rfl) rfl (wc_getKI hg (pc := 85) (dAt dtX4_holds 55 rfl) flX4_81_4 rfl ka75 (wc_iload (pc := 88) (dAt dtX4_holds 56 rfl) rfl (wc_aload_n (pc := 90) (dAt dtX4_holds 57 rfl) rfl (wc_getKR hg (pc := 91) (dAt dtX4_holds 58 rfl) flX4_283_4 rfl ka75 kf75_93 (wc_iload_n (pc := 94) (dAt dtX4_holds 59 rfl) rfl (wc_ialdK hg (pc := 95) (dAt dtX4_holds 60 rfl) kr139 o119 o120 (wc_aload_n (pc := 96) (dAt dtX4_holds 61 rfl) rfl (wc_getKR hg (pc := 97) (dAt dtX4_holds 62 rfl) flX4_289_4 rfl ka75 kf75_95 (wc_iload_n (pc := 100) (dAt dtX4_holds 63 rfl) rfl (wc_ialdK hg (pc := 101) (dAt dtX4_holds 64 rfl) kr141 o119 o120 (wc_kf hg fun zk => wc_callV (k := 4) (y' := tX4_mayNot) (av := [vI (hI h105 128 (Int.toNat x1)), vI (hI h105 136 (Int.toNat v113)), vI (hI h105 138 (Int.toNat v113)), vI (hI h105 75 1), vI v118, vI (hI h105 139 (Int.toNat v113)), vI (hI h105 141 (Int.toNat v113))]) (st := []) (pc := 102) (dAt dtX4_holds 65 rfl) lkX4_481 moX4_mayNot q2674 qs92 (by decide) (zk.2 _ ka75).1 rfl rfl (Nat.le_of_ble_eq_true rfl) (wX4_mayNot hg hm) (kr_I (fun x123 h122 hm => ?_)) (kx_I rfl)))))))))))))))))))))))))
          refine wc_iconst (pc := 105) (dAt dtX4_holds 66 rfl) ⟨by decide, by decide⟩ (wc_icmp_eq (pc := 106) (tgt := 111) (dAt dtX4_holds 67 rfl) (by decide) (fun c124 => ?_) (fun c124 => ?_))
          · replace hm := ite_f (fun z => z c124) hm
            obtain ⟨o125, hm⟩ := hm
            obtain ⟨i126, ei126⟩ : ∃ i126 : Int, i126 = (x104 + 1) := ⟨_, rfl⟩
            replace hm := hm i126 ei126
            exact wc_iinc (v := i126) (pc := 111) (dAt dtX4_holds 70 rfl) rfl ei126 (ei126 ▸ o125) (by decide) (wc_L (L' := [some (vR 75), some (vI x1), some (vI i126), some (vI v113), some (vI v118)]) rfl (wc_goto (pc := 114) (tgt := 12) (dAt dtX4_holds 71 rfl) (by decide) (wc_drp [3, 4] rfl (ih107 _ _ hm))))
          · replace hm := ite_t c124 hm
            exact wc_iload_n (pc := 109) (dAt dtX4_holds 68 rfl) rfl (wc_iret (pc := 110) (dAt dtX4_holds 69 rfl) rfl (nar_int _) hm)
      have p130 := o117
      have k131 : (¬ (x104 ≠ 0)) → Wc G tX4_holds (d + 4) h Q 33 [some (vR 75), some (vI x1), some (vI x104), some (vI v113), none] [] h105 := fun c133 => by
        have z134 := kj129
        rw [show v118 = (hI h105 131 (Int.toNat x1)) from ev118.trans (if_pos c133)] at z134
        exact wc_aload_n (pc := 33) (dAt dtX4_holds 22 rfl) rfl (wc_getKR hg (pc := 34) (dAt dtX4_holds 23 rfl) flX4_259_4 rfl ka75 kf75_85 (wc_iload_n (pc := 37) (dAt dtX4_holds 24 rfl) rfl (wc_ialdK hg (pc := 38) (dAt dtX4_holds 25 rfl) kr131 o108 o109 (wc_goto (pc := 39) (tgt := 50) (dAt dtX4_holds 26 rfl) (by decide) (z134)))))
      have k132 : ¬ (¬ (x104 ≠ 0)) → Wc G tX4_holds (d + 4) h Q 42 [some (vR 75), some (vI x1), some (vI x104), some (vI v113), none] [] h105 := fun c133 => by
        obtain ⟨o114, o115, o116⟩ := (p130 c133)
        have z136 := kj129
        rw [show v118 = (hI h105 136 (Int.toNat (v113 - 1))) from ev118.trans (if_neg c133)] at z136
        exact wc_aload_n (pc := 42) (dAt dtX4_holds 27 rfl) rfl (wc_getKR hg (pc := 43) (dAt dtX4_holds 28 rfl) flX4_274_4 rfl ka75 kf75_90 (wc_iload_n (pc := 46) (dAt dtX4_holds 29 rfl) rfl (wc_iconst (pc := 47) (dAt dtX4_holds 30 rfl) ⟨by decide, by decide⟩ (wc_isub (pc := 48) (dAt dtX4_holds 31 rfl) o114 (wc_ialdK hg (pc := 49) (dAt dtX4_holds 32 rfl) kr136 o115 o116 (z136))))))
      exact wc_if_ne (pc := 30) (tgt := 42) (dAt dtX4_holds 21 rfl) (by decide) (fun c138 => (k132 (fun z => z c138))) (fun c138 => (k131 c138))
  · replace hm := ite_t c103 hm
    exact wc_iconst (pc := 8) (dAt dtX4_holds 4 rfl) ⟨by decide, by decide⟩ (wc_iret (pc := 9) (dAt dtX4_holds 5 rfl) rfl (nar_int _) hm)
def tX1_wherePlane : Mt := (⟨"FlyingDoctors", "wherePlane", "(LFlyingDoctors$Plane;I)I"⟩, prog_1_method_53_code, 7, (Option.some Jvm.ClassFile.FieldType.int), [])
def DX1_wherePlane : List (Nat × Instr × Nat) := [(0, .aload_n 1, 1), (1, .getfield 471, 3), (4, .getfield 84, 3), (7, .istore_n 3, 1), (8, .iconst 0, 1), (9, .istore 4, 2), (11, .iload 4, 2), (13, .aload_n 0, 1), (14, .getfield 179, 3), (17, .invokeinterface 16 1, 5), (22, .if_icmp .ge 93, 3), (25, .aload_n 0, 1), (26, .getfield 179, 3), (29, .iload 4, 2), (31, .invokeinterface 22 2, 5), (36, .checkcast 141, 3), (39, .astore 5, 2), (41, .iconst 0, 1), (42, .istore 6, 2), (44, .iload 6, 2), (46, .aload 5, 2), (48, .getfield 182, 3), (51, .if_icmp .ge 58, 3), (54, .aload 5, 2), (56, .getfield 140, 3), (59, .aload_n 1, 1), (60, .if_acmp .ne 49, 3), (63, .iload_n 2, 1), (64, .aload 5, 2), (66, .getfield 468, 3), (69, .iload 6, 2), (71, .iaload, 1), (72, .if_icmp .lt 31, 3), (75, .iload_n 2, 1), (76, .aload 5, 2), (78, .getfield 228, 3), (81, .iload 6, 2), (83, .iaload, 1), (84, .if_icmp .ge 7, 3), (87, .iconst (-1), 1), (88, .goto 14, 3), (91, .aload 5, 2), (93, .getfield 189, 3), (96, .iload 6, 2), (98, .aaload, 1), (99, .getfield 84, 3), (102, .istore_n 3, 1), (103, .iinc 6 1, 3), (106, .goto (-62), 3), (109, .iinc 4 1, 3), (112, .goto (-101), 3), (115, .iload_n 3, 1), (116, .ireturn, 1)]
theorem dtX1_wherePlane : chkD (mB tX1_wherePlane) DX1_wherePlane = true := by decide +kernel
theorem moX1_wherePlane : MethOk tX1_wherePlane 2 := ⟨Or.inl ⟨rfl, q1957⟩, by decide +kernel, ⟨by decide, by decide⟩, by decide +kernel⟩
def mX1_wherePlane (r1 : Nat) (x2 : Int) (h : Hp) (Q : Rs → Hp → Prop) : Prop := ob h r1 6 ∧ ob h (hR h r1 4) 5 ∧ ∀ v103 : Int, v103 = (hI h (hR h r1 4) 0) → wh2 (fun (C106 : Int → Int → Prop) (x104 : Int) (x105 : Int) => oJ2_size 62 h ∧ if ¬ ((vJ2_size 62 h) ≤ x105) then oJ2_get 62 x105 h ∧ ob h (vJ2_get 62 x105 h) 20 ∧ ∀ r112 : Nat, r112 = (vJ2_get 62 x105 h) → wh2 (fun (C115 : Int → Int → Prop) (x113 : Int) (x114 : Int) => ob h r112 20 ∧ ((¬ ((hI h r112 2) ≤ x114) → acok h (hR h r112 0) r1)) ∧ if ¬ ((hI h r112 2) ≤ x114) ∧ (¬ ((hR h r112 0) ≠ r1)) then ob h (hR h r112 4) 70 ∧ 0 ≤ x114 ∧ x114 < (hN h (hR h r112 4)) ∧ (((¬ (x2 < (hI h (hR h r112 4) (Int.toNat x114)))) → ob h (hR h r112 5) 70 ∧ x114 < (hN h (hR h r112 5)) ∧ (¬ (¬ ((hI h (hR h r112 5) (Int.toNat x114)) ≤ x2)) → ob h (hR h r112 3) 75 ∧ x114 < (hN h (hR h r112 3)) ∧ ob h (hR h (hR h r112 3) (Int.toNat x114)) 5))) ∧ ∀ v130 : Int, v130 = (if ¬ (x2 < (hI h (hR h r112 4) (Int.toNat x114))) then (if ¬ ((hI h (hR h r112 5) (Int.toNat x114)) ≤ x2) then (-1) else (hI h (hR h (hR h r112 3) (Int.toNat x114)) 0)) else x113) → nm (x114 + 1) ∧ ∀ i132 : Int, i132 = (x114 + 1) → C115 v130 i132 else nm (x105 + 1) ∧ ∀ i151 : Int, i151 = (x105 + 1) → C106 x113 i151) x104 0 else Q (rV (vI x104)) h) v103 0
theorem wX1_wherePlane {G : Gx} (hg : gF G = true) {d : Nat} {r1 : Nat} {x2 : Int} {h : Hp} {Q : Rs → Hp → Prop} (hm : mX1_wherePlane r1 x2 h Q) : Ct G tX1_wherePlane (d + 3) [vR 50, vR r1, vI x2] h Q := by
  refine ct_enter (L0 := [some (vR 50), some (vR r1), some (vI x2), none, none, none, none]) rfl rfl ?_
  unfold mX1_wherePlane at hm
  obtain ⟨o101, o102, hm⟩ := hm
  obtain ⟨v103, ev103⟩ : ∃ v103 : Int, v103 = (hI h (hR h r1 4) 0) := ⟨_, rfl⟩
  replace hm := hm v103 ev103
  refine wc_aload_n (pc := 0) (dAt dtX1_wherePlane 0 rfl) rfl (wc_getR (pc := 1) (dAt dtX1_wherePlane 1 rfl) flX1_471_6 rfl o101 (wc_getI (pc := 4) (dAt dtX1_wherePlane 2 rfl) flX1_84_5 rfl o102 (wc_vi ev103 (wc_istore_n (pc := 7) (dAt dtX1_wherePlane 3 rfl) (by decide) (wc_L (L' := [some (vR 50), some (vR r1), some (vI x2), some (vI v103), none, none, none]) rfl (wc_iconst (pc := 8) (dAt dtX1_wherePlane 4 rfl) ⟨by decide, by decide⟩ (wc_istore (pc := 9) (dAt dtX1_wherePlane 5 rfl) (by decide) (wc_L (L' := [some (vR 50), some (vR r1), some (vI x2), some (vI v103), some (vI 0), none, none]) rfl (?_)))))))))
  refine wh2_ind (P := fun (x104 : Int) (x105 : Int) => Wc G tX1_wherePlane (d + 3) h Q 11 [some (vR 50), some (vR r1), some (vI x2), some (vI x104), some (vI x105), none, none] [] h) (fun C106 ih107 x104 x105 hm => ?_) hm
  obtain ⟨o108, hm⟩ := hm
  refine wc_iload (pc := 11) (dAt dtX1_wherePlane 6 rfl) rfl (wc_aload_n (pc := 13) (dAt dtX1_wherePlane 7 rfl) rfl (wc_getKR hg (pc := 14) (dAt dtX1_wherePlane 8 rfl) flX1_179_1 rfl ka50 kf50_12 (wc_kf hg fun zk => (wc_callF (k := 32) (x := ⟨"java/util/List", "size", "()I"⟩) (y' := tJ2_size) (P := eI (vJ2_size 62 h) h) (pc := 17) (dAt dtX1_wherePlane 9 rfl) q364 q366 q365 ⟨by decide, by decide⟩ moJ2_size rfl q370 q371 q369 q367 q368 (by decide) (zk.2 _ ka62).1 rfl rfl (Nat.le_of_ble_eq_true rfl) (wJ2_size hg o108 ⟨rfl, rfl⟩) (ep_I (wc_icmp_ge (pc := 22) (tgt := 115) (dAt dtX1_wherePlane 10 rfl) (by decide) (fun c109 => ?_) (fun c109 => ?_))) ex_I))))
  · replace hm := ite_f (fun z => z c109) hm
    exact wc_iload_n (pc := 115) (dAt dtX1_wherePlane 51 rfl) rfl (wc_iret (pc := 116) (dAt dtX1_wherePlane 52 rfl) rfl (nar_int _) hm)
  · replace hm := ite_t c109 hm
    obtain ⟨o110, o111, hm⟩ := hm
    obtain ⟨r112, er112⟩ : ∃ r112 : Nat, r112 = (vJ2_get 62 x105 h) := ⟨_, rfl⟩
    replace hm := hm r112 er112
    refine wc_aload_n (pc := 25) (dAt dtX1_wherePlane 11 rfl) rfl (wc_getKR hg (pc := 26) (dAt dtX1_wherePlane 12 rfl) flX1_179_1 rfl ka50 kf50_12 (wc_iload (pc := 29) (dAt dtX1_wherePlane 13 rfl) rfl (wc_kf hg fun zk => (wc_callF (k := 32) (x := ⟨"java/util/List", "get", "(I)Ljava/lang/Object;"⟩) (y' := tJ2_get) (P := eR (vJ2_get 62 x105 h) h) (pc := 31) (dAt dtX1_wherePlane 14 rfl) q506 q508 q507 ⟨by decide, by decide⟩ moJ2_get rfl q511 q512 q510 q367 q509 (by decide) (zk.2 _ ka62).1 rfl rfl (Nat.le_of_ble_eq_true rfl) (wJ2_get hg o110 ⟨rfl, rfl⟩) (ep_R (wc_cast (pc := 36) (dAt dtX1_wherePlane 15 rfl) q1820 (by decide) (Or.inl rfl) o111 (wc_vr er112 (wc_astore (pc := 39) (dAt dtX1_wherePlane 16 rfl) (by decide) (wc_L (L' := [some (vR 50), some (vR r1), some (vI x2), some (vI x104), some (vI x105), some (vR r112), none]) rfl (wc_iconst (pc := 41) (dAt dtX1_wherePlane 17 rfl) ⟨by decide, by decide⟩ (wc_istore (pc := 42) (dAt dtX1_wherePlane 18 rfl) (by decide) (wc_L (L' := [some (vR 50), some (vR r1), some (vI x2), some (vI x104), some (vI x105), some (vR r112), some (vI 0)]) rfl (?_))))))))) ex_R))))
    refine wh2_ind (P := fun (x113 : Int) (x114 : Int) => Wc G tX1_wherePlane (d + 3) h Q 44 [some (vR 50), some (vR r1), some (vI x2), some (vI x113), some (vI x105), some (vR r112), some (vI x114)] [] h) (fun C115 ih116 x113 x114 hm => ?_) hm
    obtain ⟨o117, o119, hm⟩ := hm
    refine wc_iload (pc := 44) (dAt dtX1_wherePlane 19 rfl) rfl (wc_aload (pc := 46) (dAt dtX1_wherePlane 20 rfl) rfl (wc_getI (pc := 48) (dAt dtX1_wherePlane 21 rfl) flX1_182_20 rfl o117 (?_)))
    have k152 : (¬ ((hI h r112 2) ≤ x114) ∧ (¬ ((hR h r112 0) ≠ r1))) → Wc G tX1_wherePlane (d + 3) h Q 63 [some (vR 50), some (vR r1), some (vI x2), some (vI x113), some (vI x105), some (vR r112), some (vI x114)] [] h := fun c120 => by
      replace hm := ite_t c120 hm
      obtain ⟨o121, o122, o123, o129, hm⟩ := hm
      obtain ⟨v130, ev130⟩ : ∃ v130 : Int, v130 = (if ¬ (x2 < (hI h (hR h r112 4) (Int.toNat x114))) then (if ¬ ((hI h (hR h r112 5) (Int.toNat x114)) ≤ x2) then (-1) else (hI h (hR h (hR h r112 3) (Int.toNat x114)) 0)) else x113) := ⟨_, rfl⟩
      replace hm := hm v130 ev130
      refine wc_iload_n (pc := 63) (dAt dtX1_wherePlane 27 rfl) rfl (wc_aload (pc := 64) (dAt dtX1_wherePlane 28 rfl) rfl (wc_getR (pc := 66) (dAt dtX1_wherePlane 29 rfl) flX1_468_20 rfl o117 (wc_iload (pc := 69) (dAt dtX1_wherePlane 30 rfl) rfl (wc_iald (pc := 71) (dAt dtX1_wherePlane 31 rfl) o121 o122 o123 (?_)))))
      have kj133 : Wc G tX1_wherePlane (d + 3) h Q 103 [some (vR 50), some (vR r1), some (vI x2), some (vI v130), some (vI x105), some (vR r112), some (vI x114)] [] h := by
        obtain ⟨o131, hm⟩ := hm
        obtain ⟨i132, ei132⟩ : ∃ i132 : Int, i132 = (x114 + 1) := ⟨_, rfl⟩
        replace hm := hm i132 ei132
        exact wc_iinc (v := i132) (pc := 103) (dAt dtX1_wherePlane 47 rfl) rfl ei132 (ei132 ▸ o131) (by decide) (wc_L (L' := [some (vR 50), some (vR r1), some (vI x2), some (vI v130), some (vI x105), some (vR r112), some (vI i132)]) rfl (wc_goto (pc := 106) (tgt := 44) (dAt dtX1_wherePlane 48 rfl) (by decide) (ih116 _ _ hm)))
      have p134 := o129
      have k135 : (¬ (x2 < (hI h (hR h r112 4) (Int.toNat x114)))) → Wc G tX1_wherePlane (d + 3) h Q 75 [some (vR 50), some (vR r1), some (vI x2), some (vI x113), some (vI x105), some (vR r112), some (vI x114)] [] h := fun c137 => by
        obtain ⟨o124, o125, p138⟩ := (p134 c137)
        have k139 : (¬ ((hI h (hR h r112 5) (Int.toNat x114)) ≤ x2)) → Wc G tX1_wherePlane (d + 3) h Q 87 [some (vR 50), some (vR r1), some (vI x2), some (vI x113), some (vI x105), some (vR r112), some (vI x114)] [] h := fun c141 => by
          have z142 := kj133
          rw [show v130 = (-1) from ev130.trans ((if_pos c137).trans (if_pos c141))] at z142
          exact wc_iconst (pc := 87) (dAt dtX1_wherePlane 39 rfl) ⟨by decide, by decide⟩ (wc_goto (pc := 88) (tgt := 102) (dAt dtX1_wherePlane 40 rfl) (by decide) (wc_istore_n (pc := 102) (dAt dtX1_wherePlane 46 rfl) (by decide) (wc_L (L' := [some (vR 50), some (vR r1), some (vI x2), some (vI (-1)), some (vI x105), some (vR r112), some (vI x114)]) rfl (z142))))
        have k140 : ¬ (¬ ((hI h (hR h r112 5) (Int.toNat x114)) ≤ x2)) → Wc G tX1_wherePlane (d + 3) h Q 91 [some (vR 50), some (vR r1), some (vI x2), some (vI x113), some (vI x105), some (vR r112), some (vI x114)] [] h := fun c141 => by
          obtain ⟨o126, o127, o128⟩ := (p138 c141)
          have z144 := kj133
          rw [show v130 = (hI h (hR h (hR h r112 3) (Int.toNat x114)) 0) from ev130.trans ((if_pos c137).trans (if_neg c141))] at z144
          exact wc_aload (pc := 91) (dAt dtX1_wherePlane 41 rfl) rfl (wc_getR (pc := 93) (dAt dtX1_wherePlane 42 rfl) flX1_189_20 rfl o117 (wc_iload (pc := 96) (dAt dtX1_wherePlane 43 rfl) rfl (wc_aald (pc := 98) (dAt dtX1_wherePlane 44 rfl) ⟨by decide, by decide⟩ o126 o122 o127 (wc_getI (pc := 99) (dAt dtX1_wherePlane 45 rfl) flX1_84_5 rfl o128 (wc_istore_n (pc := 102) (dAt dtX1_wherePlane 46 rfl) (by decide) (wc_L (L' := [some (vR 50), some (vR r1), some (vI x2), some (vI (hI h (hR h (hR h r112 3) (Int.toNat x114)) 0)), some (vI x105), some (vR r112), some (vI x114)]) rfl (z144)))))))
        exact wc_iload_n (pc := 75) (dAt dtX1_wherePlane 33 rfl) rfl (wc_aload (pc := 76) (dAt dtX1_wherePlane 34 rfl) rfl (wc_getR (pc := 78) (dAt dtX1_wherePlane 35 rfl) flX1_228_20 rfl o117 (wc_iload (pc := 81) (dAt dtX1_wherePlane 36 rfl) rfl (wc_iald (pc := 83) (dAt dtX1_wherePlane 37 rfl) o124 o122 o125 (wc_icmp_ge (pc := 84) (tgt := 91) (dAt dtX1_wherePlane 38 rfl) (by decide) (fun c146 => (k140 (fun z => z c146))) (fun c146 => (k139 c146)))))))
      have k136 : ¬ (¬ (x2 < (hI h (hR h r112 4) (Int.toNat x114)))) → Wc G tX1_wherePlane (d + 3) h Q 103 [some (vR 50), some (vR r1), some (vI x2), some (vI x113), some (vI x105), some (vR r112), some (vI x114)] [] h := fun c137 => by
        have z147 := kj133
        rw [show v130 = x113 from ev130.trans (if_neg c137)] at z147
        exact z147
      exact wc_icmp_lt (pc := 72) (tgt := 103) (dAt dtX1_wherePlane 32 rfl) (by decide) (fun c149 => (k136 (fun z => z c149))) (fun c149 => (k135 c149))
    have k153 : ¬ (¬ ((hI h r112 2) ≤ x114) ∧ (¬ ((hR h r112 0) ≠ r1))) → Wc G tX1_wherePlane (d + 3) h Q 109 [some (vR 50), some (vR r1), some (vI x2), some (vI x113), some (vI x105), some (vR r112), some (vI x114)] [] h := fun c120 => by
      replace hm := ite_f c120 hm
      obtain ⟨o150, hm⟩ := hm
      obtain ⟨i151, ei151⟩ : ∃ i151 : Int, i151 = (x105 + 1) := ⟨_, rfl⟩
      replace hm := hm i151 ei151
      exact wc_iinc (v := i151) (pc := 109) (dAt dtX1_wherePlane 49 rfl) rfl ei151 (ei151 ▸ o150) (by decide) (wc_L (L' := [some (vR 50), some (vR r1), some (vI x2), some (vI x113), some (vI i151), some (vR r112), some (vI x114)]) rfl (wc_goto (pc := 112) (tgt := 11) (dAt dtX1_wherePlane 50 rfl) (by decide) (wc_drp [5, 6] rfl (ih107 _ _ hm))))
    exact wc_icmp_ge (pc := 51) (tgt := 109) (dAt dtX1_wherePlane 22 rfl) (by decide) (fun c154 => (k153 (fun z => z.1 c154))) (fun c154 => wc_aload (pc := 54) (dAt dtX1_wherePlane 23 rfl) rfl (wc_getR (pc := 56) (dAt dtX1_wherePlane 24 rfl) flX1_140_20 rfl o117 (wc_aload_n (pc := 59) (dAt dtX1_wherePlane 25 rfl) rfl (wc_acmp_ne (pc := 60) (tgt := 109) (dAt dtX1_wherePlane 26 rfl) (by decide) (o119 c154) (fun c155 => (k153 (fun z => (fun z => z c155) z.2))) (fun c155 => (k152 ⟨c154, c155⟩))))))
