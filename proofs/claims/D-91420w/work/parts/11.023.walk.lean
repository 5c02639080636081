set_option maxRecDepth 100000
set_option maxHeartbeats 1000000
/-! what methods do, and their walks, by program -/
def tX4_mayNot : Mt := (⟨"FlyingDoctorsModel", "mayNot", "(IIIIIII)I"⟩, prog_24_method_58_code, 10, (Option.some Jvm.ClassFile.FieldType.int), [])
def DX4_mayNot : List (Nat × Instr × Nat) := [(0, .aload_n 0, 1), (1, .iload 4, 2), (3, .invokevirtual 435, 3), (6, .istore 8, 2), (8, .iload 8, 2), (10, .iconst (-1), 1), (11, .if_icmp .ne 5, 3), (14, .iconst (-1), 1), (15, .ireturn, 1), (16, .aload_n 0, 1), (17, .iload_n 2, 1), (18, .iload_n 3, 1), (19, .iload 4, 2), (21, .invokevirtual 469, 3), (24, .aload_n 0, 1), (25, .getfield 190, 3), (28, .iconst 2, 1), (29, .aload_n 0, 1), (30, .getfield 51, 3), (33, .iload_n 1, 1), (34, .iaload, 1), (35, .iastore, 1), (36, .aload_n 0, 1), (37, .getfield 190, 3), (40, .iconst 5, 1), (41, .aload_n 0, 1), (42, .iload 5, 2), (44, .iload_n 2, 1), (45, .invokevirtual 28, 3), (48, .iastore, 1), (49, .aload_n 0, 1), (50, .getfield 190, 3), (53, .bipush 6, 2), (55, .iload 6, 2), (57, .iastore, 1), (58, .aload_n 0, 1), (59, .getfield 190, 3), (62, .bipush 7, 2), (64, .iload 7, 2), (66, .iastore, 1), (67, .iconst 0, 1), (68, .istore 9, 2), (70, .iload 9, 2), (72, .aload_n 0, 1), (73, .getfield 156, 3), (76, .iload 8, 2), (78, .iaload, 1), (79, .if_icmp .ge 34, 3), (82, .aload_n 0, 1), (83, .iload 8, 2), (85, .aload_n 0, 1), (86, .getfield 159, 3), (89, .bipush 30, 2), (91, .iload 8, 2), (93, .imul, 1), (94, .iload 9, 2), (96, .iadd, 1), (97, .iaload, 1), (98, .invokevirtual 472, 3), (101, .ifCond .ne 6, 3), (104, .iload 9, 2), (106, .ireturn, 1), (107, .iinc 9 1, 3), (110, .goto (-40), 3), (113, .iconst (-1), 1), (114, .ireturn, 1)]
theorem dtX4_mayNot : chkD (mB tX4_mayNot) DX4_mayNot = true := by decide +kernel
theorem moX4_mayNot : MethOk tX4_mayNot 7 := ⟨Or.inl ⟨rfl, q2675⟩, by decide +kernel, ⟨by decide, by decide⟩, by decide +kernel⟩
def mX4_mayNot (x1 : Int) (x2 : Int) (x3 : Int) (x4 : Int) (x5 : Int) (x6 : Int) (x7 : Int) (h : Hp) (Q : Rs → Hp → Prop) : Prop := mX4_textBy x4 h (kI Q (fun x102 h101 => if ¬ (x102 ≠ (-1)) then Q (rV (vI (-1))) h101 else mX4_place_2 x2 x3 x4 h101 (kN Q (fun h104 => 0 ≤ x1 ∧ x1 < 6 ∧ ∀ h107 : Hp, h107 = sI h104 109 2 (hI h104 84 (Int.toNat x1)) → oX4_miles x5 x2 h107 ∧ ∀ h109 : Hp, h109 = sI h107 109 5 (vX4_miles x5 x2 h107) → ∀ h110 : Hp, h110 = sI h109 109 6 x6 → ∀ h111 : Hp, h111 = sI h110 109 7 x7 → wh2 (fun (C114 : Int → Hp → Prop) (x112 : Int) (h113 : Hp) => 0 ≤ x102 ∧ x102 < 12 ∧ if ¬ ((hI h113 98 (Int.toNat x102)) ≤ x112) then nm (30 * x102) ∧ nm ((30 * x102) + x112) ∧ 0 ≤ ((30 * x102) + x112) ∧ ((30 * x102) + x112) < 360 ∧ mX4_worth x102 (hI h113 99 (Int.toNat ((30 * x102) + x112))) h113 (kI Q (fun x124 h123 => if ¬ (x124 ≠ 0) then Q (rV (vI x112)) h123 else nm (x112 + 1) ∧ ∀ i127 : Int, i127 = (x112 + 1) → C114 i127 h123)) else Q (rV (vI (-1))) h113) 0 h111))))
theorem wX4_mayNot {G : Gx} (hg : gF G = true) {d : Nat} {x1 : Int} {x2 : Int} {x3 : Int} {x4 : Int} {x5 : Int} {x6 : Int} {x7 : Int} {h : Hp} {Q : Rs → Hp → Prop} (hm : mX4_mayNot x1 x2 x3 x4 x5 x6 x7 h Q) : Ct G tX4_mayNot (d + 3) [vR 75, vI x1, vI x2, vI x3, vI x4, vI x5, vI x6, vI x7] h Q := by
  refine ct_enter (L0 := [some (vR 75), some (vI x1), some (vI x2), some (vI x3), some (vI x4), some (vI x5), some (vI x6), some (vI x7), none, none]) rfl rfl ?_
  unfold mX4_mayNot at hm
  refine wc_aload_n (pc := 0) (dAt dtX4_mayNot 0 rfl) rfl (wc_iload (pc := 1) (dAt dtX4_mayNot 1 rfl) rfl (wc_kf hg fun zk => wc_callV (k := 4) (y' := tX4_textBy) (av := [vI x4]) (st := []) (pc := 3) (dAt dtX4_mayNot 2 rfl) lkX4_435 moX4_textBy q2632 qs86 (by decide) (zk.2 _ ka75).1 rfl rfl (Nat.le_of_ble_eq_true rfl) (wX4_textBy hg hm) (kr_I (fun x102 h101 hm => ?_)) (kx_I rfl)))
  refine wc_istore (pc := 6) (dAt dtX4_mayNot 3 rfl) (by decide) (wc_L (L' := [some (vR 75), some (vI x1), some (vI x2), some (vI x3), some (vI x4), some (vI x5), some (vI x6), some (vI x7), some (vI x102), none]) rfl (wc_iload (pc := 8) (dAt dtX4_mayNot 4 rfl) rfl (wc_iconst (pc := 10) (dAt dtX4_mayNot 5 rfl) ⟨by decide, by decide⟩ (wc_icmp_ne (pc := 11) (tgt := 16) (dAt dtX4_mayNot 6 rfl) (by decide) (fun c103 => ?_) (fun c103 => ?_)))))
  · replace hm := ite_f (fun z => z c103) hm
    refine wc_aload_n (pc := 16) (dAt dtX4_mayNot 9 rfl) rfl (wc_iload_n (pc := 17) (dAt dtX4_mayNot 10 rfl) rfl (wc_iload_n (pc := 18) (dAt dtX4_mayNot 11 rfl) rfl (wc_iload (pc := 19) (dAt dtX4_mayNot 12 rfl) rfl (wc_kf hg fun zk => wc_callV (k := 4) (y' := tX4_place_2) (av := [vI x2, vI x3, vI x4]) (st := []) (pc := 21) (dAt dtX4_mayNot 13 rfl) lkX4_469 moX4_place_2 q2678 qs93 (by decide) (zk.2 _ ka75).1 rfl rfl (Nat.le_of_ble_eq_true rfl) (wX4_place_2 hg hm) (kr_N (fun h104 hm => ?_)) (kx_N rfl)))))
    obtain ⟨o105, o106, hm⟩ := hm
    obtain ⟨h107, eh107⟩ : ∃ h107 : Hp, h107 = sI h104 109 2 (hI h104 84 (Int.toNat x1)) := ⟨_, rfl⟩
    replace hm := hm h107 eh107
    obtain ⟨o108, hm⟩ := hm
    obtain ⟨h109, eh109⟩ : ∃ h109 : Hp, h109 = sI h107 109 5 (vX4_miles x5 x2 h107) := ⟨_, rfl⟩
    replace hm := hm h109 eh109
    obtain ⟨h110, eh110⟩ : ∃ h110 : Hp, h110 = sI h109 109 6 x6 := ⟨_, rfl⟩
    replace hm := hm h110 eh110
    obtain ⟨h111, eh111⟩ : ∃ h111 : Hp, h111 = sI h110 109 7 x7 := ⟨_, rfl⟩
    replace hm := hm h111 eh111
    refine wc_aload_n (pc := 24) (dAt dtX4_mayNot 14 rfl) rfl (wc_getKR hg (pc := 25) (dAt dtX4_mayNot 15 rfl) flX4_190_4 rfl ka75 kf75_57 (wc_iconst (pc := 28) (dAt dtX4_mayNot 16 rfl) ⟨by decide, by decide⟩ (wc_aload_n (pc := 29) (dAt dtX4_mayNot 17 rfl) rfl (wc_getKR hg (pc := 30) (dAt dtX4_mayNot 18 rfl) flX4_51_4 rfl ka75 kf75_13 (wc_iload_n (pc := 33) (dAt dtX4_mayNot 19 rfl) rfl (wc_ialdK hg (pc := 34) (dAt dtX4_mayNot 20 rfl) kr84 o105 o106 (wc_iastK hg (pc := 35) (dAt dtX4_mayNot 21 rfl) kr109 (by decide) (by decide) (by decide) (wc_hp eh107 (wc_aload_n (pc := 36) (dAt dtX4_mayNot 22 rfl) rfl (wc_getKR hg (pc := 37) (dAt dtX4_mayNot 23 rfl) flX4_190_4 rfl ka75 kf75_57 (wc_iconst (pc := 40) (dAt dtX4_mayNot 24 rfl) ⟨by decide, by decide⟩ (wc_aload_n (pc := 41) (dAt dtX4_mayNot 25 rfl) rfl (wc_iload (pc := 42) (dAt dtX4_mayNot 26 rfl) rfl (wc_iload_n (pc := 44) (dAt dtX4_mayNot 27 rfl) rfl (wc_kf hg fun zk => wc_callV (k := 4) (y' := tX4_miles) (P := eI (vX4_miles x5 x2 h107) h107) (pc := 45) (dAt dtX4_mayNot 28 rfl) lkX4_28 moX4_miles q2689 qs95 (by decide) (zk.2 _ ka75).1 rfl rfl (Nat.le_of_ble_eq_true rfl) (wX4_miles hg o108 ⟨rfl, rfl⟩) (ep_I (wc_iastK hg (pc := 48) (dAt dtX4_mayNot 29 rfl) kr109 (by decide) (by decide) (by decide) (wc_hp eh109 (wc_aload_n (pc := 49) (dAt dtX4_mayNot 30 rfl) rfl (wc_getKR hg (pc := 50) (dAt dtX4_mayNot 31 rfl) flX4_190_4 rfl ka75 kf75_57 (wc_bipush (pc := 53) (dAt dtX4_mayNot 32 rfl) ⟨by decide, by decide, by decide⟩ (wc_iload (pc := 55) (dAt dtX4_mayNot 33 rfl) rfl (wc_iastK hg (pc := 57) (dAt dtX4_mayNot 34 rfl) kr109 (by decide) (by decide) (by decide) (wc_hp eh110 (wc_aload_n (pc := 58) (dAt dtX4_mayNot 35 rfl) rfl (wc_getKR hg (pc := 59) (dAt dtX4_mayNot 36 rfl) flX4_190_4 rfl ka75 kf75_57 (wc_bipush (pc := 62) (dAt dtX4_mayNot 37 rfl) ⟨by decide, by decide, by decide⟩ (wc_iload (pc := 64) (dAt dtX4_mayNot 38 rfl) rfl (wc_iastK hg (pc := 66) (dAt dtX4_mayNot 39 rfl) kr109 (by decide) (by decide) (by decide) (wc_hp eh111 (wc_iconst (pc := 67) (dAt dtX4_mayNot 40 rfl) ⟨by decide, by decide⟩ (wc_istore (pc := 68) (dAt dtX4_mayNot 41 rfl) (by decide) (wc_L (L' := [some (vR 75), some (vI x1), some (vI x2), some (vI x3), some (vI x4), some (vI x5), some (vI x6), some (vI x7), some (vI x102), some (vI 0)]) rfl (wc_drp [1, 2, 3, 4, 5, 6, 7] rfl (wc_L (L' := [some (vR 75), none, none, none, none, none, none, none, some (vI x102), some (vI 0)]) rfl (?_))))))))))))))))))))) ex_I)))))))))))))))
    refine wh2_ind (P := fun (x112 : Int) (h113 : Hp) => Wc G tX4_mayNot (d + 3) h Q 70 [some (vR 75), none, none, none, none, none, none, none, some (vI x102), some (vI x112)] [] h113) (fun C114 ih115 x112 h113 hm => ?_) hm
    obtain ⟨o116, o117, hm⟩ := hm
    refine wc_iload (pc := 70) (dAt dtX4_mayNot 42 rfl) rfl (wc_aload_n (pc := 72) (dAt dtX4_mayNot 43 rfl) rfl (wc_getKR hg (pc := 73) (dAt dtX4_mayNot 44 rfl) flX4_156_4 rfl ka75 kf75_43 (wc_iload (pc := 76) (dAt dtX4_mayNot 45 rfl) rfl (wc_ialdK hg (pc := 78) (dAt dtX4_mayNot 46 rfl) kr98 o116 o117 (wc_icmp_ge (pc := 79) (tgt := 113) (dAt dtX4_mayNot 47 rfl) (by decide) (fun c118 => ?_) (fun c118 => ?_))))))
    · replace hm := ite_f (fun z => z c118) hm
      exact wc_iconst (pc := 113) (dAt dtX4_mayNot 64 rfl) ⟨by decide, by decide⟩ (wc_iret (pc := 114) (dAt dtX4_mayNot 65 rfl) rfl (nar_int _) hm)
    · replace hm := ite_t c118 hm
      obtain ⟨o119, o120, o121, o122, hm⟩ := hm
      refine wc_aload_n (pc := 82) (dAt dtX4_mayNot 48 rfl) rfl (wc_iload (pc := 83) (dAt dtX4_mayNot 49 rfl) rfl (wc_aload_n (pc := 85) (dAt dtX4_mayNot 50 rfl) rfl (wc_getKR hg (pc := 86) (dAt dtX4_mayNot 51 rfl) flX4_159_4 rfl ka75 kf75_44 (wc_bipush (pc := 89) (dAt dtX4_mayNot 52 rfl) ⟨by decide, by decide, by decide⟩ (wc_iload (pc := 91) (dAt dtX4_mayNot 53 rfl) rfl (wc_imul (pc := 93) (dAt dtX4_mayNot 54 rfl) o119 (wc_iload (pc := 94) (dAt dtX4_mayNot 55 rfl) rfl (wc_iadd (pc := 96) (dAt dtX4_mayNot 56 rfl) o120 (wc_ialdK hg (pc := 97) (dAt dtX4_mayNot 57 rfl) kr99 o121 o122 (wc_kf hg fun zk => wc_callV (k := 4) (y' := tX4_worth) (av := [vI x102, vI (hI h113 99 (Int.toNat ((30 * x102) + x112)))]) (st := []) (pc := 98) (dAt dtX4_mayNot 58 rfl) lkX4_472 moX4_worth q2696 qs96 (by decide) (zk.2 _ ka75).1 rfl rfl (Nat.le_of_ble_eq_true rfl) (wX4_worth hg hm) (kr_I (fun x124 h123 hm => ?_)) (kx_I rfl)))))))))))
      refine wc_if_ne (pc := 101) (tgt := 107) (dAt dtX4_mayNot 59 rfl) (by decide) (fun c125 => ?_) (fun c125 => ?_)
      · replace hm := ite_f (fun z => z c125) hm
        obtain ⟨o126, hm⟩ := hm
        obtain ⟨i127, ei127⟩ : ∃ i127 : Int, i127 = (x112 + 1) := ⟨_, rfl⟩
        replace hm := hm i127 ei127
        exact wc_iinc (v := i127) (pc := 107) (dAt dtX4_mayNot 62 rfl) rfl ei127 (ei127 ▸ o126) (by decide) (wc_L (L' := [some (vR 75), none, none, none, none, none, none, none, some (vI x102), some (vI i127)]) rfl (wc_goto (pc := 110) (tgt := 70) (dAt dtX4_mayNot 63 rfl) (by decide) (ih115 _ _ hm)))
      · replace hm := ite_t c125 hm
        exact wc_iload (pc := 104) (dAt dtX4_mayNot 60 rfl) rfl (wc_iret (pc := 106) (dAt dtX4_mayNot 61 rfl) rfl (nar_int _) hm)
  · replace hm := ite_t c103 hm
    exact wc_iconst (pc := 14) (dAt dtX4_mayNot 7 rfl) ⟨by decide, by decide⟩ (wc_iret (pc := 15) (dAt dtX4_mayNot 8 rfl) rfl (nar_int _) hm)
def tX4_may : Mt := (⟨"FlyingDoctorsModel", "may", "(IIIIIII)I"⟩, prog_24_method_60_code, 8, (Option.some Jvm.ClassFile.FieldType.int), [])
def DX4_may : List (Nat × Instr × Nat) := [(0, .aload_n 0, 1), (1, .iconst 0, 1), (2, .putfield 1, 3), (5, .aload_n 0, 1), (6, .iload_n 1, 1), (7, .invokevirtual 475, 3), (10, .ifCond .eq 71, 3), (13, .aload_n 0, 1), (14, .iload_n 2, 1), (15, .ifCond .lt 29, 3), (18, .iload_n 2, 1), (19, .aload_n 0, 1), (20, .getfield 7, 3), (23, .if_icmp .ge 21, 3), (26, .iload 5, 2), (28, .ifCond .lt 16, 3), (31, .iload 5, 2), (33, .aload_n 0, 1), (34, .getfield 7, 3), (37, .if_icmp .ge 7, 3), (40, .iconst 1, 1), (41, .goto 4, 3), (44, .iconst 0, 1), (45, .iconst 1, 1), (46, .invokevirtual 10, 3), (49, .ifCond .eq 32, 3), (52, .aload_n 0, 1), (53, .iload_n 3, 1), (54, .invokestatic 478, 3), (57, .ifCond .eq 16, 3), (60, .aload_n 0, 1), (61, .iload 4, 2), (63, .invokevirtual 457, 3), (66, .ifCond .eq 7, 3), (69, .iconst 1, 1), (70, .goto 4, 3), (73, .iconst 0, 1), (74, .iconst 2, 1), (75, .invokevirtual 10, 3), (78, .ifCond .ne 5, 3), (81, .iconst 0, 1), (82, .ireturn, 1), (83, .aload_n 0, 1), (84, .iload_n 1, 1), (85, .iload_n 2, 1), (86, .iload_n 3, 1), (87, .iload 4, 2), (89, .iload 5, 2), (91, .iload 6, 2), (93, .iload 7, 2), (95, .invokevirtual 481, 3), (98, .ireturn, 1)]
theorem dtX4_may : chkD (mB tX4_may) DX4_may = true := by decide +kernel
theorem moX4_may : MethOk tX4_may 7 := ⟨Or.inl ⟨rfl, q2664⟩, by decide +kernel, ⟨by decide, by decide⟩, by decide +kernel⟩
def mX4_may (x1 : Int) (x2 : Int) (x3 : Int) (x4 : Int) (x5 : Int) (x6 : Int) (x7 : Int) (h : Hp) (Q : Rs → Hp → Prop) : Prop := ∀ h101 : Hp, h101 = sI h 75 0 0 → mX4_isPlane x1 h101 (kI Q (fun x103 h102 => if ¬ (x103 = 0) then ∀ v105 : Int, v105 = (b2i (¬ (x2 < 0) ∧ (¬ ((hI h102 75 2) ≤ x2) ∧ (¬ (x5 < 0) ∧ (¬ ((hI h102 75 2) ≤ x5)))))) → mX4_right v105 1 h102 (kI Q (fun x107 h106 => if ¬ (x107 = 0) then ∀ v109 : Int, v109 = (b2i (¬ ((vX4_isFar x3 h106) = 0) ∧ (¬ ((vX4_isTime x4 h106) = 0)))) → mX4_right v109 2 h106 (kI Q (fun x111 h110 => if ¬ (x111 ≠ 0) then Q (rV (vI 0)) h110 else mX4_mayNot x1 x2 x3 x4 x5 x6 x7 h110 (kI Q (fun x114 h113 => Q (rV (vI x114)) h113)))) else Q (rV (vI 0)) h106)) else Q (rV (vI 0)) h102))
theorem wX4_may {G : Gx} (hg : gF G = true) {d : Nat} {x1 : Int} {x2 : Int} {x3 : Int} {x4 : Int} {x5 : Int} {x6 : Int} {x7 : Int} {h : Hp} {Q : Rs → Hp → Prop} (hm : mX4_may x1 x2 x3 x4 x5 x6 x7 h Q) : Ct G tX4_may (d + 4) [vR 75, vI x1, vI x2, vI x3, vI x4, vI x5, vI x6, vI x7] h Q := by
  refine ct_enter (L0 := [some (vR 75), some (vI x1), some (vI x2), some (vI x3), some (vI x4), some (vI x5), some (vI x6), some (vI x7)]) rfl rfl ?_
  unfold mX4_may at hm
  obtain ⟨h101, eh101⟩ : ∃ h101 : Hp, h101 = sI h 75 0 0 := ⟨_, rfl⟩
  replace hm := hm h101 eh101
  refine wc_aload_n (pc := 0) (dAt dtX4_may 0 rfl) rfl (wc_iconst (pc := 1) (dAt dtX4_may 1 rfl) ⟨by decide, by decide⟩ (wc_putKI hg (pc := 2) (dAt dtX4_may 2 rfl) flX4_1_4 (Or.inl rfl) rfl ka75 (by decide) (okI_int _) (wc_hp eh101 (wc_aload_n (pc := 5) (dAt dtX4_may 3 rfl) rfl (wc_iload_n (pc := 6) (dAt dtX4_may 4 rfl) rfl (wc_kf hg fun zk => wc_callV (k := 4) (y' := tX4_isPlane) (av := [vI x1]) (st := []) (pc := 7) (dAt dtX4_may 5 rfl) lkX4_475 moX4_isPlane q2667 qs91 (by decide) (zk.2 _ ka75).1 rfl rfl (Nat.le_of_ble_eq_true rfl) (wX4_isPlane hg hm) (kr_I (fun x103 h102 hm => ?_)) (kx_I rfl)))))))
  refine wc_if_eq (pc := 10) (tgt := 81) (dAt dtX4_may 6 rfl) (by decide) (fun c104 => ?_) (fun c104 => ?_)
  · replace hm := ite_f (fun z => z c104) hm
    exact wc_iconst (pc := 81) (dAt dtX4_may 40 rfl) ⟨by decide, by decide⟩ (wc_iret (pc := 82) (dAt dtX4_may 41 rfl) rfl (nar_int _) hm)
  · replace hm := ite_t c104 hm
    obtain ⟨v105, ev105⟩ : ∃ v105 : Int, v105 = (b2i (¬ (x2 < 0) ∧ (¬ ((hI h102 75 2) ≤ x2) ∧ (¬ (x5 < 0) ∧ (¬ ((hI h102 75 2) ≤ x5)))))) := ⟨_, rfl⟩
    replace hm := hm v105 ev105
    refine wc_aload_n (pc := 13) (dAt dtX4_may 7 rfl) rfl (wc_iload_n (pc := 14) (dAt dtX4_may 8 rfl) rfl (?_))
    have kj125 : Wc G tX4_may (d + 4) h Q 45 [some (vR 75), some (vI x1), some (vI x2), some (vI x3), some (vI x4), some (vI x5), some (vI x6), some (vI x7)] [vI v105, vR 75] h102 := by
      refine wc_iconst (pc := 45) (dAt dtX4_may 23 rfl) ⟨by decide, by decide⟩ (wc_kf hg fun zk => wc_callV (k := 4) (y' := tX4_right) (av := [vI v105, vI 1]) (st := []) (pc := 46) (dAt dtX4_may 24 rfl) lkX4_10 moX4_right q2152 qs64 (by decide) (zk.2 _ ka75).1 rfl rfl (Nat.le_of_ble_eq_true rfl) (wX4_right hg hm) (kr_I (fun x107 h106 hm => ?_)) (kx_I rfl))
      refine wc_if_eq (pc := 49) (tgt := 81) (dAt dtX4_may 25 rfl) (by decide) (fun c108 => ?_) (fun c108 => ?_)
      · replace hm := ite_f (fun z => z c108) hm
        exact wc_iconst (pc := 81) (dAt dtX4_may 40 rfl) ⟨by decide, by decide⟩ (wc_iret (pc := 82) (dAt dtX4_may 41 rfl) rfl (nar_int _) hm)
      · replace hm := ite_t c108 hm
        obtain ⟨v109, ev109⟩ : ∃ v109 : Int, v109 = (b2i (¬ ((vX4_isFar x3 h106) = 0) ∧ (¬ ((vX4_isTime x4 h106) = 0)))) := ⟨_, rfl⟩
        replace hm := hm v109 ev109
        refine wc_aload_n (pc := 52) (dAt dtX4_may 26 rfl) rfl (wc_iload_n (pc := 53) (dAt dtX4_may 27 rfl) rfl (wc_callS (y' := tX4_isFar) (P := eI (vX4_isFar x3 h106) h106) (pc := 54) (dAt dtX4_may 28 rfl) lkX4_478 moX4_isFar q2670 q134 rfl rfl (Nat.le_of_ble_eq_true rfl) (wX4_isFar hg ⟨rfl, rfl⟩) (ep_I (?_)) ex_I))
        have kj115 : Wc G tX4_may (d + 4) h Q 74 [some (vR 75), some (vI x1), some (vI x2), some (vI x3), some (vI x4), some (vI x5), some (vI x6), some (vI x7)] [vI v109, vR 75] h106 := by
          refine wc_iconst (pc := 74) (dAt dtX4_may 37 rfl) ⟨by decide, by decide⟩ (wc_kf hg fun zk => wc_callV (k := 4) (y' := tX4_right) (av := [vI v109, vI 2]) (st := []) (pc := 75) (dAt dtX4_may 38 rfl) lkX4_10 moX4_right q2152 qs64 (by decide) (zk.2 _ ka75).1 rfl rfl (Nat.le_of_ble_eq_true rfl) (wX4_right hg hm) (kr_I (fun x111 h110 hm => ?_)) (kx_I rfl))
          refine wc_if_ne (pc := 78) (tgt := 83) (dAt dtX4_may 39 rfl) (by decide) (fun c112 => ?_) (fun c112 => ?_)
          · replace hm := ite_f (fun z => z c112) hm
            refine wc_aload_n (pc := 83) (dAt dtX4_may 42 rfl) rfl (wc_iload_n (pc := 84) (dAt dtX4_may 43 rfl) rfl (wc_iload_n (pc := 85) (dAt dtX4_may 44 rfl) rfl (wc_iload_n (pc := 86) (dAt dtX4_may 45 rfl) rfl (wc_iload (pc := 87) (dAt dtX4_may 46 rfl) rfl (wc_iload (pc := 89) (dAt dtX4_may 47 rfl) rfl (wc_iload (pc := 91) (dAt dtX4_may 48 rfl) rfl (wc_iload (pc := 93) (dAt dtX4_may 49 rfl) rfl (wc_kf hg fun zk => wc_callV (k := 4) (y' := tX4_mayNot) (av := [vI x1, vI x2, vI x3, vI x4, vI x5, vI x6, vI x7]) (st := []) (pc := 95) (dAt dtX4_may 50 rfl) lkX4_481 moX4_mayNot q2674 qs92 (by decide) (zk.2 _ ka75).1 rfl rfl (Nat.le_of_ble_eq_true rfl) (wX4_mayNot hg hm) (kr_I (fun x114 h113 hm => ?_)) (kx_I rfl)))))))))
            exact wc_iret (pc := 98) (dAt dtX4_may 51 rfl) rfl (nar_int _) hm
          · replace hm := ite_t c112 hm
            exact wc_iconst (pc := 81) (dAt dtX4_may 40 rfl) ⟨by decide, by decide⟩ (wc_iret (pc := 82) (dAt dtX4_may 41 rfl) rfl (nar_int _) hm)
        have k116 : (¬ ((vX4_isFar x3 h106) = 0) ∧ (¬ ((vX4_isTime x4 h106) = 0))) → Wc G tX4_may (d + 4) h Q 69 [some (vR 75), some (vI x1), some (vI x2), some (vI x3), some (vI x4), some (vI x5), some (vI x6), some (vI x7)] [vR 75] h106 := fun c118 => by
          have z119 := kj115
          rw [show v109 = 1 from ev109.trans (b2i_t c118)] at z119
          exact wc_iconst (pc := 69) (dAt dtX4_may 34 rfl) ⟨by decide, by decide⟩ (wc_goto (pc := 70) (tgt := 74) (dAt dtX4_may 35 rfl) (by decide) (z119))
        have k117 : ¬ (¬ ((vX4_isFar x3 h106) = 0) ∧ (¬ ((vX4_isTime x4 h106) = 0))) → Wc G tX4_may (d + 4) h Q 73 [some (vR 75), some (vI x1), some (vI x2), some (vI x3), some (vI x4), some (vI x5), some (vI x6), some (vI x7)] [vR 75] h106 := fun c118 => by
          have z121 := kj115
          rw [show v109 = 0 from ev109.trans (b2i_f c118)] at z121
          exact wc_iconst (pc := 73) (dAt dtX4_may 36 rfl) ⟨by decide, by decide⟩ (z121)
        exact wc_if_eq (pc := 57) (tgt := 73) (dAt dtX4_may 29 rfl) (by decide) (fun c123 => (k117 (fun z => z.1 c123))) (fun c123 => wc_aload_n (pc := 60) (dAt dtX4_may 30 rfl) rfl (wc_iload (pc := 61) (dAt dtX4_may 31 rfl) rfl (wc_kf hg fun zk => wc_callV (k := 4) (y' := tX4_isTime) (P := eI (vX4_isTime x4 h106) h106) (pc := 63) (dAt dtX4_may 32 rfl) lkX4_457 moX4_isTime q2651 qs88 (by decide) (zk.2 _ ka75).1 rfl rfl (Nat.le_of_ble_eq_true rfl) (wX4_isTime hg ⟨rfl, rfl⟩) (ep_I (wc_if_eq (pc := 66) (tgt := 73) (dAt dtX4_may 33 rfl) (by decide) (fun c124 => (k117 (fun z => (fun z => z c124) z.2))) (fun c124 => (k116 ⟨c123, c124⟩)))) ex_I)))
    have k126 : (¬ (x2 < 0) ∧ (¬ ((hI h102 75 2) ≤ x2) ∧ (¬ (x5 < 0) ∧ (¬ ((hI h102 75 2) ≤ x5))))) → Wc G tX4_may (d + 4) h Q 40 [some (vR 75), some (vI x1), some (vI x2), some (vI x3), some (vI x4), some (vI x5), some (vI x6), some (vI x7)] [vR 75] h102 := fun c128 => by
      have z129 := kj125
      rw [show v105 = 1 from ev105.trans (b2i_t c128)] at z129
      exact wc_iconst (pc := 40) (dAt dtX4_may 20 rfl) ⟨by decide, by decide⟩ (wc_goto (pc := 41) (tgt := 45) (dAt dtX4_may 21 rfl) (by decide) (z129))
    have k127 : ¬ (¬ (x2 < 0) ∧ (¬ ((hI h102 75 2) ≤ x2) ∧ (¬ (x5 < 0) ∧ (¬ ((hI h102 75 2) ≤ x5))))) → Wc G tX4_may (d + 4) h Q 44 [some (vR 75), some (vI x1), some (vI x2), some (vI x3), some (vI x4), some (vI x5), some (vI x6), some (vI x7)] [vR 75] h102 := fun c128 => by
      have z131 := kj125
      rw [show v105 = 0 from ev105.trans (b2i_f c128)] at z131
      exact wc_iconst (pc := 44) (dAt dtX4_may 22 rfl) ⟨by decide, by decide⟩ (z131)
    exact wc_if_lt (pc := 15) (tgt := 44) (dAt dtX4_may 9 rfl) (by decide) (fun c133 => (k127 (fun z => z.1 c133))) (fun c133 => wc_iload_n (pc := 18) (dAt dtX4_may 10 rfl) rfl (wc_aload_n (pc := 19) (dAt dtX4_may 11 rfl) rfl (wc_getKI hg (pc := 20) (dAt dtX4_may 12 rfl) flX4_7_4 rfl ka75 (wc_icmp_ge (pc := 23) (tgt := 44) (dAt dtX4_may 13 rfl) (by decide) (fun c134 => (k127 (fun z => (fun z => z.1 c134) z.2))) (fun c134 => wc_iload (pc := 26) (dAt dtX4_may 14 rfl) rfl (wc_if_lt (pc := 28) (tgt := 44) (dAt dtX4_may 15 rfl) (by decide) (fun c135 => (k127 (fun z => (fun z => (fun z => z.1 c135) z.2) z.2))) (fun c135 => wc_iload (pc := 31) (dAt dtX4_may 16 rfl) rfl (wc_aload_n (pc := 33) (dAt dtX4_may 17 rfl) rfl (wc_getKI hg (pc := 34) (dAt dtX4_may 18 rfl) flX4_7_4 rfl ka75 (wc_icmp_ge (pc := 37) (tgt := 44) (dAt dtX4_may 19 rfl) (by decide) (fun c136 => (k127 (fun z => (fun z => (fun z => (fun z => z c136) z.2) z.2) z.2))) (fun c136 => (k126 ⟨c133, ⟨c134, ⟨c135, c136⟩⟩⟩))))))))))))
def tX1_radio : Mt := (⟨"FlyingDoctors", "radio", "(III)Z"⟩, prog_1_method_36_code, 5, (Option.some Jvm.ClassFile.FieldType.boolean), [])
def DX1_radio : List (Nat × Instr × Nat) := [(0, .aload_n 0, 1), (1, .iload_n 1, 1), (2, .invokevirtual 334, 3), (5, .astore 4, 2), (7, .iload_n 2, 1), (8, .iconst 0, 1), (9, .ldc_w 374, 3), (12, .invokestatic 314, 3), (15, .ifCond .eq 14, 3), (18, .iload_n 3, 1), (19, .iconst 0, 1), (20, .sipush 999, 3), (23, .invokestatic 314, 3), (26, .ifCond .ne 5, 3), (29, .iconst 0, 1), (30, .ireturn, 1), (31, .aload 4, 2), (33, .iload_n 2, 1), (34, .putfield 375, 3), (37, .aload 4, 2), (39, .iload_n 3, 1), (40, .putfield 378, 3), (43, .iconst 1, 1), (44, .ireturn, 1)]
theorem dtX1_radio : chkD (mB tX1_radio) DX1_radio = true := by decide +kernel
theorem moX1_radio : MethOk tX1_radio 3 := ⟨Or.inl ⟨rfl, q1632⟩, by decide +kernel, ⟨by decide, by decide⟩, by decide +kernel⟩
def mX1_radio (x1 : Int) (x2 : Int) (x3 : Int) (h : Hp) (Q : Rs → Hp → Prop) : Prop := mX1_placeAt x1 h (kR Q (fun r102 h101 => if ((vX1_in x2 0 16777215 h101) = 0) ∨ (¬ ((vX1_in x3 0 999 h101) ≠ 0)) then Q (rV (vI 0)) h101 else ob h101 r102 5 ∧ ∀ h106 : Hp, h106 = sI h101 r102 8 x2 → ∀ h107 : Hp, h107 = sI h106 r102 9 x3 → Q (rV (vI 1)) h107))
theorem wX1_radio {G : Gx} (hg : gF G = true) {d : Nat} {x1 : Int} {x2 : Int} {x3 : Int} {h : Hp} {Q : Rs → Hp → Prop} (hm : mX1_radio x1 x2 x3 h Q) : Ct G tX1_radio (d + 10) [vR 50, vI x1, vI x2, vI x3] h Q := by
  refine ct_enter (L0 := [some (vR 50), some (vI x1), some (vI x2), some (vI x3), none]) rfl rfl ?_
  unfold mX1_radio at hm
  refine wc_aload_n (pc := 0) (dAt dtX1_radio 0 rfl) rfl (wc_iload_n (pc := 1) (dAt dtX1_radio 1 rfl) rfl (wc_kf hg fun zk => wc_callV (k := 1) (y' := tX1_placeAt) (av := [vI x1]) (st := []) (pc := 2) (dAt dtX1_radio 2 rfl) lkX1_334 moX1_placeAt q684 qs5 (by decide) (zk.2 _ ka50).1 rfl rfl (Nat.le_of_ble_eq_true rfl) (wX1_placeAt hg hm) (kr_R (fun r102 h101 hm => ?_)) (kx_R rfl)))
  refine wc_astore (pc := 5) (dAt dtX1_radio 3 rfl) (by decide) (wc_L (L' := [some (vR 50), some (vI x1), some (vI x2), some (vI x3), some (vR r102)]) rfl (wc_iload_n (pc := 7) (dAt dtX1_radio 4 rfl) rfl (wc_iconst (pc := 8) (dAt dtX1_radio 5 rfl) ⟨by decide, by decide⟩ (wc_ldcw (n := 16777215) (pc := 9) (dAt dtX1_radio 6 rfl) q1633 (by decide) ⟨by decide, by decide⟩ (wc_callS (y' := tX1_in) (P := eI (vX1_in x2 0 16777215 h101) h101) (pc := 12) (dAt dtX1_radio 7 rfl) lkX1_314 moX1_in q374 q128 rfl rfl (Nat.le_of_ble_eq_true rfl) (wX1_in hg ⟨rfl, rfl⟩) (ep_I (?_)) ex_I)))))
  have k108 : (((vX1_in x2 0 16777215 h101) = 0) ∨ (¬ ((vX1_in x3 0 999 h101) ≠ 0))) → Wc G tX1_radio (d + 10) h Q 29 [some (vR 50), some (vI x1), some (vI x2), some (vI x3), some (vR r102)] [] h101 := fun c103 => by
    replace hm := ite_t c103 hm
    exact wc_iconst (pc := 29) (dAt dtX1_radio 14 rfl) ⟨by decide, by decide⟩ (wc_iret (pc := 30) (dAt dtX1_radio 15 rfl) rfl (nar_bool (Or.inl rfl)) hm)
  have k109 : ¬ (((vX1_in x2 0 16777215 h101) = 0) ∨ (¬ ((vX1_in x3 0 999 h101) ≠ 0))) → Wc G tX1_radio (d + 10) h Q 31 [some (vR 50), some (vI x1), some (vI x2), some (vI x3), some (vR r102)] [] h101 := fun c103 => by
    replace hm := ite_f c103 hm
    obtain ⟨o104, hm⟩ := hm
    obtain ⟨h106, eh106⟩ : ∃ h106 : Hp, h106 = sI h101 r102 8 x2 := ⟨_, rfl⟩
    replace hm := hm h106 eh106
    obtain ⟨h107, eh107⟩ : ∃ h107 : Hp, h107 = sI h106 r102 9 x3 := ⟨_, rfl⟩
    replace hm := hm h107 eh107
    exact wc_aload (pc := 31) (dAt dtX1_radio 16 rfl) rfl (wc_iload_n (pc := 33) (dAt dtX1_radio 17 rfl) rfl (wc_newer o104 (by decide) fun n105 => (wc_putI (pc := 34) (dAt dtX1_radio 18 rfl) flX1_375_5 (Or.inl rfl) rfl o104 n105 (okI_int _) (wc_hp eh106 (wc_aload (pc := 37) (dAt dtX1_radio 19 rfl) rfl (wc_iload_n (pc := 39) (dAt dtX1_radio 20 rfl) rfl (wc_putI (pc := 40) (dAt dtX1_radio 21 rfl) flX1_378_5 (Or.inl rfl) rfl (ob_sI eh106 o104) n105 (okI_int _) (wc_hp eh107 (wc_iconst (pc := 43) (dAt dtX1_radio 22 rfl) ⟨by decide, by decide⟩ (wc_iret (pc := 44) (dAt dtX1_radio 23 rfl) rfl (nar_bool (Or.inr rfl)) hm))))))))))
  exact wc_if_eq (pc := 15) (tgt := 29) (dAt dtX1_radio 8 rfl) (by decide) (fun c110 => (k108 (Or.inl c110))) (fun c110 => wc_iload_n (pc := 18) (dAt dtX1_radio 9 rfl) rfl (wc_iconst (pc := 19) (dAt dtX1_radio 10 rfl) ⟨by decide, by decide⟩ (wc_sipush (pc := 20) (dAt dtX1_radio 11 rfl) ⟨by decide, by decide, by decide⟩ (wc_callS (y' := tX1_in) (P := eI (vX1_in x3 0 999 h101) h101) (pc := 23) (dAt dtX1_radio 12 rfl) lkX1_314 moX1_in q374 q128 rfl rfl (Nat.le_of_ble_eq_true rfl) (wX1_in hg ⟨rfl, rfl⟩) (ep_I (wc_if_ne (pc := 26) (tgt := 31) (dAt dtX1_radio 13 rfl) (by decide) (fun c111 => (k109 (fun z => z.elim c110 (fun z => z c111)))) (fun c111 => (k108 (Or.inr c111))))) ex_I))))
def tX0_radio : Mt := (⟨"FlyingDoctorsLaw", "radio", "(LFlyingDoctors;III[J)I"⟩, method_10_code, 6, (Option.some Jvm.ClassFile.FieldType.int), [((0 : Nat), (19 : Nat), (22 : Nat), (13 : Nat))])
def DX0_radio : List (Nat × Instr × Nat) := [(0, .aload 4, 2), (2, .iconst 0, 1), (3, .aload_n 0, 1), (4, .iload_n 1, 1), (5, .iload_n 2, 1), (6, .iload_n 3, 1), (7, .invokevirtual 39, 3), (10, .ifCond .eq 7, 3), (13, .lconst 1, 1), (14, .goto 4, 3), (17, .lconst 0, 1), (18, .lastore, 1), (19, .goto 7, 3), (22, .astore 5, 2), (24, .iconst 1, 1), (25, .ireturn, 1), (26, .iconst 0, 1), (27, .ireturn, 1)]
theorem dtX0_radio : chkD (mB tX0_radio) DX0_radio = true := by decide +kernel
theorem moX0_radio : MethOk tX0_radio 5 := ⟨Or.inr q1628, by decide +kernel, ⟨by decide, by decide⟩, by decide +kernel⟩
def mX0_radio (x1 : Int) (x2 : Int) (x3 : Int) (h : Hp) (Q : Rs → Hp → Prop) : Prop := mX1_radio x1 x2 x3 h (kIx (fun a103 h104 => ob h104 a103 41 ∧ (Q (rV (vI 1)) h104)) (fun x102 h101 => ∀ l106 : Int, l106 = (b2i (¬ (x102 = 0))) → ∀ h107 : Hp, h107 = sL h101 158 0 l106 → Q (rV (vI 0)) h107))
theorem wX0_radio {G : Gx} (hg : gF G = true) {d : Nat} {x1 : Int} {x2 : Int} {x3 : Int} {h : Hp} {Q : Rs → Hp → Prop} (hm : mX0_radio x1 x2 x3 h Q) : Ct G tX0_radio (d + 11) [vR 50, vI x1, vI x2, vI x3, vR 158] h Q := by
  refine ct_enter (L0 := [some (vR 50), some (vI x1), some (vI x2), some (vI x3), some (vR 158), none]) rfl rfl ?_
  unfold mX0_radio at hm
  refine wc_aload (pc := 0) (dAt dtX0_radio 0 rfl) rfl (wc_iconst (pc := 2) (dAt dtX0_radio 1 rfl) ⟨by decide, by decide⟩ (wc_aload_n (pc := 3) (dAt dtX0_radio 2 rfl) rfl (wc_iload_n (pc := 4) (dAt dtX0_radio 3 rfl) rfl (wc_iload_n (pc := 5) (dAt dtX0_radio 4 rfl) rfl (wc_iload_n (pc := 6) (dAt dtX0_radio 5 rfl) rfl (wc_kf hg fun zk => wc_callV (k := 1) (y' := tX1_radio) (av := [vI x1, vI x2, vI x3]) (st := [vI 0, vR 158]) (pc := 7) (dAt dtX0_radio 6 rfl) lkX0_39 moX1_radio q1630 q1631 (by decide) (zk.2 _ ka50).1 rfl rfl (Nat.le_of_ble_eq_true rfl) (wX1_radio hg hm) (krx_I (fun x102 h101 hm => ?_)) (kxx_I (fun a103 h104 hm => ?_))))))))
  · obtain ⟨l106, el106⟩ : ∃ l106 : Int, l106 = (b2i (¬ (x102 = 0))) := ⟨_, rfl⟩
    replace hm := hm l106 el106
    have kj108 : Wc G tX0_radio (d + 11) h Q 18 [none, none, none, none, none, none] [vL l106, vI 0, vR 158] h101 := by
      obtain ⟨h107, eh107⟩ : ∃ h107 : Hp, h107 = sL h101 158 0 l106 := ⟨_, rfl⟩
      replace hm := hm h107 eh107
      exact wc_lastK hg (pc := 18) (dAt dtX0_radio 11 rfl) kr158 (by decide) (by decide) (by decide) (wc_hp eh107 (wc_goto (pc := 19) (tgt := 26) (dAt dtX0_radio 12 rfl) (by decide) (wc_iconst (pc := 26) (dAt dtX0_radio 16 rfl) ⟨by decide, by decide⟩ (wc_iret (pc := 27) (dAt dtX0_radio 17 rfl) rfl (nar_int _) hm))))
    have k109 : (¬ (x102 = 0)) → Wc G tX0_radio (d + 11) h Q 13 [some (vR 50), some (vI x1), some (vI x2), some (vI x3), some (vR 158), none] [vI 0, vR 158] h101 := fun c111 => by
      have z112 := kj108
      rw [show l106 = 1 from el106.trans (b2i_t c111)] at z112
      exact wc_lconst (v := 1) (pc := 13) (dAt dtX0_radio 8 rfl) ⟨by decide, by decide, by decide⟩ (wc_goto (pc := 14) (tgt := 18) (dAt dtX0_radio 9 rfl) (by decide) (wc_drp [0, 1, 2, 3, 4] rfl (z112)))
    have k110 : ¬ (¬ (x102 = 0)) → Wc G tX0_radio (d + 11) h Q 17 [some (vR 50), some (vI x1), some (vI x2), some (vI x3), some (vR 158), none] [vI 0, vR 158] h101 := fun c111 => by
      have z114 := kj108
      rw [show l106 = 0 from el106.trans (b2i_f c111)] at z114
      exact wc_lconst (v := 0) (pc := 17) (dAt dtX0_radio 10 rfl) ⟨by decide, by decide, by decide⟩ (wc_drp [0, 1, 2, 3, 4] rfl (z114))
    exact wc_if_eq (pc := 10) (tgt := 17) (dAt dtX0_radio 7 rfl) (by decide) (fun c116 => (k110 (fun z => z c116))) (fun c116 => (k109 c116))
  · obtain ⟨o105, hm⟩ := hm
    refine wx_hit rfl rfl (by decide) q676 (by decide) o105 rfl ?_
    exact wc_astore (pc := 22) (dAt dtX0_radio 13 rfl) (by decide) (wc_L (L' := [some (vR 50), some (vI x1), some (vI x2), some (vI x3), some (vR 158), some (vR a103)]) rfl (wc_iconst (pc := 24) (dAt dtX0_radio 14 rfl) ⟨by decide, by decide⟩ (wc_iret (pc := 25) (dAt dtX0_radio 15 rfl) rfl (nar_int _) hm)))
def tX4_radio : Mt := (⟨"FlyingDoctorsModel", "radio", "(III)Z"⟩, prog_24_method_61_code, 4, (Option.some Jvm.ClassFile.FieldType.boolean), [])
def DX4_radio : List (Nat × Instr × Nat) := [(0, .aload_n 0, 1), (1, .iload_n 1, 1), (2, .invokevirtual 75, 3), (5, .ifCond .eq 25, 3), (8, .iload_n 2, 1), (9, .ifCond .lt 21, 3), (12, .iload_n 2, 1), (13, .ldc_w 485, 3), (16, .if_icmp .ge 14, 3), (19, .iload_n 3, 1), (20, .ifCond .lt 10, 3), (23, .iload_n 3, 1), (24, .sipush 999, 3), (27, .if_icmp .le 5, 3), (30, .iconst 0, 1), (31, .ireturn, 1), (32, .aload_n 0, 1), (33, .getfield 208, 3), (36, .iload_n 1, 1), (37, .iload_n 2, 1), (38, .iastore, 1), (39, .aload_n 0, 1), (40, .getfield 211, 3), (43, .iload_n 1, 1), (44, .iload_n 3, 1), (45, .iastore, 1), (46, .iconst 1, 1), (47, .ireturn, 1)]
theorem dtX4_radio : chkD (mB tX4_radio) DX4_radio = true := by decide +kernel
theorem moX4_radio : MethOk tX4_radio 3 := ⟨Or.inl ⟨rfl, q2704⟩, by decide +kernel, ⟨by decide, by decide⟩, by decide +kernel⟩
def mX4_radio (x1 : Int) (x2 : Int) (x3 : Int) (h : Hp) (Q : Rs → Hp → Prop) : Prop := mX4_isPlace x1 h (kI Q (fun x102 h101 => if (x102 = 0) ∨ ((x2 < 0) ∨ ((16777216 ≤ x2) ∨ ((x3 < 0) ∨ (¬ (x3 ≤ 999))))) then Q (rV (vI 0)) h101 else 0 ≤ x1 ∧ x1 < 12 ∧ ∀ h106 : Hp, h106 = sI h101 115 (Int.toNat x1) x2 → ∀ h107 : Hp, h107 = sI h106 116 (Int.toNat x1) x3 → Q (rV (vI 1)) h107))
theorem wX4_radio {G : Gx} (hg : gF G = true) {d : Nat} {x1 : Int} {x2 : Int} {x3 : Int} {h : Hp} {Q : Rs → Hp → Prop} (hm : mX4_radio x1 x2 x3 h Q) : Ct G tX4_radio (d + 2) [vR 75, vI x1, vI x2, vI x3] h Q := by
  refine ct_enter (L0 := [some (vR 75), some (vI x1), some (vI x2), some (vI x3)]) rfl rfl ?_
  unfold mX4_radio at hm
  refine wc_aload_n (pc := 0) (dAt dtX4_radio 0 rfl) rfl (wc_iload_n (pc := 1) (dAt dtX4_radio 1 rfl) rfl (wc_kf hg fun zk => wc_callV (k := 4) (y' := tX4_isPlace) (av := [vI x1]) (st := []) (pc := 2) (dAt dtX4_radio 2 rfl) lkX4_75 moX4_isPlace q2148 qs63 (by decide) (zk.2 _ ka75).1 rfl rfl (Nat.le_of_ble_eq_true rfl) (wX4_isPlace hg hm) (kr_I (fun x102 h101 hm => ?_)) (kx_I rfl)))
  have k108 : ((x102 = 0) ∨ ((x2 < 0) ∨ ((16777216 ≤ x2) ∨ ((x3 < 0) ∨ (¬ (x3 ≤ 999)))))) → Wc G tX4_radio (d + 2) h Q 30 [some (vR 75), some (vI x1), some (vI x2), some (vI x3)] [] h101 := fun c103 => by
    replace hm := ite_t c103 hm
    exact wc_iconst (pc := 30) (dAt dtX4_radio 14 rfl) ⟨by decide, by decide⟩ (wc_iret (pc := 31) (dAt dtX4_radio 15 rfl) rfl (nar_bool (Or.inl rfl)) hm)
  have k109 : ¬ ((x102 = 0) ∨ ((x2 < 0) ∨ ((16777216 ≤ x2) ∨ ((x3 < 0) ∨ (¬ (x3 ≤ 999)))))) → Wc G tX4_radio (d + 2) h Q 32 [some (vR 75), some (vI x1), some (vI x2), some (vI x3)] [] h101 := fun c103 => by
    replace hm := ite_f c103 hm
    obtain ⟨o104, o105, hm⟩ := hm
    obtain ⟨h106, eh106⟩ : ∃ h106 : Hp, h106 = sI h101 115 (Int.toNat x1) x2 := ⟨_, rfl⟩
    replace hm := hm h106 eh106
    obtain ⟨h107, eh107⟩ : ∃ h107 : Hp, h107 = sI h106 116 (Int.toNat x1) x3 := ⟨_, rfl⟩
    replace hm := hm h107 eh107
    exact wc_aload_n (pc := 32) (dAt dtX4_radio 16 rfl) rfl (wc_getKR hg (pc := 33) (dAt dtX4_radio 17 rfl) flX4_208_4 rfl ka75 kf75_65 (wc_iload_n (pc := 36) (dAt dtX4_radio 18 rfl) rfl (wc_iload_n (pc := 37) (dAt dtX4_radio 19 rfl) rfl (wc_iastK hg (pc := 38) (dAt dtX4_radio 20 rfl) kr115 (by decide) o104 o105 (wc_hp eh106 (wc_aload_n (pc := 39) (dAt dtX4_radio 21 rfl) rfl (wc_getKR hg (pc := 40) (dAt dtX4_radio 22 rfl) flX4_211_4 rfl ka75 kf75_66 (wc_iload_n (pc := 43) (dAt dtX4_radio 23 rfl) rfl (wc_iload_n (pc := 44) (dAt dtX4_radio 24 rfl) rfl (wc_iastK hg (pc := 45) (dAt dtX4_radio 25 rfl) kr116 (by decide) o104 o105 (wc_hp eh107 (wc_iconst (pc := 46) (dAt dtX4_radio 26 rfl) ⟨by decide, by decide⟩ (wc_iret (pc := 47) (dAt dtX4_radio 27 rfl) rfl (nar_bool (Or.inr rfl)) hm)))))))))))))
  exact wc_if_eq (pc := 5) (tgt := 30) (dAt dtX4_radio 3 rfl) (by decide) (fun c110 => (k108 (Or.inl c110))) (fun c110 => wc_iload_n (pc := 8) (dAt dtX4_radio 4 rfl) rfl (wc_if_lt (pc := 9) (tgt := 30) (dAt dtX4_radio 5 rfl) (by decide) (fun c111 => (k108 (Or.inr (Or.inl c111)))) (fun c111 => wc_iload_n (pc := 12) (dAt dtX4_radio 6 rfl) rfl (wc_ldcw (n := 16777216) (pc := 13) (dAt dtX4_radio 7 rfl) q2705 (by decide) ⟨by decide, by decide⟩ (wc_icmp_ge (pc := 16) (tgt := 30) (dAt dtX4_radio 8 rfl) (by decide) (fun c112 => (k108 (Or.inr (Or.inr (Or.inl c112))))) (fun c112 => wc_iload_n (pc := 19) (dAt dtX4_radio 9 rfl) rfl (wc_if_lt (pc := 20) (tgt := 30) (dAt dtX4_radio 10 rfl) (by decide) (fun c113 => (k108 (Or.inr (Or.inr (Or.inr (Or.inl c113)))))) (fun c113 => wc_iload_n (pc := 23) (dAt dtX4_radio 11 rfl) rfl (wc_sipush (pc := 24) (dAt dtX4_radio 12 rfl) ⟨by decide, by decide, by decide⟩ (wc_icmp_le (pc := 27) (tgt := 32) (dAt dtX4_radio 13 rfl) (by decide) (fun c114 => (k109 (fun z => z.elim c110 (fun z => z.elim c111 (fun z => z.elim c112 (fun z => z.elim c113 (fun z => z c114))))))) (fun c114 => (k108 (Or.inr (Or.inr (Or.inr (Or.inr c114))))))))))))))))
def tX5_isOn : Mt := (⟨"FlyingDoctors$Place", "isOn", "(I)Z"⟩, prog_14_method_3_code, 2, (Option.some Jvm.ClassFile.FieldType.boolean), [])
def DX5_isOn : List (Nat × Instr × Nat) := [(0, .aload_n 0, 1), (1, .getfield 41, 3), (4, .iload_n 1, 1), (5, .bipush 96, 2), (7, .irem, 1), (8, .iconst 4, 1), (9, .idiv, 1), (10, .ishr, 1), (11, .iconst 1, 1), (12, .iand, 1), (13, .iconst 1, 1), (14, .if_icmp .ne 7, 3), (17, .iconst 1, 1), (18, .goto 4, 3), (21, .iconst 0, 1), (22, .ireturn, 1)]
theorem dtX5_isOn : chkD (mB tX5_isOn) DX5_isOn = true := by decide +kernel
theorem moX5_isOn : MethOk tX5_isOn 1 := ⟨Or.inl ⟨rfl, q1652⟩, by decide +kernel, ⟨by decide, by decide⟩, by decide +kernel⟩
def vX5_isOn (r0 : Nat) (x1 : Int) (h : Hp) : Int := (b2i (¬ ((iand (ishr (hI h r0 8) (Int.tdiv (Int.tmod x1 96) 4)) 1) ≠ 1)))
def oX5_isOn (r0 : Nat) (x1 : Int) (h : Hp) : Prop := ob h r0 5
theorem wX5_isOn {G : Gx} (hg : gF G = true) {d : Nat} {r0 : Nat} {x1 : Int} {h : Hp} {Q : Rs → Hp → Prop} (hm : oX5_isOn r0 x1 h) (hq : Q (rV (vI (vX5_isOn r0 x1 h))) h) : Ct G tX5_isOn (d + 0) [vR r0, vI x1] h Q := by
  refine ct_enter (L0 := [some (vR r0), some (vI x1)]) rfl rfl ?_
  have o101 := hm
  have k102 : (¬ ((iand (ishr (hI h r0 8) (Int.tdiv (Int.tmod x1 96) 4)) 1) ≠ 1)) → Wc G tX5_isOn (d + 0) h Q 17 [some (vR r0), some (vI x1)] [] h := fun c104 => by
    have z : Q (rV (vI 1)) h := by
      rw [show (vX5_isOn r0 x1 h) = 1 from (b2i_t c104)] at hq
      exact hq
    exact wc_iconst (pc := 17) (dAt dtX5_isOn 12 rfl) ⟨by decide, by decide⟩ (wc_goto (pc := 18) (tgt := 22) (dAt dtX5_isOn 13 rfl) (by decide) (wc_iret (pc := 22) (dAt dtX5_isOn 15 rfl) rfl (nar_bool (Or.inr rfl)) z))
  have k103 : ¬ (¬ ((iand (ishr (hI h r0 8) (Int.tdiv (Int.tmod x1 96) 4)) 1) ≠ 1)) → Wc G tX5_isOn (d + 0) h Q 21 [some (vR r0), some (vI x1)] [] h := fun c104 => by
    have z : Q (rV (vI 0)) h := by
      rw [show (vX5_isOn r0 x1 h) = 0 from (b2i_f c104)] at hq
      exact hq
    exact wc_iconst (pc := 21) (dAt dtX5_isOn 14 rfl) ⟨by decide, by decide⟩ (wc_iret (pc := 22) (dAt dtX5_isOn 15 rfl) rfl (nar_bool (Or.inl rfl)) z)
  exact wc_aload_n (pc := 0) (dAt dtX5_isOn 0 rfl) rfl (wc_getI (pc := 1) (dAt dtX5_isOn 1 rfl) flX5_41_5 rfl o101 (wc_iload_n (pc := 4) (dAt dtX5_isOn 2 rfl) rfl (wc_bipush (pc := 5) (dAt dtX5_isOn 3 rfl) ⟨by decide, by decide, by decide⟩ (wc_irem (pc := 7) (dAt dtX5_isOn 4 rfl) (by decide) (wc_iconst (pc := 8) (dAt dtX5_isOn 5 rfl) ⟨by decide, by decide⟩ (wc_idiv (pc := 9) (dAt dtX5_isOn 6 rfl) (by decide) (wc_ishr (pc := 10) (dAt dtX5_isOn 7 rfl) (wc_iconst (pc := 11) (dAt dtX5_isOn 8 rfl) ⟨by decide, by decide⟩ (wc_iand (pc := 12) (dAt dtX5_isOn 9 rfl) (wc_iconst (pc := 13) (dAt dtX5_isOn 10 rfl) ⟨by decide, by decide⟩ (wc_icmp_ne (pc := 14) (tgt := 21) (dAt dtX5_isOn 11 rfl) (by decide) (fun c105 => (k103 (fun z => z c105))) (fun c105 => (k102 c105)))))))))))))
theorem bX5_isOn (r0 : Nat) (x1 : Int) (h : Hp) : (vX5_isOn r0 x1 h) = 0 ∨ (vX5_isOn r0 x1 h) = 1 := (bool_b2i _)
def tX5_hears : Mt := (⟨"FlyingDoctors$Place", "hears", "(LFlyingDoctors$Place;I)Z"⟩, prog_14_method_4_code, 3, (Option.some Jvm.ClassFile.FieldType.boolean), [])
def DX5_hears : List (Nat × Instr × Nat) := [(0, .aload_n 0, 1), (1, .iload_n 2, 1), (2, .invokevirtual 44, 3), (5, .ifCond .eq 43, 3), (8, .aload_n 1, 1), (9, .iload_n 2, 1), (10, .invokevirtual 44, 3), (13, .ifCond .eq 35, 3), (16, .aload_n 0, 1), (17, .aload_n 1, 1), (18, .invokevirtual 48, 3), (21, .iload_n 2, 1), (22, .invokestatic 52, 3), (25, .ifCond .eq 12, 3), (28, .iconst 2, 1), (29, .aload_n 1, 1), (30, .getfield 55, 3), (33, .imul, 1), (34, .goto 7, 3), (37, .aload_n 1, 1), (38, .getfield 55, 3), (41, .if_icmp .gt 7, 3), (44, .iconst 1, 1), (45, .goto 4, 3), (48, .iconst 0, 1), (49, .ireturn, 1)]
theorem dtX5_hears : chkD (mB tX5_hears) DX5_hears = true := by decide +kernel
theorem moX5_hears : MethOk tX5_hears 2 := ⟨Or.inl ⟨rfl, q1648⟩, by decide +kernel, ⟨by decide, by decide⟩, by decide +kernel⟩
def vX5_hears (r0 : Nat) (r1 : Nat) (x2 : Int) (h : Hp) : Int := (if ¬ ((vX5_isOn r0 x2 h) = 0) ∧ (¬ ((vX5_isOn r1 x2 h) = 0)) then (if ¬ ((vX1_isNight x2 h) = 0) then (b2i (¬ ((2 * (hI h r1 9)) < (vX5_miles r0 r1 h)))) else (b2i (¬ ((hI h r1 9) < (vX5_miles r0 r1 h))))) else 0)
def oX5_hears (r0 : Nat) (r1 : Nat) (x2 : Int) (h : Hp) : Prop := oX5_isOn r0 x2 h ∧ ob h r0 5 ∧ (¬ ((vX5_isOn r0 x2 h) = 0) → oX5_isOn r1 x2 h ∧ ob h r1 5) ∧ ((¬ ((vX5_isOn r0 x2 h) = 0) ∧ (¬ ((vX5_isOn r1 x2 h) = 0))) → oX5_miles r0 r1 h ∧ ((¬ ((vX1_isNight x2 h) = 0)) → ob h r1 5 ∧ nm (2 * (hI h r1 9))) ∧ (¬ (¬ ((vX1_isNight x2 h) = 0)) → ob h r1 5))
theorem wX5_hears {G : Gx} (hg : gF G = true) {d : Nat} {r0 : Nat} {r1 : Nat} {x2 : Int} {h : Hp} {Q : Rs → Hp → Prop} (hm : oX5_hears r0 r1 x2 h) (hq : Q (rV (vI (vX5_hears r0 r1 x2 h))) h) : Ct G tX5_hears (d + 2) [vR r0, vR r1, vI x2] h Q := by
  refine ct_enter (L0 := [some (vR r0), some (vR r1), some (vI x2)]) rfl rfl ?_
  obtain ⟨o101, o102, p109, p110⟩ := hm
  have k111 : (¬ ((vX5_isOn r0 x2 h) = 0) ∧ (¬ ((vX5_isOn r1 x2 h) = 0))) → Wc G tX5_hears (d + 2) h Q 16 [some (vR r0), some (vR r1), some (vI x2)] [] h := fun c113 => by
    obtain ⟨o105, p114, p115⟩ := (p110 c113)
    have k116 : (¬ ((vX1_isNight x2 h) = 0)) → Wc G tX5_hears (d + 2) h Q 28 [some (vR r0), some (vR r1), some (vI x2)] [vI (vX5_miles r0 r1 h)] h := fun c118 => by
      obtain ⟨o106, o107⟩ := (p114 c118)
      have k119 : (¬ ((2 * (hI h r1 9)) < (vX5_miles r0 r1 h))) → Wc G tX5_hears (d + 2) h Q 44 [some (vR r0), some (vR r1), some (vI x2)] [] h := fun c121 => by
        have z : Q (rV (vI 1)) h := by
          rw [show (vX5_hears r0 r1 x2 h) = 1 from ((if_pos c113).trans ((if_pos c118).trans (b2i_t c121)))] at hq
          exact hq
        exact wc_iconst (pc := 44) (dAt dtX5_hears 22 rfl) ⟨by decide, by decide⟩ (wc_goto (pc := 45) (tgt := 49) (dAt dtX5_hears 23 rfl) (by decide) (wc_iret (pc := 49) (dAt dtX5_hears 25 rfl) rfl (nar_bool (Or.inr rfl)) z))
      have k120 : ¬ (¬ ((2 * (hI h r1 9)) < (vX5_miles r0 r1 h))) → Wc G tX5_hears (d + 2) h Q 48 [some (vR r0), some (vR r1), some (vI x2)] [] h := fun c121 => by
        have z : Q (rV (vI 0)) h := by
          rw [show (vX5_hears r0 r1 x2 h) = 0 from ((if_pos c113).trans ((if_pos c118).trans (b2i_f c121)))] at hq
          exact hq
        exact wc_iconst (pc := 48) (dAt dtX5_hears 24 rfl) ⟨by decide, by decide⟩ (wc_iret (pc := 49) (dAt dtX5_hears 25 rfl) rfl (nar_bool (Or.inl rfl)) z)
      exact wc_iconst (pc := 28) (dAt dtX5_hears 14 rfl) ⟨by decide, by decide⟩ (wc_aload_n (pc := 29) (dAt dtX5_hears 15 rfl) rfl (wc_getI (pc := 30) (dAt dtX5_hears 16 rfl) flX5_55_5 rfl o106 (wc_imul (pc := 33) (dAt dtX5_hears 17 rfl) o107 (wc_goto (pc := 34) (tgt := 41) (dAt dtX5_hears 18 rfl) (by decide) (wc_icmp_gt (pc := 41) (tgt := 48) (dAt dtX5_hears 21 rfl) (by decide) (fun c122 => (k120 (fun z => z c122))) (fun c122 => (k119 c122)))))))
    have k117 : ¬ (¬ ((vX1_isNight x2 h) = 0)) → Wc G tX5_hears (d + 2) h Q 37 [some (vR r0), some (vR r1), some (vI x2)] [vI (vX5_miles r0 r1 h)] h := fun c118 => by
      have o108 := (p115 c118)
      have k123 : (¬ ((hI h r1 9) < (vX5_miles r0 r1 h))) → Wc G tX5_hears (d + 2) h Q 44 [some (vR r0), some (vR r1), some (vI x2)] [] h := fun c125 => by
        have z : Q (rV (vI 1)) h := by
          rw [show (vX5_hears r0 r1 x2 h) = 1 from ((if_pos c113).trans ((if_neg c118).trans (b2i_t c125)))] at hq
          exact hq
        exact wc_iconst (pc := 44) (dAt dtX5_hears 22 rfl) ⟨by decide, by decide⟩ (wc_goto (pc := 45) (tgt := 49) (dAt dtX5_hears 23 rfl) (by decide) (wc_iret (pc := 49) (dAt dtX5_hears 25 rfl) rfl (nar_bool (Or.inr rfl)) z))
      have k124 : ¬ (¬ ((hI h r1 9) < (vX5_miles r0 r1 h))) → Wc G tX5_hears (d + 2) h Q 48 [some (vR r0), some (vR r1), some (vI x2)] [] h := fun c125 => by
        have z : Q (rV (vI 0)) h := by
          rw [show (vX5_hears r0 r1 x2 h) = 0 from ((if_pos c113).trans ((if_neg c118).trans (b2i_f c125)))] at hq
          exact hq
        exact wc_iconst (pc := 48) (dAt dtX5_hears 24 rfl) ⟨by decide, by decide⟩ (wc_iret (pc := 49) (dAt dtX5_hears 25 rfl) rfl (nar_bool (Or.inl rfl)) z)
      exact wc_aload_n (pc := 37) (dAt dtX5_hears 19 rfl) rfl (wc_getI (pc := 38) (dAt dtX5_hears 20 rfl) flX5_55_5 rfl o108 (wc_icmp_gt (pc := 41) (tgt := 48) (dAt dtX5_hears 21 rfl) (by decide) (fun c126 => (k124 (fun z => z c126))) (fun c126 => (k123 c126))))
    exact wc_aload_n (pc := 16) (dAt dtX5_hears 8 rfl) rfl (wc_aload_n (pc := 17) (dAt dtX5_hears 9 rfl) rfl (wc_callV (k := 5) (y' := tX5_miles) (P := eI (vX5_miles r0 r1 h) h) (pc := 18) (dAt dtX5_hears 10 rfl) lkX5_48 moX5_miles q1568 q1569 (by decide) o102 rfl rfl (Nat.le_of_ble_eq_true rfl) (wX5_miles hg o105 ⟨rfl, rfl⟩) (ep_I (wc_iload_n (pc := 21) (dAt dtX5_hears 11 rfl) rfl (wc_callS (y' := tX1_isNight) (P := eI (vX1_isNight x2 h) h) (pc := 22) (dAt dtX5_hears 12 rfl) lkX5_52 moX1_isNight q1565 q128 rfl rfl (Nat.le_of_ble_eq_true rfl) (wX1_isNight hg ⟨rfl, rfl⟩) (ep_I (wc_if_eq (pc := 25) (tgt := 37) (dAt dtX5_hears 13 rfl) (by decide) (fun c127 => (k117 (fun z => z c127))) (fun c127 => (k116 c127)))) ex_I))) ex_I))
  have k112 : ¬ (¬ ((vX5_isOn r0 x2 h) = 0) ∧ (¬ ((vX5_isOn r1 x2 h) = 0))) → Wc G tX5_hears (d + 2) h Q 48 [some (vR r0), some (vR r1), some (vI x2)] [] h := fun c113 => by
    have z : Q (rV (vI 0)) h := by
      rw [show (vX5_hears r0 r1 x2 h) = 0 from (if_neg c113)] at hq
      exact hq
    exact wc_iconst (pc := 48) (dAt dtX5_hears 24 rfl) ⟨by decide, by decide⟩ (wc_iret (pc := 49) (dAt dtX5_hears 25 rfl) rfl (nar_bool (Or.inl rfl)) z)
  exact wc_aload_n (pc := 0) (dAt dtX5_hears 0 rfl) rfl (wc_iload_n (pc := 1) (dAt dtX5_hears 1 rfl) rfl (wc_callV (k := 5) (y' := tX5_isOn) (P := eI (vX5_isOn r0 x2 h) h) (pc := 2) (dAt dtX5_hears 2 rfl) lkX5_44 moX5_isOn q1650 q1651 (by decide) o102 rfl rfl (Nat.le_of_ble_eq_true rfl) (wX5_isOn hg o101 ⟨rfl, rfl⟩) (ep_I (wc_if_eq (pc := 5) (tgt := 48) (dAt dtX5_hears 3 rfl) (by decide) (fun c128 => (k112 (fun z => z.1 c128))) (fun c128 => wc_aload_n (pc := 8) (dAt dtX5_hears 4 rfl) rfl (wc_iload_n (pc := 9) (dAt dtX5_hears 5 rfl) rfl (wc_callV (k := 5) (y' := tX5_isOn) (P := eI (vX5_isOn r1 x2 h) h) (pc := 10) (dAt dtX5_hears 6 rfl) lkX5_44 moX5_isOn q1650 q1651 (by decide) (p109 c128).2 rfl rfl (Nat.le_of_ble_eq_true rfl) (wX5_isOn hg (p109 c128).1 ⟨rfl, rfl⟩) (ep_I (wc_if_eq (pc := 13) (tgt := 48) (dAt dtX5_hears 7 rfl) (by decide) (fun c129 => (k112 (fun z => (fun z => z c129) z.2))) (fun c129 => (k111 ⟨c128, c129⟩)))) ex_I))))) ex_I))
theorem bX5_hears (r0 : Nat) (r1 : Nat) (x2 : Int) (h : Hp) : (vX5_hears r0 r1 x2 h) = 0 ∨ (vX5_hears r0 r1 x2 h) = 1 := (bo_ite (bo_ite (bool_b2i _) (bool_b2i _)) (Or.inl rfl))
