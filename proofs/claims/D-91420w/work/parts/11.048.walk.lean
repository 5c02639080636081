set_option maxRecDepth 100000
set_option maxHeartbeats 1000000
/-! what methods do, and their walks, by program -/
def tX4_week : Mt := (⟨"FlyingDoctorsModel", "week", "(IIII)I"⟩, prog_24_method_104_code, 10, (Option.some Jvm.ClassFile.FieldType.int), [])
def DX4_week_c0 : List (Nat × Instr × Nat) := [(0, .aload_n 0, 1), (1, .iconst 0, 1), (2, .putfield 1, 3), (5, .aload_n 0, 1), (6, .iload_n 1, 1), (7, .invokevirtual 475, 3), (10, .ifCond .eq 64, 3), (13, .aload_n 0, 1), (14, .iload_n 2, 1), (15, .ifCond .lt 15, 3), (18, .iload_n 2, 1), (19, .aload_n 0, 1), (20, .getfield 7, 3), (23, .if_icmp .ge 7, 3), (26, .iconst 1, 1), (27, .goto 4, 3), (30, .iconst 0, 1), (31, .iconst 1, 1), (32, .invokevirtual 10, 3), (35, .ifCond .eq 39, 3), (38, .aload_n 0, 1), (39, .aload_n 0, 1), (40, .iload_n 2, 1), (41, .invokevirtual 38, 3), (44, .iconst 1, 1), (45, .invokevirtual 10, 3), (48, .ifCond .eq 26, 3), (51, .aload_n 0, 1), (52, .iload_n 3, 1), (53, .ifCond .lt 13, 3), (56, .iload_n 3, 1), (57, .bipush 25, 2), (59, .if_icmp .gt 7, 3), (62, .iconst 1, 1), (63, .goto 4, 3), (66, .iconst 0, 1), (67, .iconst 2, 1), (68, .invokevirtual 10, 3), (71, .ifCond .ne 5, 3), (74, .iconst 0, 1), (75, .ireturn, 1), (76, .aload_n 0, 1), (77, .getfield 577, 3), (80, .ifCond .ne 5, 3), (83, .iconst (-1), 1), (84, .ireturn, 1), (85, .aload_n 0, 1), (86, .iload_n 1, 1), (87, .iload_n 2, 1), (88, .invokevirtual 580, 3), (91, .iconst 0, 1), (92, .istore 5, 2), (94, .iload 5, 2), (96, .bipush 6, 2), (98, .if_icmp .ge 124, 3), (101, .iconst 4, 1), (102, .iload 4, 2), (104, .iconst 4, 1), (105, .iload 5, 2), (107, .imul, 1), (108, .ishr, 1), (109, .bipush 15, 2), (111, .iand, 1), (112, .imul, 1)]
theorem dtX4_week_c0 : chkD (mB tX4_week) DX4_week_c0 = true := by decide +kernel
def DX4_week_c1 : List (Nat × Instr × Nat) := [(113, .istore 6, 2), (115, .aload_n 0, 1), (116, .getfield 325, 3), (119, .iload 5, 2), (121, .iload 6, 2), (123, .bipush 40, 2), (125, .if_icmp .le 7, 3), (128, .iconst 0, 1), (129, .goto 8, 3), (132, .bipush 40, 2), (134, .iload 6, 2), (136, .isub, 1), (137, .iastore, 1), (138, .aload_n 0, 1), (139, .getfield 322, 3), (142, .iload 5, 2), (144, .iconst 0, 1), (145, .iastore, 1), (146, .iconst 0, 1), (147, .istore 7, 2), (149, .iload 7, 2), (151, .aload_n 0, 1), (152, .getfield 577, 3), (155, .if_icmp .ge 61, 3), (158, .aload_n 0, 1), (159, .iload_n 1, 1), (160, .aload_n 0, 1), (161, .getfield 298, 3), (164, .iload 7, 2), (166, .iaload, 1), (167, .bipush 96, 2), (169, .iload_n 3, 1), (170, .iload 5, 2), (172, .iadd, 1), (173, .imul, 1), (174, .bipush 40, 2), (176, .iadd, 1), (177, .aload_n 0, 1), (178, .getfield 81, 3), (181, .iload_n 2, 1), (182, .aload_n 0, 1), (183, .getfield 45, 3), (186, .iload_n 1, 1), (187, .iaload, 1), (188, .iconst 0, 1), (189, .invokevirtual 481, 3), (192, .iconst (-1), 1), (193, .if_icmp .ne 17, 3), (196, .aload_n 0, 1), (197, .getfield 322, 3), (200, .iload 5, 2), (202, .dup2, 1), (203, .iaload, 1), (204, .iconst 1, 1), (205, .iload 7, 2), (207, .ishl, 1), (208, .ior, 1), (209, .iastore, 1), (210, .iinc 7 1, 3), (213, .goto (-64), 3), (216, .iinc 5 1, 3), (219, .goto (-125), 3), (222, .aload_n 0, 1), (223, .invokevirtual 590, 3)]
theorem dtX4_week_c1 : chkD (mB tX4_week) DX4_week_c1 = true := by decide +kernel
def DX4_week_c2 : List (Nat × Instr × Nat) := [(226, .iconst 1, 1), (227, .aload_n 0, 1), (228, .getfield 577, 3), (231, .ishl, 1), (232, .iconst 1, 1), (233, .isub, 1), (234, .istore 5, 2), (236, .aload_n 0, 1), (237, .getfield 316, 3), (240, .iload 5, 2), (242, .iaload, 1), (243, .iconst (-1), 1), (244, .if_icmp .ne 5, 3), (247, .iconst (-1), 1), (248, .ireturn, 1), (249, .aload_n 0, 1), (250, .aload_n 0, 1), (251, .getfield 577, 3), (254, .putfield 593, 3), (257, .aload_n 0, 1), (258, .aload_n 0, 1), (259, .getfield 319, 3), (262, .iload 5, 2), (264, .iaload, 1), (265, .putfield 596, 3), (268, .aload_n 0, 1), (269, .getfield 316, 3), (272, .iload 5, 2), (274, .iaload, 1), (275, .istore 6, 2), (277, .iconst 0, 1), (278, .istore 7, 2), (280, .iload 7, 2), (282, .bipush 6, 2), (284, .if_icmp .ge 78, 3), (287, .iconst 0, 1), (288, .istore 8, 2), (290, .aload_n 0, 1), (291, .iload 7, 2), (293, .iload 5, 2), (295, .iload 8, 2), (297, .invokevirtual 599, 3), (300, .ifCond .ne 9, 3), (303, .iinc 8 1, 3), (306, .goto (-16), 3), (309, .iconst 0, 1), (310, .istore 9, 2), (312, .iload 9, 2), (314, .aload_n 0, 1), (315, .getfield 577, 3), (318, .if_icmp .ge 29, 3), (321, .iload 8, 2), (323, .iload 9, 2), (325, .ishr, 1), (326, .iconst 1, 1), (327, .iand, 1), (328, .iconst 1, 1), (329, .if_icmp .ne 12, 3), (332, .aload_n 0, 1), (333, .getfield 307, 3), (336, .iload 9, 2), (338, .iload 7, 2), (340, .iastore, 1), (341, .iinc 9 1, 3)]
theorem dtX4_week_c2 : chkD (mB tX4_week) DX4_week_c2 = true := by decide +kernel
def DX4_week_c3 : List (Nat × Instr × Nat) := [(344, .goto (-32), 3), (347, .iload 5, 2), (349, .iload 8, 2), (351, .iconst (-1), 1), (352, .ixor, 1), (353, .iand, 1), (354, .istore 5, 2), (356, .iinc 7 1, 3), (359, .goto (-79), 3), (362, .iload 6, 2), (364, .ireturn, 1)]
theorem dtX4_week_c3 : chkD (mB tX4_week) DX4_week_c3 = true := by decide +kernel
theorem moX4_week : MethOk tX4_week 4 := ⟨Or.inl ⟨rfl, q2874⟩, by decide +kernel, ⟨by decide, by decide⟩, by decide +kernel⟩
def mX4_week (x1 : Int) (x2 : Int) (x3 : Int) (x4 : Int) (h : Hp) (Q : Rs → Hp → Prop) : Prop := ∀ h101 : Hp, h101 = sI h 75 0 0 → mX4_isPlane x1 h101 (kI Q (fun x103 h102 => if ¬ (x103 = 0) then ∀ v105 : Int, v105 = (b2i (¬ (x2 < 0) ∧ (¬ ((hI h102 75 2) ≤ x2)))) → mX4_right v105 1 h102 (kI Q (fun x107 h106 => if ¬ (x107 = 0) then oX4_isBase x2 h106 ∧ mX4_right (vX4_isBase x2 h106) 1 h106 (kI Q (fun x111 h110 => if ¬ (x111 = 0) then ∀ v113 : Int, v113 = (b2i (¬ (x3 < 0) ∧ (¬ (25 < x3)))) → mX4_right v113 2 h110 (kI Q (fun x115 h114 => if ¬ (x115 ≠ 0) then Q (rV (vI 0)) h114 else if ¬ ((hI h114 75 98) ≠ 0) then Q (rV (vI (-1))) h114 else mX4_roundsOf x1 x2 h114 (kN Q (fun h118 => wh2 (fun (C121 : Int → Hp → Prop) (x119 : Int) (h120 : Hp) => if ¬ (6 ≤ x119) then nm (4 * x119) ∧ nm (4 * (iand (ishr x4 (4 * x119)) 15)) ∧ ∀ v126 : Int, v126 = (4 * (iand (ishr x4 (4 * x119)) 15)) → ((¬ (¬ (v126 ≤ 40)) → nm (40 - v126))) ∧ ∀ v129 : Int, v129 = (if ¬ (v126 ≤ 40) then 0 else (40 - v126)) → 0 ≤ x119 ∧ x119 < 6 ∧ ∀ h132 : Hp, h132 = sI h120 153 (Int.toNat x119) v129 → ∀ h133 : Hp, h133 = sI h132 152 (Int.toNat x119) 0 → wh2 (fun (C136 : Int → Hp → Prop) (x134 : Int) (h135 : Hp) => if ¬ ((hI h135 75 98) ≤ x134) then 0 ≤ x134 ∧ x134 < 8 ∧ nm (x3 + x119) ∧ nm (96 * (x3 + x119)) ∧ nm ((96 * (x3 + x119)) + 40) ∧ 0 ≤ x1 ∧ x1 < 6 ∧ mX4_mayNot x1 (hI h135 144 (Int.toNat x134)) ((96 * (x3 + x119)) + 40) (hI h135 75 1) x2 (hI h135 82 (Int.toNat x1)) 0 h135 (kI Q (fun x147 h146 => if ¬ (x147 ≠ (-1)) then ∀ h149 : Hp, h149 = sI h146 152 (Int.toNat x119) (ior (hI h146 152 (Int.toNat x119)) (ishl 1 x134)) → nm (x134 + 1) ∧ ∀ i151 : Int, i151 = (x134 + 1) → C136 i151 h149 else nm (x134 + 1) ∧ ∀ i153 : Int, i153 = (x134 + 1) → C136 i153 h146)) else nm (x119 + 1) ∧ ∀ i155 : Int, i155 = (x119 + 1) → C121 i155 h135) 0 h133 else mX4_weeks h120 (kN Q (fun h166 => nm ((ishl 1 (hI h166 75 98)) - 1) ∧ ∀ v168 : Int, v168 = ((ishl 1 (hI h166 75 98)) - 1) → 0 ≤ v168 ∧ v168 < 1792 ∧ if ¬ ((hI h166 150 (Int.toNat v168)) ≠ (-1)) then Q (rV (vI (-1))) h166 else ∀ h172 : Hp, h172 = sI h166 75 99 (hI h166 75 98) → ∀ h173 : Hp, h173 = sI h172 75 100 (hI h172 151 (Int.toNat v168)) → ∀ v174 : Int, v174 = (hI h173 150 (Int.toNat v168)) → wh3 (fun (C178 : Int → Int → Hp → Prop) (x175 : Int) (x176 : Int) (h177 : Hp) => if ¬ (6 ≤ x176) then wh2 (fun (C183 : Int → Hp → Prop) (x181 : Int) (h182 : Hp) => mX4_isBest x176 x175 x181 h182 (kI Q (fun x186 h185 => if ¬ (x186 ≠ 0) then nm (x181 + 1) ∧ ∀ i189 : Int, i189 = (x181 + 1) → C183 i189 h185 else wh2 (fun (C192 : Int → Hp → Prop) (x190 : Int) (h191 : Hp) => if ¬ ((hI h191 75 98) ≤ x190) then if ¬ ((iand (ishr x181 x190) 1) ≠ 1) then 0 ≤ x190 ∧ x190 < 8 ∧ ∀ h198 : Hp, h198 = sI h191 147 (Int.toNat x190) x176 → nm (x190 + 1) ∧ ∀ i200 : Int, i200 = (x190 + 1) → C192 i200 h198 else nm (x190 + 1) ∧ ∀ i202 : Int, i202 = (x190 + 1) → C192 i202 h191 else ∀ v203 : Int, v203 = (iand x175 (ixor x181 (-1))) → nm (x176 + 1) ∧ ∀ i205 : Int, i205 = (x176 + 1) → C178 v203 i205 h191) 0 h185))) 0 h177 else Q (rV (vI v174)) h177) v168 0 h173))) 0 h118)))) else Q (rV (vI 0)) h110)) else Q (rV (vI 0)) h106)) else Q (rV (vI 0)) h102))
theorem wX4_week {G : Gx} (hg : gF G = true) {d : Nat} {x1 : Int} {x2 : Int} {x3 : Int} {x4 : Int} {h : Hp} {Q : Rs → Hp → Prop} (hm : mX4_week x1 x2 x3 x4 h Q) : Ct G tX4_week (d + 4) [vR 75, vI x1, vI x2, vI x3, vI x4] h Q := by
  refine ct_enter (L0 := [some (vR 75), some (vI x1), some (vI x2), some (vI x3), some (vI x4), none, none, none, none, none]) rfl rfl ?_
  unfold mX4_week at hm
  obtain ⟨h101, eh101⟩ : ∃ h101 : Hp, h101 = sI h 75 0 0 := ⟨_, rfl⟩
  replace hm := hm h101 eh101
  refine wc_aload_n (pc := 0) (dAt dtX4_week_c0 0 rfl) rfl (wc_iconst (pc := 1) (dAt dtX4_week_c0 1 rfl) ⟨by decide, by decide⟩ (wc_putKI hg (pc := 2) (dAt dtX4_week_c0 2 rfl) flX4_1_4 (Or.inl rfl) rfl ka75 (by decide) (okI_int _) (wc_hp eh101 (wc_aload_n (pc := 5) (dAt dtX4_week_c0 3 rfl) rfl (wc_iload_n (pc := 6) (dAt dtX4_week_c0 4 rfl) rfl (wc_kf hg fun zk => wc_callV (k := 4) (y' := tX4_isPlane) (av := [vI x1]) (st := []) (pc := 7) (dAt dtX4_week_c0 5 rfl) lkX4_475 moX4_isPlane q2667 qs91 (by decide) (zk.2 _ ka75).1 rfl rfl (Nat.le_of_ble_eq_true rfl) (wX4_isPlane hg hm) (kr_I (fun x103 h102 hm => ?_)) (kx_I rfl)))))))
  refine wc_if_eq (pc := 10) (tgt := 74) (dAt dtX4_week_c0 6 rfl) (by decide) (fun c104 => ?_) (fun c104 => ?_)
  · replace hm := ite_f (fun z => z c104) hm
    exact wc_iconst (pc := 74) (dAt dtX4_week_c0 39 rfl) ⟨by decide, by decide⟩ (wc_iret (pc := 75) (dAt dtX4_week_c0 40 rfl) rfl (nar_int _) hm)
  · replace hm := ite_t c104 hm
    obtain ⟨v105, ev105⟩ : ∃ v105 : Int, v105 = (b2i (¬ (x2 < 0) ∧ (¬ ((hI h102 75 2) ≤ x2)))) := ⟨_, rfl⟩
    replace hm := hm v105 ev105
    refine wc_aload_n (pc := 13) (dAt dtX4_week_c0 7 rfl) rfl (wc_iload_n (pc := 14) (dAt dtX4_week_c0 8 rfl) rfl (?_))
    have kj216 : Wc G tX4_week (d + 4) h Q 31 [some (vR 75), some (vI x1), some (vI x2), some (vI x3), some (vI x4), none, none, none, none, none] [vI v105, vR 75] h102 := by
      refine wc_iconst (pc := 31) (dAt dtX4_week_c0 17 rfl) ⟨by decide, by decide⟩ (wc_kf hg fun zk => wc_callV (k := 4) (y' := tX4_right) (av := [vI v105, vI 1]) (st := []) (pc := 32) (dAt dtX4_week_c0 18 rfl) lkX4_10 moX4_right q2152 qs64 (by decide) (zk.2 _ ka75).1 rfl rfl (Nat.le_of_ble_eq_true rfl) (wX4_right hg hm) (kr_I (fun x107 h106 hm => ?_)) (kx_I rfl))
      refine wc_if_eq (pc := 35) (tgt := 74) (dAt dtX4_week_c0 19 rfl) (by decide) (fun c108 => ?_) (fun c108 => ?_)
      · replace hm := ite_f (fun z => z c108) hm
        exact wc_iconst (pc := 74) (dAt dtX4_week_c0 39 rfl) ⟨by decide, by decide⟩ (wc_iret (pc := 75) (dAt dtX4_week_c0 40 rfl) rfl (nar_int _) hm)
      · replace hm := ite_t c108 hm
        obtain ⟨o109, hm⟩ := hm
        refine wc_aload_n (pc := 38) (dAt dtX4_week_c0 20 rfl) rfl (wc_aload_n (pc := 39) (dAt dtX4_week_c0 21 rfl) rfl (wc_iload_n (pc := 40) (dAt dtX4_week_c0 22 rfl) rfl (wc_kf hg fun zk => wc_callV (k := 4) (y' := tX4_isBase) (P := eI (vX4_isBase x2 h106) h106) (pc := 41) (dAt dtX4_week_c0 23 rfl) lkX4_38 moX4_isBase q2135 qs62 (by decide) (zk.2 _ ka75).1 rfl rfl (Nat.le_of_ble_eq_true rfl) (wX4_isBase hg o109 ⟨rfl, rfl⟩) (ep_I (wc_iconst (pc := 44) (dAt dtX4_week_c0 24 rfl) ⟨by decide, by decide⟩ (wc_kf hg fun zk => wc_callV (k := 4) (y' := tX4_right) (av := [vI (vX4_isBase x2 h106), vI 1]) (st := []) (pc := 45) (dAt dtX4_week_c0 25 rfl) lkX4_10 moX4_right q2152 qs64 (by decide) (zk.2 _ ka75).1 rfl rfl (Nat.le_of_ble_eq_true rfl) (wX4_right hg hm) (kr_I (fun x111 h110 hm => ?_)) (kx_I rfl)))) ex_I)))
        refine wc_if_eq (pc := 48) (tgt := 74) (dAt dtX4_week_c0 26 rfl) (by decide) (fun c112 => ?_) (fun c112 => ?_)
        · replace hm := ite_f (fun z => z c112) hm
          exact wc_iconst (pc := 74) (dAt dtX4_week_c0 39 rfl) ⟨by decide, by decide⟩ (wc_iret (pc := 75) (dAt dtX4_week_c0 40 rfl) rfl (nar_int _) hm)
        · replace hm := ite_t c112 hm
          obtain ⟨v113, ev113⟩ : ∃ v113 : Int, v113 = (b2i (¬ (x3 < 0) ∧ (¬ (25 < x3)))) := ⟨_, rfl⟩
          replace hm := hm v113 ev113
          refine wc_aload_n (pc := 51) (dAt dtX4_week_c0 27 rfl) rfl (wc_iload_n (pc := 52) (dAt dtX4_week_c0 28 rfl) rfl (?_))
          have kj206 : Wc G tX4_week (d + 4) h Q 67 [some (vR 75), some (vI x1), some (vI x2), some (vI x3), some (vI x4), none, none, none, none, none] [vI v113, vR 75] h110 := by
            refine wc_iconst (pc := 67) (dAt dtX4_week_c0 36 rfl) ⟨by decide, by decide⟩ (wc_kf hg fun zk => wc_callV (k := 4) (y' := tX4_right) (av := [vI v113, vI 2]) (st := []) (pc := 68) (dAt dtX4_week_c0 37 rfl) lkX4_10 moX4_right q2152 qs64 (by decide) (zk.2 _ ka75).1 rfl rfl (Nat.le_of_ble_eq_true rfl) (wX4_right hg hm) (kr_I (fun x115 h114 hm => ?_)) (kx_I rfl))
            refine wc_if_ne (pc := 71) (tgt := 76) (dAt dtX4_week_c0 38 rfl) (by decide) (fun c116 => ?_) (fun c116 => ?_)
            · replace hm := ite_f (fun z => z c116) hm
              refine wc_aload_n (pc := 76) (dAt dtX4_week_c0 41 rfl) rfl (wc_getKI hg (pc := 77) (dAt dtX4_week_c0 42 rfl) flX4_577_4 rfl ka75 (wc_if_ne (pc := 80) (tgt := 85) (dAt dtX4_week_c0 43 rfl) (by decide) (fun c117 => ?_) (fun c117 => ?_)))
              · replace hm := ite_f (fun z => z c117) hm
                refine wc_aload_n (pc := 85) (dAt dtX4_week_c0 46 rfl) rfl (wc_iload_n (pc := 86) (dAt dtX4_week_c0 47 rfl) rfl (wc_iload_n (pc := 87) (dAt dtX4_week_c0 48 rfl) rfl (wc_kf hg fun zk => wc_callV (k := 4) (y' := tX4_roundsOf) (av := [vI x1, vI x2]) (st := []) (pc := 88) (dAt dtX4_week_c0 49 rfl) lkX4_580 moX4_roundsOf q2869 qs119 (by decide) (zk.2 _ ka75).1 rfl rfl (Nat.le_of_ble_eq_true rfl) (wX4_roundsOf hg hm) (kr_N (fun h118 hm => ?_)) (kx_N rfl))))
                refine wc_iconst (pc := 91) (dAt dtX4_week_c0 50 rfl) ⟨by decide, by decide⟩ (wc_istore (pc := 92) (dAt dtX4_week_c0 51 rfl) (by decide) (wc_L (L' := [some (vR 75), some (vI x1), some (vI x2), some (vI x3), some (vI x4), some (vI 0), none, none, none, none]) rfl (?_)))
                refine wh2_ind (P := fun (x119 : Int) (h120 : Hp) => Wc G tX4_week (d + 4) h Q 94 [some (vR 75), some (vI x1), some (vI x2), some (vI x3), some (vI x4), some (vI x119), none, none, none, none] [] h120) (fun C121 ih122 x119 h120 hm => ?_) hm
                refine wc_iload (pc := 94) (dAt dtX4_week_c0 52 rfl) rfl (wc_bipush (pc := 96) (dAt dtX4_week_c0 53 rfl) ⟨by decide, by decide, by decide⟩ (wc_icmp_ge (pc := 98) (tgt := 222) (dAt dtX4_week_c0 54 rfl) (by decide) (fun c123 => ?_) (fun c123 => ?_)))
                · replace hm := ite_f (fun z => z c123) hm
                  refine wc_aload_n (pc := 222) (dAt dtX4_week_c1 62 rfl) rfl (wc_kf hg fun zk => wc_callV (k := 4) (y' := tX4_weeks) (av := []) (st := []) (pc := 223) (dAt dtX4_week_c1 63 rfl) lkX4_590 moX4_weeks q2877 qs120 (by decide) (zk.2 _ ka75).1 rfl rfl (Nat.le_of_ble_eq_true rfl) (wX4_weeks hg hm) (kr_N (fun h166 hm => ?_)) (kx_N rfl))
                  obtain ⟨o167, hm⟩ := hm
                  obtain ⟨v168, ev168⟩ : ∃ v168 : Int, v168 = ((ishl 1 (hI h166 75 98)) - 1) := ⟨_, rfl⟩
                  replace hm := hm v168 ev168
                  obtain ⟨o169, o170, hm⟩ := hm
                  refine wc_iconst (pc := 226) (dAt dtX4_week_c2 0 rfl) ⟨by decide, by decide⟩ (wc_aload_n (pc := 227) (dAt dtX4_week_c2 1 rfl) rfl (wc_getKI hg (pc := 228) (dAt dtX4_week_c2 2 rfl) flX4_577_4 rfl ka75 (wc_ishl (pc := 231) (dAt dtX4_week_c2 3 rfl) (wc_iconst (pc := 232) (dAt dtX4_week_c2 4 rfl) ⟨by decide, by decide⟩ (wc_isub (pc := 233) (dAt dtX4_week_c2 5 rfl) o167 (wc_vi ev168 (wc_istore (pc := 234) (dAt dtX4_week_c2 6 rfl) (by decide) (wc_L (L' := [some (vR 75), some (vI x1), some (vI x2), some (vI x3), some (vI x4), some (vI v168), none, none, none, none]) rfl (wc_aload_n (pc := 236) (dAt dtX4_week_c2 7 rfl) rfl (wc_getKR hg (pc := 237) (dAt dtX4_week_c2 8 rfl) flX4_316_4 rfl ka75 kf75_107 (wc_iload (pc := 240) (dAt dtX4_week_c2 9 rfl) rfl (wc_ialdK hg (pc := 242) (dAt dtX4_week_c2 10 rfl) kr150 o169 o170 (wc_iconst (pc := 243) (dAt dtX4_week_c2 11 rfl) ⟨by decide, by decide⟩ (wc_icmp_ne (pc := 244) (tgt := 249) (dAt dtX4_week_c2 12 rfl) (by decide) (fun c171 => ?_) (fun c171 => ?_)))))))))))))))
                  · replace hm := ite_f (fun z => z c171) hm
                    obtain ⟨h172, eh172⟩ : ∃ h172 : Hp, h172 = sI h166 75 99 (hI h166 75 98) := ⟨_, rfl⟩
                    replace hm := hm h172 eh172
                    obtain ⟨h173, eh173⟩ : ∃ h173 : Hp, h173 = sI h172 75 100 (hI h172 151 (Int.toNat v168)) := ⟨_, rfl⟩
                    replace hm := hm h173 eh173
                    obtain ⟨v174, ev174⟩ : ∃ v174 : Int, v174 = (hI h173 150 (Int.toNat v168)) := ⟨_, rfl⟩
                    replace hm := hm v174 ev174
                    refine wc_aload_n (pc := 249) (dAt dtX4_week_c2 15 rfl) rfl (wc_aload_n (pc := 250) (dAt dtX4_week_c2 16 rfl) rfl (wc_getKI hg (pc := 251) (dAt dtX4_week_c2 17 rfl) flX4_577_4 rfl ka75 (wc_putKI hg (pc := 254) (dAt dtX4_week_c2 18 rfl) flX4_593_4 (Or.inl rfl) rfl ka75 (by decide) (okI_int _) (wc_hp eh172 (wc_aload_n (pc := 257) (dAt dtX4_week_c2 19 rfl) rfl (wc_aload_n (pc := 258) (dAt dtX4_week_c2 20 rfl) rfl (wc_getKR hg (pc := 259) (dAt dtX4_week_c2 21 rfl) flX4_319_4 rfl ka75 kf75_108 (wc_iload (pc := 262) (dAt dtX4_week_c2 22 rfl) rfl (wc_ialdK hg (pc := 264) (dAt dtX4_week_c2 23 rfl) kr151 o169 o170 (wc_putKI hg (pc := 265) (dAt dtX4_week_c2 24 rfl) flX4_596_4 (Or.inl rfl) rfl ka75 (by decide) (okI_int _) (wc_hp eh173 (wc_aload_n (pc := 268) (dAt dtX4_week_c2 25 rfl) rfl (wc_getKR hg (pc := 269) (dAt dtX4_week_c2 26 rfl) flX4_316_4 rfl ka75 kf75_107 (wc_iload (pc := 272) (dAt dtX4_week_c2 27 rfl) rfl (wc_ialdK hg (pc := 274) (dAt dtX4_week_c2 28 rfl) kr150 o169 o170 (wc_vi ev174 (wc_istore (pc := 275) (dAt dtX4_week_c2 29 rfl) (by decide) (wc_L (L' := [some (vR 75), some (vI x1), some (vI x2), some (vI x3), some (vI x4), some (vI v168), some (vI v174), none, none, none]) rfl (wc_iconst (pc := 277) (dAt dtX4_week_c2 30 rfl) ⟨by decide, by decide⟩ (wc_istore (pc := 278) (dAt dtX4_week_c2 31 rfl) (by decide) (wc_L (L' := [some (vR 75), some (vI x1), some (vI x2), some (vI x3), some (vI x4), some (vI v168), some (vI v174), some (vI 0), none, none]) rfl (wc_drp [1, 2, 3, 4] rfl (wc_L (L' := [some (vR 75), none, none, none, none, some (vI v168), some (vI v174), some (vI 0), none, none]) rfl (?_))))))))))))))))))))))))
                    refine wh3_ind (P := fun (x175 : Int) (x176 : Int) (h177 : Hp) => Wc G tX4_week (d + 4) h Q 280 [some (vR 75), none, none, none, none, some (vI x175), some (vI v174), some (vI x176), none, none] [] h177) (fun C178 ih179 x175 x176 h177 hm => ?_) hm
                    refine wc_iload (pc := 280) (dAt dtX4_week_c2 32 rfl) rfl (wc_bipush (pc := 282) (dAt dtX4_week_c2 33 rfl) ⟨by decide, by decide, by decide⟩ (wc_icmp_ge (pc := 284) (tgt := 362) (dAt dtX4_week_c2 34 rfl) (by decide) (fun c180 => ?_) (fun c180 => ?_)))
                    · replace hm := ite_f (fun z => z c180) hm
                      exact wc_iload (pc := 362) (dAt dtX4_week_c3 9 rfl) rfl (wc_iret (pc := 364) (dAt dtX4_week_c3 10 rfl) rfl (nar_int _) hm)
                    · replace hm := ite_t c180 hm
                      refine wc_iconst (pc := 287) (dAt dtX4_week_c2 35 rfl) ⟨by decide, by decide⟩ (wc_istore (pc := 288) (dAt dtX4_week_c2 36 rfl) (by decide) (wc_L (L' := [some (vR 75), none, none, none, none, some (vI x175), some (vI v174), some (vI x176), some (vI 0), none]) rfl (?_)))
                      refine wh2_ind (P := fun (x181 : Int) (h182 : Hp) => Wc G tX4_week (d + 4) h Q 290 [some (vR 75), none, none, none, none, some (vI x175), some (vI v174), some (vI x176), some (vI x181), none] [] h182) (fun C183 ih184 x181 h182 hm => ?_) hm
                      refine wc_aload_n (pc := 290) (dAt dtX4_week_c2 37 rfl) rfl (wc_iload (pc := 291) (dAt dtX4_week_c2 38 rfl) rfl (wc_iload (pc := 293) (dAt dtX4_week_c2 39 rfl) rfl (wc_iload (pc := 295) (dAt dtX4_week_c2 40 rfl) rfl (wc_kf hg fun zk => wc_callV (k := 4) (y' := tX4_isBest) (av := [vI x176, vI x175, vI x181]) (st := []) (pc := 297) (dAt dtX4_week_c2 41 rfl) lkX4_599 moX4_isBest q2889 qs123 (by decide) (zk.2 _ ka75).1 rfl rfl (Nat.le_of_ble_eq_true rfl) (wX4_isBest hg hm) (kr_I (fun x186 h185 hm => ?_)) (kx_I rfl)))))
                      refine wc_if_ne (pc := 300) (tgt := 309) (dAt dtX4_week_c2 42 rfl) (by decide) (fun c187 => ?_) (fun c187 => ?_)
                      · replace hm := ite_f (fun z => z c187) hm
                        refine wc_iconst (pc := 309) (dAt dtX4_week_c2 45 rfl) ⟨by decide, by decide⟩ (wc_istore (pc := 310) (dAt dtX4_week_c2 46 rfl) (by decide) (wc_L (L' := [some (vR 75), none, none, none, none, some (vI x175), some (vI v174), some (vI x176), some (vI x181), some (vI 0)]) rfl (?_)))
                        refine wh2_ind (P := fun (x190 : Int) (h191 : Hp) => Wc G tX4_week (d + 4) h Q 312 [some (vR 75), none, none, none, none, some (vI x175), some (vI v174), some (vI x176), some (vI x181), some (vI x190)] [] h191) (fun C192 ih193 x190 h191 hm => ?_) hm
                        refine wc_iload (pc := 312) (dAt dtX4_week_c2 47 rfl) rfl (wc_aload_n (pc := 314) (dAt dtX4_week_c2 48 rfl) rfl (wc_getKI hg (pc := 315) (dAt dtX4_week_c2 49 rfl) flX4_577_4 rfl ka75 (wc_icmp_ge (pc := 318) (tgt := 347) (dAt dtX4_week_c2 50 rfl) (by decide) (fun c194 => ?_) (fun c194 => ?_))))
                        · replace hm := ite_f (fun z => z c194) hm
                          obtain ⟨v203, ev203⟩ : ∃ v203 : Int, v203 = (iand x175 (ixor x181 (-1))) := ⟨_, rfl⟩
                          replace hm := hm v203 ev203
                          obtain ⟨o204, hm⟩ := hm
                          obtain ⟨i205, ei205⟩ : ∃ i205 : Int, i205 = (x176 + 1) := ⟨_, rfl⟩
                          replace hm := hm i205 ei205
                          exact wc_iload (pc := 347) (dAt dtX4_week_c3 1 rfl) rfl (wc_iload (pc := 349) (dAt dtX4_week_c3 2 rfl) rfl (wc_iconst (pc := 351) (dAt dtX4_week_c3 3 rfl) ⟨by decide, by decide⟩ (wc_ixor (pc := 352) (dAt dtX4_week_c3 4 rfl) (wc_iand (pc := 353) (dAt dtX4_week_c3 5 rfl) (wc_vi ev203 (wc_istore (pc := 354) (dAt dtX4_week_c3 6 rfl) (by decide) (wc_L (L' := [some (vR 75), none, none, none, none, some (vI v203), some (vI v174), some (vI x176), some (vI x181), some (vI x190)]) rfl (wc_iinc (v := i205) (pc := 356) (dAt dtX4_week_c3 7 rfl) rfl ei205 (ei205 ▸ o204) (by decide) (wc_L (L' := [some (vR 75), none, none, none, none, some (vI v203), some (vI v174), some (vI i205), some (vI x181), some (vI x190)]) rfl (wc_goto (pc := 359) (tgt := 280) (dAt dtX4_week_c3 8 rfl) (by decide) (wc_drp [8, 9] rfl (ih179 _ _ _ hm))))))))))))
                        · replace hm := ite_t c194 hm
                          refine wc_iload (pc := 321) (dAt dtX4_week_c2 51 rfl) rfl (wc_iload (pc := 323) (dAt dtX4_week_c2 52 rfl) rfl (wc_ishr (pc := 325) (dAt dtX4_week_c2 53 rfl) (wc_iconst (pc := 326) (dAt dtX4_week_c2 54 rfl) ⟨by decide, by decide⟩ (wc_iand (pc := 327) (dAt dtX4_week_c2 55 rfl) (wc_iconst (pc := 328) (dAt dtX4_week_c2 56 rfl) ⟨by decide, by decide⟩ (wc_icmp_ne (pc := 329) (tgt := 341) (dAt dtX4_week_c2 57 rfl) (by decide) (fun c195 => ?_) (fun c195 => ?_)))))))
                          · replace hm := ite_f (fun z => z c195) hm
                            obtain ⟨o201, hm⟩ := hm
                            obtain ⟨i202, ei202⟩ : ∃ i202 : Int, i202 = (x190 + 1) := ⟨_, rfl⟩
                            replace hm := hm i202 ei202
                            exact wc_iinc (v := i202) (pc := 341) (dAt dtX4_week_c2 63 rfl) rfl ei202 (ei202 ▸ o201) (by decide) (wc_L (L' := [some (vR 75), none, none, none, none, some (vI x175), some (vI v174), some (vI x176), some (vI x181), some (vI i202)]) rfl (wc_goto (pc := 344) (tgt := 312) (dAt dtX4_week_c3 0 rfl) (by decide) (ih193 _ _ hm)))
                          · replace hm := ite_t c195 hm
                            obtain ⟨o196, o197, hm⟩ := hm
                            obtain ⟨h198, eh198⟩ : ∃ h198 : Hp, h198 = sI h191 147 (Int.toNat x190) x176 := ⟨_, rfl⟩
                            replace hm := hm h198 eh198
                            obtain ⟨o199, hm⟩ := hm
                            obtain ⟨i200, ei200⟩ : ∃ i200 : Int, i200 = (x190 + 1) := ⟨_, rfl⟩
                            replace hm := hm i200 ei200
                            exact wc_aload_n (pc := 332) (dAt dtX4_week_c2 58 rfl) rfl (wc_getKR hg (pc := 333) (dAt dtX4_week_c2 59 rfl) flX4_307_4 rfl ka75 kf75_104 (wc_iload (pc := 336) (dAt dtX4_week_c2 60 rfl) rfl (wc_iload (pc := 338) (dAt dtX4_week_c2 61 rfl) rfl (wc_iastK hg (pc := 340) (dAt dtX4_week_c2 62 rfl) kr147 (by decide) o196 o197 (wc_hp eh198 (wc_iinc (v := i200) (pc := 341) (dAt dtX4_week_c2 63 rfl) rfl ei200 (ei200 ▸ o199) (by decide) (wc_L (L' := [some (vR 75), none, none, none, none, some (vI x175), some (vI v174), some (vI x176), some (vI x181), some (vI i200)]) rfl (wc_goto (pc := 344) (tgt := 312) (dAt dtX4_week_c3 0 rfl) (by decide) (ih193 _ _ hm)))))))))
                      · replace hm := ite_t c187 hm
                        obtain ⟨o188, hm⟩ := hm
                        obtain ⟨i189, ei189⟩ : ∃ i189 : Int, i189 = (x181 + 1) := ⟨_, rfl⟩
                        replace hm := hm i189 ei189
                        exact wc_iinc (v := i189) (pc := 303) (dAt dtX4_week_c2 43 rfl) rfl ei189 (ei189 ▸ o188) (by decide) (wc_L (L' := [some (vR 75), none, none, none, none, some (vI x175), some (vI v174), some (vI x176), some (vI i189), none]) rfl (wc_goto (pc := 306) (tgt := 290) (dAt dtX4_week_c2 44 rfl) (by decide) (ih184 _ _ hm)))
                  · replace hm := ite_t c171 hm
                    exact wc_iconst (pc := 247) (dAt dtX4_week_c2 13 rfl) ⟨by decide, by decide⟩ (wc_iret (pc := 248) (dAt dtX4_week_c2 14 rfl) rfl (nar_int _) hm)
                · replace hm := ite_t c123 hm
                  obtain ⟨o124, o125, hm⟩ := hm
                  obtain ⟨v126, ev126⟩ : ∃ v126 : Int, v126 = (4 * (iand (ishr x4 (4 * x119)) 15)) := ⟨_, rfl⟩
                  replace hm := hm v126 ev126
                  obtain ⟨o128, hm⟩ := hm
                  obtain ⟨v129, ev129⟩ : ∃ v129 : Int, v129 = (if ¬ (v126 ≤ 40) then 0 else (40 - v126)) := ⟨_, rfl⟩
                  replace hm := hm v129 ev129
                  refine wc_iconst (pc := 101) (dAt dtX4_week_c0 55 rfl) ⟨by decide, by decide⟩ (wc_iload (pc := 102) (dAt dtX4_week_c0 56 rfl) rfl (wc_iconst (pc := 104) (dAt dtX4_week_c0 57 rfl) ⟨by decide, by decide⟩ (wc_iload (pc := 105) (dAt dtX4_week_c0 58 rfl) rfl (wc_imul (pc := 107) (dAt dtX4_week_c0 59 rfl) o124 (wc_ishr (pc := 108) (dAt dtX4_week_c0 60 rfl) (wc_bipush (pc := 109) (dAt dtX4_week_c0 61 rfl) ⟨by decide, by decide, by decide⟩ (wc_iand (pc := 111) (dAt dtX4_week_c0 62 rfl) (wc_imul (pc := 112) (dAt dtX4_week_c0 63 rfl) o125 (wc_vi ev126 (wc_istore (pc := 113) (dAt dtX4_week_c1 0 rfl) (by decide) (wc_L (L' := [some (vR 75), some (vI x1), some (vI x2), some (vI x3), some (vI x4), some (vI x119), some (vI v126), none, none, none]) rfl (wc_aload_n (pc := 115) (dAt dtX4_week_c1 1 rfl) rfl (wc_getKR hg (pc := 116) (dAt dtX4_week_c1 2 rfl) flX4_325_4 rfl ka75 kf75_110 (wc_iload (pc := 119) (dAt dtX4_week_c1 3 rfl) rfl (wc_iload (pc := 121) (dAt dtX4_week_c1 4 rfl) rfl (wc_bipush (pc := 123) (dAt dtX4_week_c1 5 rfl) ⟨by decide, by decide, by decide⟩ (?_)))))))))))))))))
                  have kj156 : Wc G tX4_week (d + 4) h Q 137 [some (vR 75), some (vI x1), some (vI x2), some (vI x3), some (vI x4), some (vI x119), none, none, none, none] [vI v129, vI x119, vR 153] h120 := by
                    obtain ⟨o130, o131, hm⟩ := hm
                    obtain ⟨h132, eh132⟩ : ∃ h132 : Hp, h132 = sI h120 153 (Int.toNat x119) v129 := ⟨_, rfl⟩
                    replace hm := hm h132 eh132
                    obtain ⟨h133, eh133⟩ : ∃ h133 : Hp, h133 = sI h132 152 (Int.toNat x119) 0 := ⟨_, rfl⟩
                    replace hm := hm h133 eh133
                    refine wc_iastK hg (pc := 137) (dAt dtX4_week_c1 12 rfl) kr153 (by decide) o130 o131 (wc_hp eh132 (wc_aload_n (pc := 138) (dAt dtX4_week_c1 13 rfl) rfl (wc_getKR hg (pc := 139) (dAt dtX4_week_c1 14 rfl) flX4_322_4 rfl ka75 kf75_109 (wc_iload (pc := 142) (dAt dtX4_week_c1 15 rfl) rfl (wc_iconst (pc := 144) (dAt dtX4_week_c1 16 rfl) ⟨by decide, by decide⟩ (wc_iastK hg (pc := 145) (dAt dtX4_week_c1 17 rfl) kr152 (by decide) o130 o131 (wc_hp eh133 (wc_iconst (pc := 146) (dAt dtX4_week_c1 18 rfl) ⟨by decide, by decide⟩ (wc_istore (pc := 147) (dAt dtX4_week_c1 19 rfl) (by decide) (wc_L (L' := [some (vR 75), some (vI x1), some (vI x2), some (vI x3), some (vI x4), some (vI x119), none, some (vI 0), none, none]) rfl (?_)))))))))))
                    refine wh2_ind (P := fun (x134 : Int) (h135 : Hp) => Wc G tX4_week (d + 4) h Q 149 [some (vR 75), some (vI x1), some (vI x2), some (vI x3), some (vI x4), some (vI x119), none, some (vI x134), none, none] [] h135) (fun C136 ih137 x134 h135 hm => ?_) hm
                    refine wc_iload (pc := 149) (dAt dtX4_week_c1 20 rfl) rfl (wc_aload_n (pc := 151) (dAt dtX4_week_c1 21 rfl) rfl (wc_getKI hg (pc := 152) (dAt dtX4_week_c1 22 rfl) flX4_577_4 rfl ka75 (wc_icmp_ge (pc := 155) (tgt := 216) (dAt dtX4_week_c1 23 rfl) (by decide) (fun c138 => ?_) (fun c138 => ?_))))
                    · replace hm := ite_f (fun z => z c138) hm
                      obtain ⟨o154, hm⟩ := hm
                      obtain ⟨i155, ei155⟩ : ∃ i155 : Int, i155 = (x119 + 1) := ⟨_, rfl⟩
                      replace hm := hm i155 ei155
                      exact wc_iinc (v := i155) (pc := 216) (dAt dtX4_week_c1 60 rfl) rfl ei155 (ei155 ▸ o154) (by decide) (wc_L (L' := [some (vR 75), some (vI x1), some (vI x2), some (vI x3), some (vI x4), some (vI i155), none, some (vI x134), none, none]) rfl (wc_goto (pc := 219) (tgt := 94) (dAt dtX4_week_c1 61 rfl) (by decide) (wc_drp [7] rfl (ih122 _ _ hm))))
                    · replace hm := ite_t c138 hm
                      obtain ⟨o139, o140, o141, o142, o143, o144, o145, hm⟩ := hm
                      refine wc_aload_n (pc := 158) (dAt dtX4_week_c1 24 rfl) rfl (wc_iload_n (pc := 159) (dAt dtX4_week_c1 25 rfl) rfl (wc_aload_n (pc := 160) (dAt dtX4_week_c1 26 rfl) rfl (wc_getKR hg (pc := 161) (dAt dtX4_week_c1 27 rfl) flX4_298_4 rfl ka75 kf75_101 (wc_iload (pc := 164) (dAt dtX4_week_c1 28 rfl) rfl (wc_ialdK hg (pc := 166) (dAt dtX4_week_c1 29 rfl) kr144 o139 o140 (wc_bipush (pc := 167) (dAt dtX4_week_c1 30 rfl) ⟨by decide, by decide, by decide⟩ (wc_iload_n (pc := 169) (dAt dtX4_week_c1 31 rfl) rfl (wc_iload (pc := 170) (dAt dtX4_week_c1 32 rfl) rfl (wc_iadd (pc := 172) (dAt dtX4_week_c1 33 rfl) o141 (wc_imul (pc := 173) (dAt dtX4_week_c1 34 rfl) o142 (wc_bipush (pc := 174) (dAt dtX4_week_c1 35 rfl) ⟨by decide, by decide, by decide⟩ (wc_iadd (pc := 176) (dAt dtX4_week_c1 36 rfl) o143 (wc_aload_n (pc := 177) (dAt dtX4_week_c1 37 rfl) rfl (wc_getKI hg (pc := 178) (dAt dtX4_week_c1 38 rfl) flX4_81_4 rfl ka75 (wc_iload_n (pc := 181) (dAt dtX4_week_c1 39 rfl) rfl (wc_aload_n (pc := 182) (dAt dtX4_week_c1 40 rfl) rfl (wc_getKR hg (pc := 183) (dAt dtX4_week_c1 41 rfl) flX4_45_4 rfl ka75 kf75_11 (wc_iload_n (pc := 186) (dAt dtX4_week_c1 42 rfl) rfl (wc_ialdK hg (pc := 187) (dAt dtX4_week_c1 43 rfl) kr82 o144 o145 (wc_iconst (pc := 188) (dAt dtX4_week_c1 44 rfl) ⟨by decide, by decide⟩ (wc_kf hg fun zk => wc_callV (k := 4) (y' := tX4_mayNot) (av := [vI x1, vI (hI h135 144 (Int.toNat x134)), vI ((96 * (x3 + x119)) + 40), vI (hI h135 75 1), vI x2, vI (hI h135 82 (Int.toNat x1)), vI 0]) (st := []) (pc := 189) (dAt dtX4_week_c1 45 rfl) lkX4_481 moX4_mayNot q2674 qs92 (by decide) (zk.2 _ ka75).1 rfl rfl (Nat.le_of_ble_eq_true rfl) (wX4_mayNot hg hm) (kr_I (fun x147 h146 hm => ?_)) (kx_I rfl))))))))))))))))))))))
                      refine wc_iconst (pc := 192) (dAt dtX4_week_c1 46 rfl) ⟨by decide, by decide⟩ (wc_icmp_ne (pc := 193) (tgt := 210) (dAt dtX4_week_c1 47 rfl) (by decide) (fun c148 => ?_) (fun c148 => ?_))
                      · replace hm := ite_f (fun z => z c148) hm
                        obtain ⟨o152, hm⟩ := hm
                        obtain ⟨i153, ei153⟩ : ∃ i153 : Int, i153 = (x134 + 1) := ⟨_, rfl⟩
                        replace hm := hm i153 ei153
                        exact wc_iinc (v := i153) (pc := 210) (dAt dtX4_week_c1 58 rfl) rfl ei153 (ei153 ▸ o152) (by decide) (wc_L (L' := [some (vR 75), some (vI x1), some (vI x2), some (vI x3), some (vI x4), some (vI x119), none, some (vI i153), none, none]) rfl (wc_goto (pc := 213) (tgt := 149) (dAt dtX4_week_c1 59 rfl) (by decide) (ih137 _ _ hm)))
                      · replace hm := ite_t c148 hm
                        obtain ⟨h149, eh149⟩ : ∃ h149 : Hp, h149 = sI h146 152 (Int.toNat x119) (ior (hI h146 152 (Int.toNat x119)) (ishl 1 x134)) := ⟨_, rfl⟩
                        replace hm := hm h149 eh149
                        obtain ⟨o150, hm⟩ := hm
                        obtain ⟨i151, ei151⟩ : ∃ i151 : Int, i151 = (x134 + 1) := ⟨_, rfl⟩
                        replace hm := hm i151 ei151
                        exact wc_aload_n (pc := 196) (dAt dtX4_week_c1 48 rfl) rfl (wc_getKR hg (pc := 197) (dAt dtX4_week_c1 49 rfl) flX4_322_4 rfl ka75 kf75_109 (wc_iload (pc := 200) (dAt dtX4_week_c1 50 rfl) rfl (wc_dup2 (pc := 202) (dAt dtX4_week_c1 51 rfl) rfl rfl (wc_ialdK hg (pc := 203) (dAt dtX4_week_c1 52 rfl) kr152 o130 o131 (wc_iconst (pc := 204) (dAt dtX4_week_c1 53 rfl) ⟨by decide, by decide⟩ (wc_iload (pc := 205) (dAt dtX4_week_c1 54 rfl) rfl (wc_ishl (pc := 207) (dAt dtX4_week_c1 55 rfl) (wc_ior (pc := 208) (dAt dtX4_week_c1 56 rfl) (wc_iastK hg (pc := 209) (dAt dtX4_week_c1 57 rfl) kr152 (by decide) o130 o131 (wc_hp eh149 (wc_iinc (v := i151) (pc := 210) (dAt dtX4_week_c1 58 rfl) rfl ei151 (ei151 ▸ o150) (by decide) (wc_L (L' := [some (vR 75), some (vI x1), some (vI x2), some (vI x3), some (vI x4), some (vI x119), none, some (vI i151), none, none]) rfl (wc_goto (pc := 213) (tgt := 149) (dAt dtX4_week_c1 59 rfl) (by decide) (ih137 _ _ hm))))))))))))))
                  have p157 := o128
                  have k158 : (¬ (v126 ≤ 40)) → Wc G tX4_week (d + 4) h Q 128 [some (vR 75), some (vI x1), some (vI x2), some (vI x3), some (vI x4), some (vI x119), some (vI v126), none, none, none] [vI x119, vR 153] h120 := fun c160 => by
                    have z161 := kj156
                    rw [show v129 = 0 from ev129.trans (if_pos c160)] at z161
                    exact wc_iconst (pc := 128) (dAt dtX4_week_c1 7 rfl) ⟨by decide, by decide⟩ (wc_goto (pc := 129) (tgt := 137) (dAt dtX4_week_c1 8 rfl) (by decide) (wc_drp [6] rfl (z161)))
                  have k159 : ¬ (¬ (v126 ≤ 40)) → Wc G tX4_week (d + 4) h Q 132 [some (vR 75), some (vI x1), some (vI x2), some (vI x3), some (vI x4), some (vI x119), some (vI v126), none, none, none] [vI x119, vR 153] h120 := fun c160 => by
                    have o127 := (p157 c160)
                    have z163 := kj156
                    rw [show v129 = (40 - v126) from ev129.trans (if_neg c160)] at z163
                    exact wc_bipush (pc := 132) (dAt dtX4_week_c1 9 rfl) ⟨by decide, by decide, by decide⟩ (wc_iload (pc := 134) (dAt dtX4_week_c1 10 rfl) rfl (wc_isub (pc := 136) (dAt dtX4_week_c1 11 rfl) o127 (wc_drp [6] rfl (z163))))
                  exact wc_icmp_le (pc := 125) (tgt := 132) (dAt dtX4_week_c1 6 rfl) (by decide) (fun c165 => (k159 (fun z => z c165))) (fun c165 => (k158 c165))
              · replace hm := ite_t c117 hm
                exact wc_iconst (pc := 83) (dAt dtX4_week_c0 44 rfl) ⟨by decide, by decide⟩ (wc_iret (pc := 84) (dAt dtX4_week_c0 45 rfl) rfl (nar_int _) hm)
            · replace hm := ite_t c116 hm
              exact wc_iconst (pc := 74) (dAt dtX4_week_c0 39 rfl) ⟨by decide, by decide⟩ (wc_iret (pc := 75) (dAt dtX4_week_c0 40 rfl) rfl (nar_int _) hm)
          have k207 : (¬ (x3 < 0) ∧ (¬ (25 < x3))) → Wc G tX4_week (d + 4) h Q 62 [some (vR 75), some (vI x1), some (vI x2), some (vI x3), some (vI x4), none, none, none, none, none] [vR 75] h110 := fun c209 => by
            have z210 := kj206
            rw [show v113 = 1 from ev113.trans (b2i_t c209)] at z210
            exact wc_iconst (pc := 62) (dAt dtX4_week_c0 33 rfl) ⟨by decide, by decide⟩ (wc_goto (pc := 63) (tgt := 67) (dAt dtX4_week_c0 34 rfl) (by decide) (z210))
          have k208 : ¬ (¬ (x3 < 0) ∧ (¬ (25 < x3))) → Wc G tX4_week (d + 4) h Q 66 [some (vR 75), some (vI x1), some (vI x2), some (vI x3), some (vI x4), none, none, none, none, none] [vR 75] h110 := fun c209 => by
            have z212 := kj206
            rw [show v113 = 0 from ev113.trans (b2i_f c209)] at z212
            exact wc_iconst (pc := 66) (dAt dtX4_week_c0 35 rfl) ⟨by decide, by decide⟩ (z212)
          exact wc_if_lt (pc := 53) (tgt := 66) (dAt dtX4_week_c0 29 rfl) (by decide) (fun c214 => (k208 (fun z => z.1 c214))) (fun c214 => wc_iload_n (pc := 56) (dAt dtX4_week_c0 30 rfl) rfl (wc_bipush (pc := 57) (dAt dtX4_week_c0 31 rfl) ⟨by decide, by decide, by decide⟩ (wc_icmp_gt (pc := 59) (tgt := 66) (dAt dtX4_week_c0 32 rfl) (by decide) (fun c215 => (k208 (fun z => (fun z => z c215) z.2))) (fun c215 => (k207 ⟨c214, c215⟩)))))
    have k217 : (¬ (x2 < 0) ∧ (¬ ((hI h102 75 2) ≤ x2))) → Wc G tX4_week (d + 4) h Q 26 [some (vR 75), some (vI x1), some (vI x2), some (vI x3), some (vI x4), none, none, none, none, none] [vR 75] h102 := fun c219 => by
      have z220 := kj216
      rw [show v105 = 1 from ev105.trans (b2i_t c219)] at z220
      exact wc_iconst (pc := 26) (dAt dtX4_week_c0 14 rfl) ⟨by decide, by decide⟩ (wc_goto (pc := 27) (tgt := 31) (dAt dtX4_week_c0 15 rfl) (by decide) (z220))
    have k218 : ¬ (¬ (x2 < 0) ∧ (¬ ((hI h102 75 2) ≤ x2))) → Wc G tX4_week (d + 4) h Q 30 [some (vR 75), some (vI x1), some (vI x2), some (vI x3), some (vI x4), none, none, none, none, none] [vR 75] h102 := fun c219 => by
      have z222 := kj216
      rw [show v105 = 0 from ev105.trans (b2i_f c219)] at z222
      exact wc_iconst (pc := 30) (dAt dtX4_week_c0 16 rfl) ⟨by decide, by decide⟩ (z222)
    exact wc_if_lt (pc := 15) (tgt := 30) (dAt dtX4_week_c0 9 rfl) (by decide) (fun c224 => (k218 (fun z => z.1 c224))) (fun c224 => wc_iload_n (pc := 18) (dAt dtX4_week_c0 10 rfl) rfl (wc_aload_n (pc := 19) (dAt dtX4_week_c0 11 rfl) rfl (wc_getKI hg (pc := 20) (dAt dtX4_week_c0 12 rfl) flX4_7_4 rfl ka75 (wc_icmp_ge (pc := 23) (tgt := 30) (dAt dtX4_week_c0 13 rfl) (by decide) (fun c225 => (k218 (fun z => (fun z => z c225) z.2))) (fun c225 => (k217 ⟨c224, c225⟩))))))
def tX1_weekOf : Mt := (⟨"FlyingDoctors", "weekOf", "(I)I"⟩, prog_1_method_62_code, 2, (Option.some Jvm.ClassFile.FieldType.int), [])
def DX1_weekOf : List (Nat × Instr × Nat) := [(0, .aload_n 0, 1), (1, .getfield 311, 3), (4, .iconst (-1), 1), (5, .if_icmp .eq 21, 3), (8, .iload_n 1, 1), (9, .iconst (-1), 1), (10, .aload_n 0, 1), (11, .getfield 311, 3), (14, .iconst 1, 1), (15, .isub, 1), (16, .invokestatic 314, 3), (19, .ifCond .eq 7, 3), (22, .iconst 1, 1), (23, .goto 4, 3), (26, .iconst 0, 1), (27, .invokestatic 318, 3), (30, .iload_n 1, 1), (31, .iconst (-1), 1), (32, .if_icmp .ne 10, 3), (35, .aload_n 0, 1), (36, .getfield 521, 3), (39, .goto 9, 3), (42, .aload_n 0, 1), (43, .getfield 296, 3), (46, .iload_n 1, 1), (47, .iaload, 1), (48, .ireturn, 1)]
theorem dtX1_weekOf : chkD (mB tX1_weekOf) DX1_weekOf = true := by decide +kernel
theorem moX1_weekOf : MethOk tX1_weekOf 1 := ⟨Or.inl ⟨rfl, q2066⟩, by decide +kernel, ⟨by decide, by decide⟩, by decide +kernel⟩
def mX1_weekOf (x1 : Int) (h : Hp) (Q : Rs → Hp → Prop) : Prop := ((¬ ((hI h 50 25) = (-1)) → nm ((hI h 50 25) - 1))) ∧ ∀ v103 : Int, v103 = (b2i (¬ ((hI h 50 25) = (-1)) ∧ (¬ ((vX1_in x1 (-1) ((hI h 50 25) - 1) h) = 0)))) → mX1_found v103 h (kN Q (fun h104 => ((¬ (¬ (x1 ≠ (-1))) → 0 ≤ x1 ∧ x1 < 8)) ∧ ∀ v108 : Int, v108 = (if ¬ (x1 ≠ (-1)) then (hI h104 50 26) else (hI h104 73 (Int.toNat x1))) → Q (rV (vI v108)) h104))
theorem wX1_weekOf {G : Gx} (hg : gF G = true) {d : Nat} {x1 : Int} {h : Hp} {Q : Rs → Hp → Prop} (hm : mX1_weekOf x1 h Q) : Ct G tX1_weekOf (d + 9) [vR 50, vI x1] h Q := by
  refine ct_enter (L0 := [some (vR 50), some (vI x1)]) rfl rfl ?_
  unfold mX1_weekOf at hm
  obtain ⟨o102, hm⟩ := hm
  obtain ⟨v103, ev103⟩ : ∃ v103 : Int, v103 = (b2i (¬ ((hI h 50 25) = (-1)) ∧ (¬ ((vX1_in x1 (-1) ((hI h 50 25) - 1) h) = 0)))) := ⟨_, rfl⟩
  replace hm := hm v103 ev103
  refine wc_aload_n (pc := 0) (dAt dtX1_weekOf 0 rfl) rfl (wc_getKI hg (pc := 1) (dAt dtX1_weekOf 1 rfl) flX1_311_1 rfl ka50 (wc_iconst (pc := 4) (dAt dtX1_weekOf 2 rfl) ⟨by decide, by decide⟩ (?_)))
  have kj119 : Wc G tX1_weekOf (d + 9) h Q 27 [some (vR 50), some (vI x1)] [vI v103] h := by
    refine wc_callS (y' := tX1_found) (av := [vI v103]) (st := []) (pc := 27) (dAt dtX1_weekOf 15 rfl) lkX1_318 moX1_found q687 q128 rfl rfl (Nat.le_of_ble_eq_true rfl) (wX1_found hg hm) (kr_N (fun h104 hm => ?_)) (kx_N rfl)
    obtain ⟨o107, hm⟩ := hm
    obtain ⟨v108, ev108⟩ : ∃ v108 : Int, v108 = (if ¬ (x1 ≠ (-1)) then (hI h104 50 26) else (hI h104 73 (Int.toNat x1))) := ⟨_, rfl⟩
    replace hm := hm v108 ev108
    refine wc_iload_n (pc := 30) (dAt dtX1_weekOf 16 rfl) rfl (wc_iconst (pc := 31) (dAt dtX1_weekOf 17 rfl) ⟨by decide, by decide⟩ (?_))
    have kj109 : Wc G tX1_weekOf (d + 9) h Q 48 [some (vR 50), none] [vI v108] h104 := by
      exact wc_iret (pc := 48) (dAt dtX1_weekOf 26 rfl) rfl (nar_int _) hm
    have p110 := o107
    have k111 : (¬ (x1 ≠ (-1))) → Wc G tX1_weekOf (d + 9) h Q 35 [some (vR 50), some (vI x1)] [] h104 := fun c113 => by
      have z114 := kj109
      rw [show v108 = (hI h104 50 26) from ev108.trans (if_pos c113)] at z114
      exact wc_aload_n (pc := 35) (dAt dtX1_weekOf 19 rfl) rfl (wc_getKI hg (pc := 36) (dAt dtX1_weekOf 20 rfl) flX1_521_1 rfl ka50 (wc_goto (pc := 39) (tgt := 48) (dAt dtX1_weekOf 21 rfl) (by decide) (wc_drp [1] rfl (z114))))
    have k112 : ¬ (¬ (x1 ≠ (-1))) → Wc G tX1_weekOf (d + 9) h Q 42 [some (vR 50), some (vI x1)] [] h104 := fun c113 => by
      obtain ⟨o105, o106⟩ := (p110 c113)
      have z116 := kj109
      rw [show v108 = (hI h104 73 (Int.toNat x1)) from ev108.trans (if_neg c113)] at z116
      exact wc_aload_n (pc := 42) (dAt dtX1_weekOf 22 rfl) rfl (wc_getKR hg (pc := 43) (dAt dtX1_weekOf 23 rfl) flX1_296_1 rfl ka50 kf50_18 (wc_iload_n (pc := 46) (dAt dtX1_weekOf 24 rfl) rfl (wc_ialdK hg (pc := 47) (dAt dtX1_weekOf 25 rfl) kr73 o105 o106 (wc_drp [1] rfl (z116)))))
    exact wc_icmp_ne (pc := 32) (tgt := 42) (dAt dtX1_weekOf 18 rfl) (by decide) (fun c118 => (k112 (fun z => z c118))) (fun c118 => (k111 c118))
  have p120 := o102
  have k121 : (¬ ((hI h 50 25) = (-1)) ∧ (¬ ((vX1_in x1 (-1) ((hI h 50 25) - 1) h) = 0))) → Wc G tX1_weekOf (d + 9) h Q 22 [some (vR 50), some (vI x1)] [] h := fun c123 => by
    have z124 := kj119
    rw [show v103 = 1 from ev103.trans (b2i_t c123)] at z124
    exact wc_iconst (pc := 22) (dAt dtX1_weekOf 12 rfl) ⟨by decide, by decide⟩ (wc_goto (pc := 23) (tgt := 27) (dAt dtX1_weekOf 13 rfl) (by decide) (z124))
  have k122 : ¬ (¬ ((hI h 50 25) = (-1)) ∧ (¬ ((vX1_in x1 (-1) ((hI h 50 25) - 1) h) = 0))) → Wc G tX1_weekOf (d + 9) h Q 26 [some (vR 50), some (vI x1)] [] h := fun c123 => by
    have z126 := kj119
    rw [show v103 = 0 from ev103.trans (b2i_f c123)] at z126
    exact wc_iconst (pc := 26) (dAt dtX1_weekOf 14 rfl) ⟨by decide, by decide⟩ (z126)
  exact wc_icmp_eq (pc := 5) (tgt := 26) (dAt dtX1_weekOf 3 rfl) (by decide) (fun c128 => (k122 (fun z => z.1 c128))) (fun c128 => wc_iload_n (pc := 8) (dAt dtX1_weekOf 4 rfl) rfl (wc_iconst (pc := 9) (dAt dtX1_weekOf 5 rfl) ⟨by decide, by decide⟩ (wc_aload_n (pc := 10) (dAt dtX1_weekOf 6 rfl) rfl (wc_getKI hg (pc := 11) (dAt dtX1_weekOf 7 rfl) flX1_311_1 rfl ka50 (wc_iconst (pc := 14) (dAt dtX1_weekOf 8 rfl) ⟨by decide, by decide⟩ (wc_isub (pc := 15) (dAt dtX1_weekOf 9 rfl) (p120 c128) (wc_callS (y' := tX1_in) (P := eI (vX1_in x1 (-1) ((hI h 50 25) - 1) h) h) (pc := 16) (dAt dtX1_weekOf 10 rfl) lkX1_314 moX1_in q374 q128 rfl rfl (Nat.le_of_ble_eq_true rfl) (wX1_in hg ⟨rfl, rfl⟩) (ep_I (wc_if_eq (pc := 19) (tgt := 26) (dAt dtX1_weekOf 11 rfl) (by decide) (fun c129 => (k122 (fun z => (fun z => z c129) z.2))) (fun c129 => (k121 ⟨c128, c129⟩)))) ex_I)))))))
def tX0_weekOf : Mt := (⟨"FlyingDoctorsLaw", "weekOf", "(LFlyingDoctors;I[J)I"⟩, method_25_code, 4, (Option.some Jvm.ClassFile.FieldType.int), [((0 : Nat), (9 : Nat), (12 : Nat), (13 : Nat))])
def DX0_weekOf : List (Nat × Instr × Nat) := [(0, .aload_n 2, 1), (1, .iconst 0, 1), (2, .aload_n 0, 1), (3, .iload_n 1, 1), (4, .invokevirtual 89, 3), (7, .i2l, 1), (8, .lastore, 1), (9, .goto 6, 3), (12, .astore_n 3, 1), (13, .iconst 1, 1), (14, .ireturn, 1), (15, .iconst 0, 1), (16, .ireturn, 1)]
theorem dtX0_weekOf : chkD (mB tX0_weekOf) DX0_weekOf = true := by decide +kernel
theorem moX0_weekOf : MethOk tX0_weekOf 3 := ⟨Or.inr q2062, by decide +kernel, ⟨by decide, by decide⟩, by decide +kernel⟩
def mX0_weekOf (x1 : Int) (h : Hp) (Q : Rs → Hp → Prop) : Prop := mX1_weekOf x1 h (kIx (fun a103 h104 => ob h104 a103 41 ∧ (Q (rV (vI 1)) h104)) (fun x102 h101 => ∀ h106 : Hp, h106 = sL h101 158 0 x102 → Q (rV (vI 0)) h106))
theorem wX0_weekOf {G : Gx} (hg : gF G = true) {d : Nat} {x1 : Int} {h : Hp} {Q : Rs → Hp → Prop} (hm : mX0_weekOf x1 h Q) : Ct G tX0_weekOf (d + 10) [vR 50, vI x1, vR 158] h Q := by
  refine ct_enter (L0 := [some (vR 50), some (vI x1), some (vR 158), none]) rfl rfl ?_
  unfold mX0_weekOf at hm
  refine wc_aload_n (pc := 0) (dAt dtX0_weekOf 0 rfl) rfl (wc_iconst (pc := 1) (dAt dtX0_weekOf 1 rfl) ⟨by decide, by decide⟩ (wc_aload_n (pc := 2) (dAt dtX0_weekOf 2 rfl) rfl (wc_iload_n (pc := 3) (dAt dtX0_weekOf 3 rfl) rfl (wc_kf hg fun zk => wc_callV (k := 1) (y' := tX1_weekOf) (av := [vI x1]) (st := [vI 0, vR 158]) (pc := 4) (dAt dtX0_weekOf 4 rfl) lkX0_89 moX1_weekOf q2064 q2065 (by decide) (zk.2 _ ka50).1 rfl rfl (Nat.le_of_ble_eq_true rfl) (wX1_weekOf hg hm) (krx_I (fun x102 h101 hm => ?_)) (kxx_I (fun a103 h104 hm => ?_))))))
  · obtain ⟨h106, eh106⟩ : ∃ h106 : Hp, h106 = sL h101 158 0 x102 := ⟨_, rfl⟩
    replace hm := hm h106 eh106
    exact wc_i2l (pc := 7) (dAt dtX0_weekOf 5 rfl) (wc_lastK hg (pc := 8) (dAt dtX0_weekOf 6 rfl) kr158 (by decide) (by decide) (by decide) (wc_hp eh106 (wc_goto (pc := 9) (tgt := 15) (dAt dtX0_weekOf 7 rfl) (by decide) (wc_iconst (pc := 15) (dAt dtX0_weekOf 11 rfl) ⟨by decide, by decide⟩ (wc_iret (pc := 16) (dAt dtX0_weekOf 12 rfl) rfl (nar_int _) hm)))))
  · obtain ⟨o105, hm⟩ := hm
    refine wx_hit rfl rfl (by decide) q676 (by decide) o105 rfl ?_
    exact wc_astore_n (pc := 12) (dAt dtX0_weekOf 8 rfl) (by decide) (wc_L (L' := [some (vR 50), some (vI x1), some (vR 158), some (vR a103)]) rfl (wc_iconst (pc := 13) (dAt dtX0_weekOf 9 rfl) ⟨by decide, by decide⟩ (wc_iret (pc := 14) (dAt dtX0_weekOf 10 rfl) rfl (nar_int _) hm)))
def tX4_weekOf : Mt := (⟨"FlyingDoctorsModel", "weekOf", "(I)I"⟩, prog_24_method_106_code, 2, (Option.some Jvm.ClassFile.FieldType.int), [])
def DX4_weekOf : List (Nat × Instr × Nat) := [(0, .aload_n 0, 1), (1, .iconst 0, 1), (2, .putfield 1, 3), (5, .aload_n 0, 1), (6, .aload_n 0, 1), (7, .getfield 593, 3), (10, .ifCond .le 20, 3), (13, .iload_n 1, 1), (14, .iconst (-1), 1), (15, .if_icmp .lt 15, 3), (18, .iload_n 1, 1), (19, .aload_n 0, 1), (20, .getfield 593, 3), (23, .if_icmp .ge 7, 3), (26, .iconst 1, 1), (27, .goto 4, 3), (30, .iconst 0, 1), (31, .iconst 1, 1), (32, .invokevirtual 10, 3), (35, .ifCond .ne 5, 3), (38, .iconst 0, 1), (39, .ireturn, 1), (40, .iload_n 1, 1), (41, .iconst (-1), 1), (42, .if_icmp .ne 10, 3), (45, .aload_n 0, 1), (46, .getfield 596, 3), (49, .goto 9, 3), (52, .aload_n 0, 1), (53, .getfield 307, 3), (56, .iload_n 1, 1), (57, .iaload, 1), (58, .ireturn, 1)]
theorem dtX4_weekOf : chkD (mB tX4_weekOf) DX4_weekOf = true := by decide +kernel
theorem moX4_weekOf : MethOk tX4_weekOf 1 := ⟨Or.inl ⟨rfl, q2894⟩, by decide +kernel, ⟨by decide, by decide⟩, by decide +kernel⟩
def mX4_weekOf (x1 : Int) (h : Hp) (Q : Rs → Hp → Prop) : Prop := ∀ h101 : Hp, h101 = sI h 75 0 0 → ∀ v102 : Int, v102 = (b2i (¬ ((hI h101 75 99) ≤ 0) ∧ (¬ (x1 < (-1)) ∧ (¬ ((hI h101 75 99) ≤ x1))))) → mX4_right v102 1 h101 (kI Q (fun x104 h103 => if ¬ (x104 ≠ 0) then Q (rV (vI 0)) h103 else ((¬ (¬ (x1 ≠ (-1))) → 0 ≤ x1 ∧ x1 < 8)) ∧ ∀ v109 : Int, v109 = (if ¬ (x1 ≠ (-1)) then (hI h103 75 100) else (hI h103 147 (Int.toNat x1))) → Q (rV (vI v109)) h103))
theorem wX4_weekOf {G : Gx} (hg : gF G = true) {d : Nat} {x1 : Int} {h : Hp} {Q : Rs → Hp → Prop} (hm : mX4_weekOf x1 h Q) : Ct G tX4_weekOf (d + 1) [vR 75, vI x1] h Q := by
  refine ct_enter (L0 := [some (vR 75), some (vI x1)]) rfl rfl ?_
  unfold mX4_weekOf at hm
  obtain ⟨h101, eh101⟩ : ∃ h101 : Hp, h101 = sI h 75 0 0 := ⟨_, rfl⟩
  replace hm := hm h101 eh101
  obtain ⟨v102, ev102⟩ : ∃ v102 : Int, v102 = (b2i (¬ ((hI h101 75 99) ≤ 0) ∧ (¬ (x1 < (-1)) ∧ (¬ ((hI h101 75 99) ≤ x1))))) := ⟨_, rfl⟩
  replace hm := hm v102 ev102
  refine wc_aload_n (pc := 0) (dAt dtX4_weekOf 0 rfl) rfl (wc_iconst (pc := 1) (dAt dtX4_weekOf 1 rfl) ⟨by decide, by decide⟩ (wc_putKI hg (pc := 2) (dAt dtX4_weekOf 2 rfl) flX4_1_4 (Or.inl rfl) rfl ka75 (by decide) (okI_int _) (wc_hp eh101 (wc_aload_n (pc := 5) (dAt dtX4_weekOf 3 rfl) rfl (wc_aload_n (pc := 6) (dAt dtX4_weekOf 4 rfl) rfl (wc_getKI hg (pc := 7) (dAt dtX4_weekOf 5 rfl) flX4_593_4 rfl ka75 (?_)))))))
  have kj120 : Wc G tX4_weekOf (d + 1) h Q 31 [some (vR 75), some (vI x1)] [vI v102, vR 75] h101 := by
    refine wc_iconst (pc := 31) (dAt dtX4_weekOf 17 rfl) ⟨by decide, by decide⟩ (wc_kf hg fun zk => wc_callV (k := 4) (y' := tX4_right) (av := [vI v102, vI 1]) (st := []) (pc := 32) (dAt dtX4_weekOf 18 rfl) lkX4_10 moX4_right q2152 qs64 (by decide) (zk.2 _ ka75).1 rfl rfl (Nat.le_of_ble_eq_true rfl) (wX4_right hg hm) (kr_I (fun x104 h103 hm => ?_)) (kx_I rfl))
    refine wc_if_ne (pc := 35) (tgt := 40) (dAt dtX4_weekOf 19 rfl) (by decide) (fun c105 => ?_) (fun c105 => ?_)
    · replace hm := ite_f (fun z => z c105) hm
      obtain ⟨o108, hm⟩ := hm
      obtain ⟨v109, ev109⟩ : ∃ v109 : Int, v109 = (if ¬ (x1 ≠ (-1)) then (hI h103 75 100) else (hI h103 147 (Int.toNat x1))) := ⟨_, rfl⟩
      replace hm := hm v109 ev109
      refine wc_iload_n (pc := 40) (dAt dtX4_weekOf 22 rfl) rfl (wc_iconst (pc := 41) (dAt dtX4_weekOf 23 rfl) ⟨by decide, by decide⟩ (?_))
      have kj110 : Wc G tX4_weekOf (d + 1) h Q 58 [some (vR 75), none] [vI v109] h103 := by
        exact wc_iret (pc := 58) (dAt dtX4_weekOf 32 rfl) rfl (nar_int _) hm
      have p111 := o108
      have k112 : (¬ (x1 ≠ (-1))) → Wc G tX4_weekOf (d + 1) h Q 45 [some (vR 75), some (vI x1)] [] h103 := fun c114 => by
        have z115 := kj110
        rw [show v109 = (hI h103 75 100) from ev109.trans (if_pos c114)] at z115
        exact wc_aload_n (pc := 45) (dAt dtX4_weekOf 25 rfl) rfl (wc_getKI hg (pc := 46) (dAt dtX4_weekOf 26 rfl) flX4_596_4 rfl ka75 (wc_goto (pc := 49) (tgt := 58) (dAt dtX4_weekOf 27 rfl) (by decide) (wc_drp [1] rfl (z115))))
      have k113 : ¬ (¬ (x1 ≠ (-1))) → Wc G tX4_weekOf (d + 1) h Q 52 [some (vR 75), some (vI x1)] [] h103 := fun c114 => by
        obtain ⟨o106, o107⟩ := (p111 c114)
        have z117 := kj110
        rw [show v109 = (hI h103 147 (Int.toNat x1)) from ev109.trans (if_neg c114)] at z117
        exact wc_aload_n (pc := 52) (dAt dtX4_weekOf 28 rfl) rfl (wc_getKR hg (pc := 53) (dAt dtX4_weekOf 29 rfl) flX4_307_4 rfl ka75 kf75_104 (wc_iload_n (pc := 56) (dAt dtX4_weekOf 30 rfl) rfl (wc_ialdK hg (pc := 57) (dAt dtX4_weekOf 31 rfl) kr147 o106 o107 (wc_drp [1] rfl (z117)))))
      exact wc_icmp_ne (pc := 42) (tgt := 52) (dAt dtX4_weekOf 24 rfl) (by decide) (fun c119 => (k113 (fun z => z c119))) (fun c119 => (k112 c119))
    · replace hm := ite_t c105 hm
      exact wc_iconst (pc := 38) (dAt dtX4_weekOf 20 rfl) ⟨by decide, by decide⟩ (wc_iret (pc := 39) (dAt dtX4_weekOf 21 rfl) rfl (nar_int _) hm)
  have k121 : (¬ ((hI h101 75 99) ≤ 0) ∧ (¬ (x1 < (-1)) ∧ (¬ ((hI h101 75 99) ≤ x1)))) → Wc G tX4_weekOf (d + 1) h Q 26 [some (vR 75), some (vI x1)] [vR 75] h101 := fun c123 => by
    have z124 := kj120
    rw [show v102 = 1 from ev102.trans (b2i_t c123)] at z124
    exact wc_iconst (pc := 26) (dAt dtX4_weekOf 14 rfl) ⟨by decide, by decide⟩ (wc_goto (pc := 27) (tgt := 31) (dAt dtX4_weekOf 15 rfl) (by decide) (z124))
  have k122 : ¬ (¬ ((hI h101 75 99) ≤ 0) ∧ (¬ (x1 < (-1)) ∧ (¬ ((hI h101 75 99) ≤ x1)))) → Wc G tX4_weekOf (d + 1) h Q 30 [some (vR 75), some (vI x1)] [vR 75] h101 := fun c123 => by
    have z126 := kj120
    rw [show v102 = 0 from ev102.trans (b2i_f c123)] at z126
    exact wc_iconst (pc := 30) (dAt dtX4_weekOf 16 rfl) ⟨by decide, by decide⟩ (z126)
  exact wc_if_le (pc := 10) (tgt := 30) (dAt dtX4_weekOf 6 rfl) (by decide) (fun c128 => (k122 (fun z => z.1 c128))) (fun c128 => wc_iload_n (pc := 13) (dAt dtX4_weekOf 7 rfl) rfl (wc_iconst (pc := 14) (dAt dtX4_weekOf 8 rfl) ⟨by decide, by decide⟩ (wc_icmp_lt (pc := 15) (tgt := 30) (dAt dtX4_weekOf 9 rfl) (by decide) (fun c129 => (k122 (fun z => (fun z => z.1 c129) z.2))) (fun c129 => wc_iload_n (pc := 18) (dAt dtX4_weekOf 10 rfl) rfl (wc_aload_n (pc := 19) (dAt dtX4_weekOf 11 rfl) rfl (wc_getKI hg (pc := 20) (dAt dtX4_weekOf 12 rfl) flX4_593_4 rfl ka75 (wc_icmp_ge (pc := 23) (tgt := 30) (dAt dtX4_weekOf 13 rfl) (by decide) (fun c130 => (k122 (fun z => (fun z => (fun z => z c130) z.2) z.2))) (fun c130 => (k121 ⟨c128, ⟨c129, c130⟩⟩)))))))))
def tX1_round : Mt := (⟨"FlyingDoctors", "round", "(III)I"⟩, prog_1_method_63_code, 6, (Option.some Jvm.ClassFile.FieldType.int), [])
def DX1_round : List (Nat × Instr × Nat) := [(0, .aload_n 0, 1), (1, .iload_n 1, 1), (2, .invokevirtual 370, 3), (5, .astore 4, 2), (7, .aload_n 0, 1), (8, .iload_n 2, 1), (9, .invokevirtual 334, 3), (12, .astore 5, 2), (14, .iload_n 3, 1), (15, .iconst 0, 1), (16, .iconst 1, 1), (17, .aload_n 0, 1), (18, .getfield 284, 3), (21, .invokeinterface 16 1, 5), (26, .ishl, 1), (27, .iconst 1, 1), (28, .isub, 1), (29, .invokestatic 314, 3), (32, .invokestatic 318, 3), (35, .new 502, 3), (38, .dup, 1), (39, .aload_n 0, 1), (40, .aload 4, 2), (42, .aload 5, 2), (44, .invokespecial 504, 3), (47, .getfield 524, 3), (50, .iload_n 3, 1), (51, .iaload, 1), (52, .ireturn, 1)]
theorem dtX1_round : chkD (mB tX1_round) DX1_round = true := by decide +kernel
theorem moX1_round : MethOk tX1_round 3 := ⟨Or.inl ⟨rfl, q2073⟩, by decide +kernel, ⟨by decide, by decide⟩, by decide +kernel⟩
def mX1_round (x1 : Int) (x2 : Int) (x3 : Int) (h : Hp) (Q : Rs → Hp → Prop) : Prop := mX1_planeAt x1 h (kR Q (fun r102 h101 => mX1_placeAt x2 h101 (kR Q (fun r104 h103 => oJ2_size 63 h103 ∧ nm ((ishl 1 (vJ2_size 63 h103)) - 1) ∧ mX1_found (vX1_in x3 0 ((ishl 1 (vJ2_size 63 h103)) - 1) h103) h103 (kN Q (fun h107 => hn h107 + 1 ≤ 878547 ∧ hq h107 + 8 ≤ 6460613 ∧ ∀ r111 : Nat, r111 = hn h107 → ∀ h112 : Hp, h112 = nw h107 22 0 8 → mX22_init r111 r102 r104 h112 (kN Q (fun h113 => ob h113 r111 22 ∧ ob h113 (hR h113 r111 4) 70 ∧ 0 ≤ x3 ∧ x3 < (hN h113 (hR h113 r111 4)) ∧ Q (rV (vI (hI h113 (hR h113 r111 4) (Int.toNat x3)))) h113))))))))
theorem wX1_round {G : Gx} (hg : gF G = true) {d : Nat} {x1 : Int} {x2 : Int} {x3 : Int} {h : Hp} {Q : Rs → Hp → Prop} (hm : mX1_round x1 x2 x3 h Q) : Ct G tX1_round (d + 10) [vR 50, vI x1, vI x2, vI x3] h Q := by
  refine ct_enter (L0 := [some (vR 50), some (vI x1), some (vI x2), some (vI x3), none, none]) rfl rfl ?_
  unfold mX1_round at hm
  refine wc_aload_n (pc := 0) (dAt dtX1_round 0 rfl) rfl (wc_iload_n (pc := 1) (dAt dtX1_round 1 rfl) rfl (wc_kf hg fun zk => wc_callV (k := 1) (y' := tX1_planeAt) (av := [vI x1]) (st := []) (pc := 2) (dAt dtX1_round 2 rfl) lkX1_370 moX1_planeAt q1549 qs35 (by decide) (zk.2 _ ka50).1 rfl rfl (Nat.le_of_ble_eq_true rfl) (wX1_planeAt hg hm) (kr_R (fun r102 h101 hm => ?_)) (kx_R rfl)))
  refine wc_astore (pc := 5) (dAt dtX1_round 3 rfl) (by decide) (wc_L (L' := [some (vR 50), some (vI x1), some (vI x2), some (vI x3), some (vR r102), none]) rfl (wc_aload_n (pc := 7) (dAt dtX1_round 4 rfl) rfl (wc_iload_n (pc := 8) (dAt dtX1_round 5 rfl) rfl (wc_kf hg fun zk => wc_callV (k := 1) (y' := tX1_placeAt) (av := [vI x2]) (st := []) (pc := 9) (dAt dtX1_round 6 rfl) lkX1_334 moX1_placeAt q684 qs5 (by decide) (zk.2 _ ka50).1 rfl rfl (Nat.le_of_ble_eq_true rfl) (wX1_placeAt hg hm) (kr_R (fun r104 h103 hm => ?_)) (kx_R rfl)))))
  obtain ⟨o105, o106, hm⟩ := hm
  refine wc_astore (pc := 12) (dAt dtX1_round 7 rfl) (by decide) (wc_L (L' := [some (vR 50), some (vI x1), some (vI x2), some (vI x3), some (vR r102), some (vR r104)]) rfl (wc_iload_n (pc := 14) (dAt dtX1_round 8 rfl) rfl (wc_iconst (pc := 15) (dAt dtX1_round 9 rfl) ⟨by decide, by decide⟩ (wc_iconst (pc := 16) (dAt dtX1_round 10 rfl) ⟨by decide, by decide⟩ (wc_aload_n (pc := 17) (dAt dtX1_round 11 rfl) rfl (wc_getKR hg (pc := 18) (dAt dtX1_round 12 rfl) flX1_284_1 rfl ka50 kf50_13 (wc_kf hg fun zk => (wc_callF (k := 32) (x := ⟨"java/util/List", "size", "()I"⟩) (y' := tJ2_size) (P := eI (vJ2_size 63 h103) h103) (pc := 21) (dAt dtX1_round 13 rfl) q364 q366 q365 ⟨by decide, by decide⟩ moJ2_size rfl q370 q371 q369 q367 q368 (by decide) (zk.2 _ ka63).1 rfl rfl (Nat.le_of_ble_eq_true rfl) (wJ2_size hg o105 ⟨rfl, rfl⟩) (ep_I (wc_ishl (pc := 26) (dAt dtX1_round 14 rfl) (wc_iconst (pc := 27) (dAt dtX1_round 15 rfl) ⟨by decide, by decide⟩ (wc_isub (pc := 28) (dAt dtX1_round 16 rfl) o106 (wc_callS (y' := tX1_in) (P := eI (vX1_in x3 0 ((ishl 1 (vJ2_size 63 h103)) - 1) h103) h103) (pc := 29) (dAt dtX1_round 17 rfl) lkX1_314 moX1_in q374 q128 rfl rfl (Nat.le_of_ble_eq_true rfl) (wX1_in hg ⟨rfl, rfl⟩) (ep_I (wc_callS (y' := tX1_found) (av := [vI (vX1_in x3 0 ((ishl 1 (vJ2_size 63 h103)) - 1) h103)]) (st := []) (pc := 32) (dAt dtX1_round 18 rfl) lkX1_318 moX1_found q687 q128 rfl rfl (Nat.le_of_ble_eq_true rfl) (wX1_found hg hm) (kr_N (fun h107 hm => ?_)) (kx_N rfl))) ex_I))))) ex_I))))))))
  obtain ⟨o108, o109, hm⟩ := hm
  obtain ⟨r111, er111⟩ : ∃ r111 : Nat, r111 = hn h107 := ⟨_, rfl⟩
  replace hm := hm r111 er111
  obtain ⟨h112, eh112⟩ : ∃ h112 : Hp, h112 = nw h107 22 0 8 := ⟨_, rfl⟩
  replace hm := hm h112 eh112
  refine wc_k0 fun n110 => (wc_new (k := 22) (pc := 35) (dAt dtX1_round 19 rfl) q1992 q1993 q172 (by decide) o108 o109 (wc_hp eh112 (wc_vr er111 (wc_dup (pc := 38) (dAt dtX1_round 20 rfl) rfl (wc_aload_n (pc := 39) (dAt dtX1_round 21 rfl) rfl (wc_aload (pc := 40) (dAt dtX1_round 22 rfl) rfl (wc_aload (pc := 42) (dAt dtX1_round 23 rfl) rfl (wc_callI (y' := tX22_init) (av := [vR 50, vR r102, vR r104]) (st := [vR r111]) (pc := 44) (dAt dtX1_round 24 rfl) lkX1_504 moX22_init q1995 rfl q1996 (k0_at er111 n110) rfl rfl (Nat.le_of_ble_eq_true rfl) (wX22_init hg hm) (kr_N (fun h113 hm => ?_)) (kx_N rfl)))))))))
  obtain ⟨o114, o115, o116, o117, hm⟩ := hm
  exact wc_getR (pc := 47) (dAt dtX1_round 25 rfl) flX1_524_22 rfl o114 (wc_iload_n (pc := 50) (dAt dtX1_round 26 rfl) rfl (wc_iald (pc := 51) (dAt dtX1_round 27 rfl) o115 o116 o117 (wc_iret (pc := 52) (dAt dtX1_round 28 rfl) rfl (nar_int _) hm)))
