set_option maxRecDepth 100000
set_option maxHeartbeats 1000000
/-! what methods do, and their walks, by program -/
def tX4_rules : Mt := (⟨"FlyingDoctorsModel", "rules", "(I)I"⟩, prog_24_method_42_code, 2, (Option.some Jvm.ClassFile.FieldType.int), [])
def DX4_rules : List (Nat × Instr × Nat) := [(0, .aload_n 0, 1), (1, .iconst 0, 1), (2, .putfield 1, 3), (5, .aload_n 0, 1), (6, .iload_n 1, 1), (7, .ifCond .lt 15, 3), (10, .iload_n 1, 1), (11, .aload_n 0, 1), (12, .getfield 84, 3), (15, .if_icmp .gt 7, 3), (18, .iconst 1, 1), (19, .goto 4, 3), (22, .iconst 0, 1), (23, .iconst 1, 1), (24, .invokevirtual 10, 3), (27, .ifCond .ne 5, 3), (30, .iconst 0, 1), (31, .ireturn, 1), (32, .aload_n 0, 1), (33, .iconst 0, 1), (34, .putfield 84, 3), (37, .aload_n 0, 1), (38, .iconst (-1), 1), (39, .putfield 140, 3), (42, .aload_n 0, 1), (43, .iconst 0, 1), (44, .putfield 344, 3), (47, .aload_n 0, 1), (48, .getfield 404, 3), (51, .bipush 12, 2), (53, .if_icmp .ne 6, 3), (56, .bipush (-9), 2), (58, .ireturn, 1), (59, .aload_n 0, 1), (60, .iload_n 1, 1), (61, .putfield 94, 3), (64, .aload_n 0, 1), (65, .iconst 0, 1), (66, .putfield 97, 3), (69, .aload_n 0, 1), (70, .sipush 1700, 3), (73, .aload_n 0, 1), (74, .getfield 404, 3), (77, .imul, 1), (78, .putfield 360, 3), (81, .aload_n 0, 1), (82, .aload_n 0, 1), (83, .getfield 426, 3), (86, .putfield 401, 3), (89, .aload_n 0, 1), (90, .iconst 0, 1), (91, .putfield 372, 3), (94, .aload_n 0, 1), (95, .iconst 0, 1), (96, .putfield 413, 3), (99, .aload_n 0, 1), (100, .getfield 153, 3), (103, .aload_n 0, 1), (104, .getfield 404, 3), (107, .iconst (-1), 1), (108, .iastore, 1), (109, .aload_n 0, 1), (110, .getfield 156, 3), (113, .aload_n 0, 1), (114, .getfield 404, 3), (117, .iconst 0, 1), (118, .iastore, 1), (119, .aload_n 0, 1), (120, .getfield 162, 3), (123, .aload_n 0, 1), (124, .getfield 404, 3), (127, .iconst 0, 1), (128, .iastore, 1), (129, .aload_n 0, 1), (130, .iconst 5, 1), (131, .aload_n 0, 1), (132, .getfield 404, 3), (135, .imul, 1), (136, .invokevirtual 429, 3), (139, .aload_n 0, 1), (140, .invokevirtual 354, 3), (143, .aload_n 0, 1), (144, .invokevirtual 347, 3), (147, .ifCond .eq 17, 3), (150, .aload_n 0, 1), (151, .getfield 116, 3), (154, .ifCond .eq 10, 3), (157, .aload_n 0, 1), (158, .invokevirtual 432, 3), (161, .goto (-18), 3), (164, .aload_n 0, 1), (165, .invokevirtual 347, 3), (168, .ifCond .ne 8, 3), (171, .aload_n 0, 1), (172, .getfield 344, 3), (175, .ireturn, 1), (176, .aload_n 0, 1), (177, .aload_n 0, 1), (178, .getfield 401, 3), (181, .putfield 426, 3), (184, .aload_n 0, 1), (185, .getfield 147, 3), (188, .aload_n 0, 1), (189, .getfield 404, 3), (192, .aload_n 0, 1), (193, .getfield 81, 3), (196, .iastore, 1), (197, .aload_n 0, 1), (198, .dup, 1), (199, .getfield 404, 3), (202, .iconst 1, 1), (203, .iadd, 1), (204, .putfield 404, 3), (207, .iconst 0, 1), (208, .ireturn, 1)]
theorem dtX4_rules : chkD (mB tX4_rules) DX4_rules = true := by decide +kernel
theorem moX4_rules : MethOk tX4_rules 1 := ⟨Or.inl ⟨rfl, q2531⟩, by decide +kernel, ⟨by decide, by decide⟩, by decide +kernel⟩
def mX4_rules (x1 : Int) (h : Hp) (Q : Rs → Hp → Prop) : Prop := ∀ h101 : Hp, h101 = sI h 75 0 0 → ∀ v102 : Int, v102 = (b2i (¬ (x1 < 0) ∧ (¬ ((hI h101 75 23) < x1)))) → mX4_right v102 1 h101 (kI Q (fun x104 h103 => if ¬ (x104 ≠ 0) then Q (rV (vI 0)) h103 else ∀ h106 : Hp, h106 = sI h103 75 23 0 → ∀ h107 : Hp, h107 = sI h106 75 25 (-1) → ∀ h108 : Hp, h108 = sI h107 75 24 0 → if ¬ ((hI h108 75 35) ≠ 12) then Q (rV (vI (-9))) h108 else ∀ h110 : Hp, h110 = sI h108 75 26 x1 → ∀ h111 : Hp, h111 = sI h110 75 27 0 → nm (1700 * (hI h111 75 35)) ∧ ∀ h113 : Hp, h113 = sI h111 75 52 (1700 * (hI h111 75 35)) → ∀ h114 : Hp, h114 = sI h113 75 37 (hI h113 75 36) → ∀ h115 : Hp, h115 = sI h114 75 38 0 → ∀ h116 : Hp, h116 = sI h115 75 39 0 → 0 ≤ (hI h116 75 35) ∧ (hI h116 75 35) < 12 ∧ ∀ h119 : Hp, h119 = sI h116 97 (Int.toNat (hI h116 75 35)) (-1) → 0 ≤ (hI h119 75 35) ∧ (hI h119 75 35) < 12 ∧ ∀ h122 : Hp, h122 = sI h119 98 (Int.toNat (hI h119 75 35)) 0 → 0 ≤ (hI h122 75 35) ∧ (hI h122 75 35) < 12 ∧ ∀ h125 : Hp, h125 = sI h122 100 (Int.toNat (hI h122 75 35)) 0 → nm (5 * (hI h125 75 35)) ∧ mX4_defaults (5 * (hI h125 75 35)) h125 (kN Q (fun h127 => mX4_goes h127 (kN Q (fun h128 => wh1 (fun (C130 : Hp → Prop) (h129 : Hp) => if ¬ ((vX4_isGood h129) = 0) ∧ (¬ ((hI h129 75 28) = 0)) then mX4_clause h129 (kN Q (fun h133 => C130 h133)) else if ¬ ((vX4_isGood h129) ≠ 0) then Q (rV (vI (hI h129 75 24))) h129 else ∀ h135 : Hp, h135 = sI h129 75 36 (hI h129 75 37) → 0 ≤ (hI h135 75 35) ∧ (hI h135 75 35) < 12 ∧ ∀ h138 : Hp, h138 = sI h135 95 (Int.toNat (hI h135 75 35)) (hI h135 75 1) → nm ((hI h138 75 35) + 1) ∧ ∀ h140 : Hp, h140 = sI h138 75 35 ((hI h138 75 35) + 1) → Q (rV (vI 0)) h140) h128))))))
theorem wX4_rules {G : Gx} (hg : gF G = true) {d : Nat} {x1 : Int} {h : Hp} {Q : Rs → Hp → Prop} (hm : mX4_rules x1 h Q) : Ct G tX4_rules (d + 7) [vR 75, vI x1] h Q := by
  refine ct_enter (L0 := [some (vR 75), some (vI x1)]) rfl rfl ?_
  unfold mX4_rules at hm
  obtain ⟨h101, eh101⟩ : ∃ h101 : Hp, h101 = sI h 75 0 0 := ⟨_, rfl⟩
  replace hm := hm h101 eh101
  obtain ⟨v102, ev102⟩ : ∃ v102 : Int, v102 = (b2i (¬ (x1 < 0) ∧ (¬ ((hI h101 75 23) < x1)))) := ⟨_, rfl⟩
  replace hm := hm v102 ev102
  refine wc_aload_n (pc := 0) (dAt dtX4_rules 0 rfl) rfl (wc_iconst (pc := 1) (dAt dtX4_rules 1 rfl) ⟨by decide, by decide⟩ (wc_putKI hg (pc := 2) (dAt dtX4_rules 2 rfl) flX4_1_4 (Or.inl rfl) rfl ka75 (by decide) (okI_int _) (wc_hp eh101 (wc_aload_n (pc := 5) (dAt dtX4_rules 3 rfl) rfl (wc_iload_n (pc := 6) (dAt dtX4_rules 4 rfl) rfl (?_))))))
  have kj145 : Wc G tX4_rules (d + 7) h Q 23 [some (vR 75), some (vI x1)] [vI v102, vR 75] h101 := by
    refine wc_iconst (pc := 23) (dAt dtX4_rules 13 rfl) ⟨by decide, by decide⟩ (wc_kf hg fun zk => wc_callV (k := 4) (y' := tX4_right) (av := [vI v102, vI 1]) (st := []) (pc := 24) (dAt dtX4_rules 14 rfl) lkX4_10 moX4_right q2152 qs64 (by decide) (zk.2 _ ka75).1 rfl rfl (Nat.le_of_ble_eq_true rfl) (wX4_right hg hm) (kr_I (fun x104 h103 hm => ?_)) (kx_I rfl))
    refine wc_if_ne (pc := 27) (tgt := 32) (dAt dtX4_rules 15 rfl) (by decide) (fun c105 => ?_) (fun c105 => ?_)
    · replace hm := ite_f (fun z => z c105) hm
      obtain ⟨h106, eh106⟩ : ∃ h106 : Hp, h106 = sI h103 75 23 0 := ⟨_, rfl⟩
      replace hm := hm h106 eh106
      obtain ⟨h107, eh107⟩ : ∃ h107 : Hp, h107 = sI h106 75 25 (-1) := ⟨_, rfl⟩
      replace hm := hm h107 eh107
      obtain ⟨h108, eh108⟩ : ∃ h108 : Hp, h108 = sI h107 75 24 0 := ⟨_, rfl⟩
      replace hm := hm h108 eh108
      refine wc_aload_n (pc := 32) (dAt dtX4_rules 18 rfl) rfl (wc_iconst (pc := 33) (dAt dtX4_rules 19 rfl) ⟨by decide, by decide⟩ (wc_putKI hg (pc := 34) (dAt dtX4_rules 20 rfl) flX4_84_4 (Or.inl rfl) rfl ka75 (by decide) (okI_int _) (wc_hp eh106 (wc_aload_n (pc := 37) (dAt dtX4_rules 21 rfl) rfl (wc_iconst (pc := 38) (dAt dtX4_rules 22 rfl) ⟨by decide, by decide⟩ (wc_putKI hg (pc := 39) (dAt dtX4_rules 23 rfl) flX4_140_4 (Or.inl rfl) rfl ka75 (by decide) (okI_int _) (wc_hp eh107 (wc_aload_n (pc := 42) (dAt dtX4_rules 24 rfl) rfl (wc_iconst (pc := 43) (dAt dtX4_rules 25 rfl) ⟨by decide, by decide⟩ (wc_putKI hg (pc := 44) (dAt dtX4_rules 26 rfl) flX4_344_4 (Or.inl rfl) rfl ka75 (by decide) (okI_int _) (wc_hp eh108 (wc_aload_n (pc := 47) (dAt dtX4_rules 27 rfl) rfl (wc_getKI hg (pc := 48) (dAt dtX4_rules 28 rfl) flX4_404_4 rfl ka75 (wc_bipush (pc := 51) (dAt dtX4_rules 29 rfl) ⟨by decide, by decide, by decide⟩ (wc_icmp_ne (pc := 53) (tgt := 59) (dAt dtX4_rules 30 rfl) (by decide) (fun c109 => ?_) (fun c109 => ?_))))))))))))))))
      · replace hm := ite_f (fun z => z c109) hm
        obtain ⟨h110, eh110⟩ : ∃ h110 : Hp, h110 = sI h108 75 26 x1 := ⟨_, rfl⟩
        replace hm := hm h110 eh110
        obtain ⟨h111, eh111⟩ : ∃ h111 : Hp, h111 = sI h110 75 27 0 := ⟨_, rfl⟩
        replace hm := hm h111 eh111
        obtain ⟨o112, hm⟩ := hm
        obtain ⟨h113, eh113⟩ : ∃ h113 : Hp, h113 = sI h111 75 52 (1700 * (hI h111 75 35)) := ⟨_, rfl⟩
        replace hm := hm h113 eh113
        obtain ⟨h114, eh114⟩ : ∃ h114 : Hp, h114 = sI h113 75 37 (hI h113 75 36) := ⟨_, rfl⟩
        replace hm := hm h114 eh114
        obtain ⟨h115, eh115⟩ : ∃ h115 : Hp, h115 = sI h114 75 38 0 := ⟨_, rfl⟩
        replace hm := hm h115 eh115
        obtain ⟨h116, eh116⟩ : ∃ h116 : Hp, h116 = sI h115 75 39 0 := ⟨_, rfl⟩
        replace hm := hm h116 eh116
        obtain ⟨o117, o118, hm⟩ := hm
        obtain ⟨h119, eh119⟩ : ∃ h119 : Hp, h119 = sI h116 97 (Int.toNat (hI h116 75 35)) (-1) := ⟨_, rfl⟩
        replace hm := hm h119 eh119
        obtain ⟨o120, o121, hm⟩ := hm
        obtain ⟨h122, eh122⟩ : ∃ h122 : Hp, h122 = sI h119 98 (Int.toNat (hI h119 75 35)) 0 := ⟨_, rfl⟩
        replace hm := hm h122 eh122
        obtain ⟨o123, o124, hm⟩ := hm
        obtain ⟨h125, eh125⟩ : ∃ h125 : Hp, h125 = sI h122 100 (Int.toNat (hI h122 75 35)) 0 := ⟨_, rfl⟩
        replace hm := hm h125 eh125
        obtain ⟨o126, hm⟩ := hm
        refine wc_aload_n (pc := 59) (dAt dtX4_rules 33 rfl) rfl (wc_iload_n (pc := 60) (dAt dtX4_rules 34 rfl) rfl (wc_putKI hg (pc := 61) (dAt dtX4_rules 35 rfl) flX4_94_4 (Or.inl rfl) rfl ka75 (by decide) (okI_int _) (wc_hp eh110 (wc_aload_n (pc := 64) (dAt dtX4_rules 36 rfl) rfl (wc_iconst (pc := 65) (dAt dtX4_rules 37 rfl) ⟨by decide, by decide⟩ (wc_putKI hg (pc := 66) (dAt dtX4_rules 38 rfl) flX4_97_4 (Or.inl rfl) rfl ka75 (by decide) (okI_int _) (wc_hp eh111 (wc_aload_n (pc := 69) (dAt dtX4_rules 39 rfl) rfl (wc_sipush (pc := 70) (dAt dtX4_rules 40 rfl) ⟨by decide, by decide, by decide⟩ (wc_aload_n (pc := 73) (dAt dtX4_rules 41 rfl) rfl (wc_getKI hg (pc := 74) (dAt dtX4_rules 42 rfl) flX4_404_4 rfl ka75 (wc_imul (pc := 77) (dAt dtX4_rules 43 rfl) o112 (wc_putKI hg (pc := 78) (dAt dtX4_rules 44 rfl) flX4_360_4 (Or.inl rfl) rfl ka75 (by decide) (okI_int _) (wc_hp eh113 (wc_aload_n (pc := 81) (dAt dtX4_rules 45 rfl) rfl (wc_aload_n (pc := 82) (dAt dtX4_rules 46 rfl) rfl (wc_getKI hg (pc := 83) (dAt dtX4_rules 47 rfl) flX4_426_4 rfl ka75 (wc_putKI hg (pc := 86) (dAt dtX4_rules 48 rfl) flX4_401_4 (Or.inl rfl) rfl ka75 (by decide) (okI_int _) (wc_hp eh114 (wc_aload_n (pc := 89) (dAt dtX4_rules 49 rfl) rfl (wc_iconst (pc := 90) (dAt dtX4_rules 50 rfl) ⟨by decide, by decide⟩ (wc_putKI hg (pc := 91) (dAt dtX4_rules 51 rfl) flX4_372_4 (Or.inl rfl) rfl ka75 (by decide) (okI_int _) (wc_hp eh115 (wc_aload_n (pc := 94) (dAt dtX4_rules 52 rfl) rfl (wc_iconst (pc := 95) (dAt dtX4_rules 53 rfl) ⟨by decide, by decide⟩ (wc_putKI hg (pc := 96) (dAt dtX4_rules 54 rfl) flX4_413_4 (Or.inl rfl) rfl ka75 (by decide) (okI_int _) (wc_hp eh116 (wc_aload_n (pc := 99) (dAt dtX4_rules 55 rfl) rfl (wc_getKR hg (pc := 100) (dAt dtX4_rules 56 rfl) flX4_153_4 rfl ka75 kf75_42 (wc_aload_n (pc := 103) (dAt dtX4_rules 57 rfl) rfl (wc_getKI hg (pc := 104) (dAt dtX4_rules 58 rfl) flX4_404_4 rfl ka75 (wc_iconst (pc := 107) (dAt dtX4_rules 59 rfl) ⟨by decide, by decide⟩ (wc_iastK hg (pc := 108) (dAt dtX4_rules 60 rfl) kr97 (by decide) o117 o118 (wc_hp eh119 (wc_aload_n (pc := 109) (dAt dtX4_rules 61 rfl) rfl (wc_getKR hg (pc := 110) (dAt dtX4_rules 62 rfl) flX4_156_4 rfl ka75 kf75_43 (wc_aload_n (pc := 113) (dAt dtX4_rules 63 rfl) rfl (wc_getKI hg (pc := 114) (dAt dtX4_rules 64 rfl) flX4_404_4 rfl ka75 (wc_iconst (pc := 117) (dAt dtX4_rules 65 rfl) ⟨by decide, by decide⟩ (wc_iastK hg (pc := 118) (dAt dtX4_rules 66 rfl) kr98 (by decide) o120 o121 (wc_hp eh122 (wc_aload_n (pc := 119) (dAt dtX4_rules 67 rfl) rfl (wc_getKR hg (pc := 120) (dAt dtX4_rules 68 rfl) flX4_162_4 rfl ka75 kf75_45 (wc_aload_n (pc := 123) (dAt dtX4_rules 69 rfl) rfl (wc_getKI hg (pc := 124) (dAt dtX4_rules 70 rfl) flX4_404_4 rfl ka75 (wc_iconst (pc := 127) (dAt dtX4_rules 71 rfl) ⟨by decide, by decide⟩ (wc_iastK hg (pc := 128) (dAt dtX4_rules 72 rfl) kr100 (by decide) o123 o124 (wc_hp eh125 (wc_aload_n (pc := 129) (dAt dtX4_rules 73 rfl) rfl (wc_iconst (pc := 130) (dAt dtX4_rules 74 rfl) ⟨by decide, by decide⟩ (wc_aload_n (pc := 131) (dAt dtX4_rules 75 rfl) rfl (wc_getKI hg (pc := 132) (dAt dtX4_rules 76 rfl) flX4_404_4 rfl ka75 (wc_imul (pc := 135) (dAt dtX4_rules 77 rfl) o126 (wc_kf hg fun zk => wc_callV (k := 4) (y' := tX4_defaults) (av := [vI (5 * (hI h125 75 35))]) (st := []) (pc := 136) (dAt dtX4_rules 78 rfl) lkX4_429 moX4_defaults q2534 qs66 (by decide) (zk.2 _ ka75).1 rfl rfl (Nat.le_of_ble_eq_true rfl) (wX4_defaults hg hm) (kr_N (fun h127 hm => ?_)) (kx_N rfl)))))))))))))))))))))))))))))))))))))))))))))))))))))))
        refine wc_aload_n (pc := 139) (dAt dtX4_rules 79 rfl) rfl (wc_kf hg fun zk => wc_callV (k := 4) (y' := tX4_goes) (av := []) (st := []) (pc := 140) (dAt dtX4_rules 80 rfl) lkX4_354 moX4_goes q2538 qs67 (by decide) (zk.2 _ ka75).1 rfl rfl (Nat.le_of_ble_eq_true rfl) (wX4_goes hg hm) (kr_N (fun h128 hm => ?_)) (kx_N rfl))
        refine wc_drp [1] rfl (wc_L (L' := [some (vR 75), none]) rfl (?_))
        refine wh1_ind (P := fun (h129 : Hp) => Wc G tX4_rules (d + 7) h Q 143 [some (vR 75), none] [] h129) (fun C130 ih131 h129 hm => ?_) hm
        refine wc_aload_n (pc := 143) (dAt dtX4_rules 81 rfl) rfl (wc_kf hg fun zk => wc_callV (k := 4) (y' := tX4_isGood) (P := eI (vX4_isGood h129) h129) (pc := 144) (dAt dtX4_rules 82 rfl) lkX4_347 moX4_isGood q2552 qs69 (by decide) (zk.2 _ ka75).1 rfl rfl (Nat.le_of_ble_eq_true rfl) (wX4_isGood hg ⟨rfl, rfl⟩) (ep_I (?_)) ex_I)
        have k141 : (¬ ((vX4_isGood h129) = 0) ∧ (¬ ((hI h129 75 28) = 0))) → Wc G tX4_rules (d + 7) h Q 157 [some (vR 75), none] [] h129 := fun c132 => by
          replace hm := ite_t c132 hm
          refine wc_aload_n (pc := 157) (dAt dtX4_rules 87 rfl) rfl (wc_kf hg fun zk => wc_callV (k := 4) (y' := tX4_clause) (av := []) (st := []) (pc := 158) (dAt dtX4_rules 88 rfl) lkX4_432 moX4_clause q2556 qs70 (by decide) (zk.2 _ ka75).1 rfl rfl (Nat.le_of_ble_eq_true rfl) (wX4_clause hg hm) (kr_N (fun h133 hm => ?_)) (kx_N rfl))
          exact wc_goto (pc := 161) (tgt := 143) (dAt dtX4_rules 89 rfl) (by decide) (ih131 _ hm)
        have k142 : ¬ (¬ ((vX4_isGood h129) = 0) ∧ (¬ ((hI h129 75 28) = 0))) → Wc G tX4_rules (d + 7) h Q 164 [some (vR 75), none] [] h129 := fun c132 => by
          replace hm := ite_f c132 hm
          refine wc_aload_n (pc := 164) (dAt dtX4_rules 90 rfl) rfl (wc_kf hg fun zk => wc_callV (k := 4) (y' := tX4_isGood) (P := eI (vX4_isGood h129) h129) (pc := 165) (dAt dtX4_rules 91 rfl) lkX4_347 moX4_isGood q2552 qs69 (by decide) (zk.2 _ ka75).1 rfl rfl (Nat.le_of_ble_eq_true rfl) (wX4_isGood hg ⟨rfl, rfl⟩) (ep_I (wc_if_ne (pc := 168) (tgt := 176) (dAt dtX4_rules 92 rfl) (by decide) (fun c134 => ?_) (fun c134 => ?_))) ex_I)
          · replace hm := ite_f (fun z => z c134) hm
            obtain ⟨h135, eh135⟩ : ∃ h135 : Hp, h135 = sI h129 75 36 (hI h129 75 37) := ⟨_, rfl⟩
            replace hm := hm h135 eh135
            obtain ⟨o136, o137, hm⟩ := hm
            obtain ⟨h138, eh138⟩ : ∃ h138 : Hp, h138 = sI h135 95 (Int.toNat (hI h135 75 35)) (hI h135 75 1) := ⟨_, rfl⟩
            replace hm := hm h138 eh138
            obtain ⟨o139, hm⟩ := hm
            obtain ⟨h140, eh140⟩ : ∃ h140 : Hp, h140 = sI h138 75 35 ((hI h138 75 35) + 1) := ⟨_, rfl⟩
            replace hm := hm h140 eh140
            exact wc_aload_n (pc := 176) (dAt dtX4_rules 96 rfl) rfl (wc_aload_n (pc := 177) (dAt dtX4_rules 97 rfl) rfl (wc_getKI hg (pc := 178) (dAt dtX4_rules 98 rfl) flX4_401_4 rfl ka75 (wc_putKI hg (pc := 181) (dAt dtX4_rules 99 rfl) flX4_426_4 (Or.inl rfl) rfl ka75 (by decide) (okI_int _) (wc_hp eh135 (wc_aload_n (pc := 184) (dAt dtX4_rules 100 rfl) rfl (wc_getKR hg (pc := 185) (dAt dtX4_rules 101 rfl) flX4_147_4 rfl ka75 kf75_40 (wc_aload_n (pc := 188) (dAt dtX4_rules 102 rfl) rfl (wc_getKI hg (pc := 189) (dAt dtX4_rules 103 rfl) flX4_404_4 rfl ka75 (wc_aload_n (pc := 192) (dAt dtX4_rules 104 rfl) rfl (wc_getKI hg (pc := 193) (dAt dtX4_rules 105 rfl) flX4_81_4 rfl ka75 (wc_iastK hg (pc := 196) (dAt dtX4_rules 106 rfl) kr95 (by decide) o136 o137 (wc_hp eh138 (wc_aload_n (pc := 197) (dAt dtX4_rules 107 rfl) rfl (wc_dup (pc := 198) (dAt dtX4_rules 108 rfl) rfl (wc_getKI hg (pc := 199) (dAt dtX4_rules 109 rfl) flX4_404_4 rfl ka75 (wc_iconst (pc := 202) (dAt dtX4_rules 110 rfl) ⟨by decide, by decide⟩ (wc_iadd (pc := 203) (dAt dtX4_rules 111 rfl) o139 (wc_putKI hg (pc := 204) (dAt dtX4_rules 112 rfl) flX4_404_4 (Or.inl rfl) rfl ka75 (by decide) (okI_int _) (wc_hp eh140 (wc_iconst (pc := 207) (dAt dtX4_rules 113 rfl) ⟨by decide, by decide⟩ (wc_iret (pc := 208) (dAt dtX4_rules 114 rfl) rfl (nar_int _) hm)))))))))))))))))))))
          · replace hm := ite_t c134 hm
            exact wc_aload_n (pc := 171) (dAt dtX4_rules 93 rfl) rfl (wc_getKI hg (pc := 172) (dAt dtX4_rules 94 rfl) flX4_344_4 rfl ka75 (wc_iret (pc := 175) (dAt dtX4_rules 95 rfl) rfl (nar_int _) hm))
        exact wc_if_eq (pc := 147) (tgt := 164) (dAt dtX4_rules 83 rfl) (by decide) (fun c143 => (k142 (fun z => z.1 c143))) (fun c143 => wc_aload_n (pc := 150) (dAt dtX4_rules 84 rfl) rfl (wc_getKI hg (pc := 151) (dAt dtX4_rules 85 rfl) flX4_116_4 rfl ka75 (wc_if_eq (pc := 154) (tgt := 164) (dAt dtX4_rules 86 rfl) (by decide) (fun c144 => (k142 (fun z => (fun z => z c144) z.2))) (fun c144 => (k141 ⟨c143, c144⟩)))))
      · replace hm := ite_t c109 hm
        exact wc_bipush (pc := 56) (dAt dtX4_rules 31 rfl) ⟨by decide, by decide, by decide⟩ (wc_iret (pc := 58) (dAt dtX4_rules 32 rfl) rfl (nar_int _) hm)
    · replace hm := ite_t c105 hm
      exact wc_iconst (pc := 30) (dAt dtX4_rules 16 rfl) ⟨by decide, by decide⟩ (wc_iret (pc := 31) (dAt dtX4_rules 17 rfl) rfl (nar_int _) hm)
  have k146 : (¬ (x1 < 0) ∧ (¬ ((hI h101 75 23) < x1))) → Wc G tX4_rules (d + 7) h Q 18 [some (vR 75), some (vI x1)] [vR 75] h101 := fun c148 => by
    have z149 := kj145
    rw [show v102 = 1 from ev102.trans (b2i_t c148)] at z149
    exact wc_iconst (pc := 18) (dAt dtX4_rules 10 rfl) ⟨by decide, by decide⟩ (wc_goto (pc := 19) (tgt := 23) (dAt dtX4_rules 11 rfl) (by decide) (z149))
  have k147 : ¬ (¬ (x1 < 0) ∧ (¬ ((hI h101 75 23) < x1))) → Wc G tX4_rules (d + 7) h Q 22 [some (vR 75), some (vI x1)] [vR 75] h101 := fun c148 => by
    have z151 := kj145
    rw [show v102 = 0 from ev102.trans (b2i_f c148)] at z151
    exact wc_iconst (pc := 22) (dAt dtX4_rules 12 rfl) ⟨by decide, by decide⟩ (z151)
  exact wc_if_lt (pc := 7) (tgt := 22) (dAt dtX4_rules 5 rfl) (by decide) (fun c153 => (k147 (fun z => z.1 c153))) (fun c153 => wc_iload_n (pc := 10) (dAt dtX4_rules 6 rfl) rfl (wc_aload_n (pc := 11) (dAt dtX4_rules 7 rfl) rfl (wc_getKI hg (pc := 12) (dAt dtX4_rules 8 rfl) flX4_84_4 rfl ka75 (wc_icmp_gt (pc := 15) (tgt := 22) (dAt dtX4_rules 9 rfl) (by decide) (fun c154 => (k147 (fun z => (fun z => z c154) z.2))) (fun c154 => (k146 ⟨c153, c154⟩))))))
def tX1_fault : Mt := (⟨"FlyingDoctors", "fault", "()I"⟩, prog_1_method_30_code, 1, (Option.some Jvm.ClassFile.FieldType.int), [])
def DX1_fault : List (Nat × Instr × Nat) := [(0, .aload_n 0, 1), (1, .getfield 305, 3), (4, .ireturn, 1)]
theorem dtX1_fault : chkD (mB tX1_fault) DX1_fault = true := by decide +kernel
theorem moX1_fault : MethOk tX1_fault 0 := ⟨Or.inl ⟨rfl, q607⟩, by decide +kernel, ⟨by decide, by decide⟩, by decide +kernel⟩
def vX1_fault  (h : Hp) : Int := (hI h 50 22)
theorem wX1_fault {G : Gx} (hg : gF G = true) {d : Nat}  {h : Hp} {Q : Rs → Hp → Prop} (hq : Q (rV (vI (vX1_fault h))) h) : Ct G tX1_fault (d + 0) [vR 50] h Q := by
  refine ct_enter (L0 := [some (vR 50)]) rfl rfl ?_
  have z : Q (rV (vI (hI h 50 22))) h := by
    rw [show (vX1_fault h) = (hI h 50 22) from rfl] at hq
    exact hq
  exact wc_aload_n (pc := 0) (dAt dtX1_fault 0 rfl) rfl (wc_getKI hg (pc := 1) (dAt dtX1_fault 1 rfl) flX1_305_1 rfl ka50 (wc_iret (pc := 4) (dAt dtX1_fault 2 rfl) rfl (nar_int _) z))
def tX4_fault : Mt := (⟨"FlyingDoctorsModel", "fault", "()I"⟩, prog_24_method_44_code, 1, (Option.some Jvm.ClassFile.FieldType.int), [])
def DX4_fault : List (Nat × Instr × Nat) := [(0, .aload_n 0, 1), (1, .iconst 0, 1), (2, .putfield 1, 3), (5, .aload_n 0, 1), (6, .getfield 140, 3), (9, .ireturn, 1)]
theorem dtX4_fault : chkD (mB tX4_fault) DX4_fault = true := by decide +kernel
theorem moX4_fault : MethOk tX4_fault 0 := ⟨Or.inl ⟨rfl, q2625⟩, by decide +kernel, ⟨by decide, by decide⟩, by decide +kernel⟩
def mX4_fault  (h : Hp) (Q : Rs → Hp → Prop) : Prop := ∀ h101 : Hp, h101 = sI h 75 0 0 → Q (rV (vI (hI h101 75 25))) h101
theorem wX4_fault {G : Gx} (hg : gF G = true) {d : Nat}  {h : Hp} {Q : Rs → Hp → Prop} (hm : mX4_fault  h Q) : Ct G tX4_fault (d + 0) [vR 75] h Q := by
  refine ct_enter (L0 := [some (vR 75)]) rfl rfl ?_
  unfold mX4_fault at hm
  obtain ⟨h101, eh101⟩ : ∃ h101 : Hp, h101 = sI h 75 0 0 := ⟨_, rfl⟩
  replace hm := hm h101 eh101
  exact wc_aload_n (pc := 0) (dAt dtX4_fault 0 rfl) rfl (wc_iconst (pc := 1) (dAt dtX4_fault 1 rfl) ⟨by decide, by decide⟩ (wc_putKI hg (pc := 2) (dAt dtX4_fault 2 rfl) flX4_1_4 (Or.inl rfl) rfl ka75 (by decide) (okI_int _) (wc_hp eh101 (wc_aload_n (pc := 5) (dAt dtX4_fault 3 rfl) rfl (wc_getKI hg (pc := 6) (dAt dtX4_fault 4 rfl) flX4_140_4 rfl ka75 (wc_iret (pc := 9) (dAt dtX4_fault 5 rfl) rfl (nar_int _) hm))))))
def tX1_rulesAt : Mt := (⟨"FlyingDoctors", "rulesAt", "(I)LFlyingDoctors$Rules;"⟩, prog_1_method_6_code, 4, (Option.some (Jvm.ClassFile.FieldType.object "FlyingDoctors$Rules")), [])
def DX1_rulesAt : List (Nat × Instr × Nat) := [(0, .aload_n 0, 1), (1, .getfield 36, 3), (4, .astore_n 2, 1), (5, .iconst 0, 1), (6, .istore_n 3, 1), (7, .iload_n 3, 1), (8, .aload_n 0, 1), (9, .getfield 40, 3), (12, .invokeinterface 16 1, 5), (17, .if_icmp .ge 43, 3), (20, .aload_n 0, 1), (21, .getfield 40, 3), (24, .iload_n 3, 1), (25, .invokeinterface 22 2, 5), (30, .checkcast 43, 3), (33, .getfield 45, 3), (36, .iload_n 1, 1), (37, .if_icmp .gt 17, 3), (40, .aload_n 0, 1), (41, .getfield 40, 3), (44, .iload_n 3, 1), (45, .invokeinterface 22 2, 5), (50, .checkcast 43, 3), (53, .astore_n 2, 1), (54, .iinc 3 1, 3), (57, .goto (-50), 3), (60, .aload_n 2, 1), (61, .areturn, 1)]
theorem dtX1_rulesAt : chkD (mB tX1_rulesAt) DX1_rulesAt = true := by decide +kernel
theorem moX1_rulesAt : MethOk tX1_rulesAt 1 := ⟨Or.inl ⟨rfl, q1487⟩, by decide +kernel, ⟨by decide, by decide⟩, by decide +kernel⟩
def mX1_rulesAt (x1 : Int) (h : Hp) (Q : Rs → Hp → Prop) : Prop := wh2 (fun (C103 : Nat → Int → Prop) (r101 : Nat) (x102 : Int) => oJ2_size 57 h ∧ if ¬ ((vJ2_size 57 h) ≤ x102) then oJ2_get 57 x102 h ∧ ob h (vJ2_get 57 x102 h) 2 ∧ ∀ r109 : Nat, r109 = (if ¬ (x1 < (hI h (vJ2_get 57 x102 h) 4)) then (vJ2_get 57 x102 h) else r101) → nm (x102 + 1) ∧ ∀ i111 : Int, i111 = (x102 + 1) → C103 r109 i111 else Q (rV (vR r101)) h) 66 0
theorem wX1_rulesAt {G : Gx} (hg : gF G = true) {d : Nat} {x1 : Int} {h : Hp} {Q : Rs → Hp → Prop} (hm : mX1_rulesAt x1 h Q) : Ct G tX1_rulesAt (d + 3) [vR 50, vI x1] h Q := by
  refine ct_enter (L0 := [some (vR 50), some (vI x1), none, none]) rfl rfl ?_
  unfold mX1_rulesAt at hm
  refine wc_aload_n (pc := 0) (dAt dtX1_rulesAt 0 rfl) rfl (wc_getKR hg (pc := 1) (dAt dtX1_rulesAt 1 rfl) flX1_36_1 rfl ka50 kf50_16 (wc_astore_n (pc := 4) (dAt dtX1_rulesAt 2 rfl) (by decide) (wc_L (L' := [some (vR 50), some (vI x1), some (vR 66), none]) rfl (wc_iconst (pc := 5) (dAt dtX1_rulesAt 3 rfl) ⟨by decide, by decide⟩ (wc_istore_n (pc := 6) (dAt dtX1_rulesAt 4 rfl) (by decide) (wc_L (L' := [some (vR 50), some (vI x1), some (vR 66), some (vI 0)]) rfl (?_)))))))
  refine wh2_ind (P := fun (r101 : Nat) (x102 : Int) => Wc G tX1_rulesAt (d + 3) h Q 7 [some (vR 50), some (vI x1), some (vR r101), some (vI x102)] [] h) (fun C103 ih104 r101 x102 hm => ?_) hm
  obtain ⟨o105, hm⟩ := hm
  refine wc_iload_n (pc := 7) (dAt dtX1_rulesAt 5 rfl) rfl (wc_aload_n (pc := 8) (dAt dtX1_rulesAt 6 rfl) rfl (wc_getKR hg (pc := 9) (dAt dtX1_rulesAt 7 rfl) flX1_40_1 rfl ka50 kf50_7 (wc_kf hg fun zk => (wc_callF (k := 32) (x := ⟨"java/util/List", "size", "()I"⟩) (y' := tJ2_size) (P := eI (vJ2_size 57 h) h) (pc := 12) (dAt dtX1_rulesAt 8 rfl) q364 q366 q365 ⟨by decide, by decide⟩ moJ2_size rfl q370 q371 q369 q367 q368 (by decide) (zk.2 _ ka57).1 rfl rfl (Nat.le_of_ble_eq_true rfl) (wJ2_size hg o105 ⟨rfl, rfl⟩) (ep_I (wc_icmp_ge (pc := 17) (tgt := 60) (dAt dtX1_rulesAt 9 rfl) (by decide) (fun c106 => ?_) (fun c106 => ?_))) ex_I))))
  · replace hm := ite_f (fun z => z c106) hm
    exact wc_aload_n (pc := 60) (dAt dtX1_rulesAt 26 rfl) rfl (wc_aret (pc := 61) (dAt dtX1_rulesAt 27 rfl) rfl (Or.inl ⟨_, rfl⟩) hm)
  · replace hm := ite_t c106 hm
    obtain ⟨o107, o108, hm⟩ := hm
    obtain ⟨r109, er109⟩ : ∃ r109 : Nat, r109 = (if ¬ (x1 < (hI h (vJ2_get 57 x102 h) 4)) then (vJ2_get 57 x102 h) else r101) := ⟨_, rfl⟩
    replace hm := hm r109 er109
    refine wc_aload_n (pc := 20) (dAt dtX1_rulesAt 10 rfl) rfl (wc_getKR hg (pc := 21) (dAt dtX1_rulesAt 11 rfl) flX1_40_1 rfl ka50 kf50_7 (wc_iload_n (pc := 24) (dAt dtX1_rulesAt 12 rfl) rfl (wc_kf hg fun zk => (wc_callF (k := 32) (x := ⟨"java/util/List", "get", "(I)Ljava/lang/Object;"⟩) (y' := tJ2_get) (P := eR (vJ2_get 57 x102 h) h) (pc := 25) (dAt dtX1_rulesAt 13 rfl) q506 q508 q507 ⟨by decide, by decide⟩ moJ2_get rfl q511 q512 q510 q367 q509 (by decide) (zk.2 _ ka57).1 rfl rfl (Nat.le_of_ble_eq_true rfl) (wJ2_get hg o107 ⟨rfl, rfl⟩) (ep_R (wc_cast (pc := 30) (dAt dtX1_rulesAt 14 rfl) q211 (by decide) (Or.inl rfl) o108 (wc_getI (pc := 33) (dAt dtX1_rulesAt 15 rfl) flX1_45_2 rfl o108 (wc_iload_n (pc := 36) (dAt dtX1_rulesAt 16 rfl) rfl (?_))))) ex_R))))
    have kj112 : Wc G tX1_rulesAt (d + 3) h Q 54 [some (vR 50), some (vI x1), some (vR r109), some (vI x102)] [] h := by
      obtain ⟨o110, hm⟩ := hm
      obtain ⟨i111, ei111⟩ : ∃ i111 : Int, i111 = (x102 + 1) := ⟨_, rfl⟩
      replace hm := hm i111 ei111
      exact wc_iinc (v := i111) (pc := 54) (dAt dtX1_rulesAt 24 rfl) rfl ei111 (ei111 ▸ o110) (by decide) (wc_L (L' := [some (vR 50), some (vI x1), some (vR r109), some (vI i111)]) rfl (wc_goto (pc := 57) (tgt := 7) (dAt dtX1_rulesAt 25 rfl) (by decide) (ih104 _ _ hm)))
    have k113 : (¬ (x1 < (hI h (vJ2_get 57 x102 h) 4))) → Wc G tX1_rulesAt (d + 3) h Q 40 [some (vR 50), some (vI x1), some (vR r101), some (vI x102)] [] h := fun c115 => by
      have z116 := kj112
      rw [show r109 = (vJ2_get 57 x102 h) from er109.trans (if_pos c115)] at z116
      exact wc_aload_n (pc := 40) (dAt dtX1_rulesAt 18 rfl) rfl (wc_getKR hg (pc := 41) (dAt dtX1_rulesAt 19 rfl) flX1_40_1 rfl ka50 kf50_7 (wc_iload_n (pc := 44) (dAt dtX1_rulesAt 20 rfl) rfl (wc_kf hg fun zk => (wc_callF (k := 32) (x := ⟨"java/util/List", "get", "(I)Ljava/lang/Object;"⟩) (y' := tJ2_get) (P := eR (vJ2_get 57 x102 h) h) (pc := 45) (dAt dtX1_rulesAt 21 rfl) q506 q508 q507 ⟨by decide, by decide⟩ moJ2_get rfl q511 q512 q510 q367 q509 (by decide) (zk.2 _ ka57).1 rfl rfl (Nat.le_of_ble_eq_true rfl) (wJ2_get hg o107 ⟨rfl, rfl⟩) (ep_R (wc_cast (pc := 50) (dAt dtX1_rulesAt 22 rfl) q211 (by decide) (Or.inl rfl) o108 (wc_astore_n (pc := 53) (dAt dtX1_rulesAt 23 rfl) (by decide) (wc_L (L' := [some (vR 50), some (vI x1), some (vR (vJ2_get 57 x102 h)), some (vI x102)]) rfl (z116))))) ex_R))))
    have k114 : ¬ (¬ (x1 < (hI h (vJ2_get 57 x102 h) 4))) → Wc G tX1_rulesAt (d + 3) h Q 54 [some (vR 50), some (vI x1), some (vR r101), some (vI x102)] [] h := fun c115 => by
      have z118 := kj112
      rw [show r109 = r101 from er109.trans (if_neg c115)] at z118
      exact z118
    exact wc_icmp_gt (pc := 37) (tgt := 54) (dAt dtX1_rulesAt 17 rfl) (by decide) (fun c120 => (k114 (fun z => z c120))) (fun c120 => (k113 c120))
def tX1_law : Mt := (⟨"FlyingDoctors", "law", "(I)I"⟩, prog_1_method_31_code, 3, (Option.some Jvm.ClassFile.FieldType.int), [])
def DX1_law : List (Nat × Instr × Nat) := [(0, .iload_n 1, 1), (1, .iconst 0, 1), (2, .bipush 7, 2), (4, .invokestatic 314, 3), (7, .invokestatic 318, 3), (10, .aload_n 0, 1), (11, .aload_n 0, 1), (12, .getfield 173, 3), (15, .invokevirtual 97, 3), (18, .astore_n 2, 1), (19, .iload_n 1, 1), (20, .iconst 5, 1), (21, .if_icmp .ge 12, 3), (24, .aload_n 2, 1), (25, .getfield 58, 3), (28, .iload_n 1, 1), (29, .iaload, 1), (30, .goto 47, 3), (33, .iload_n 1, 1), (34, .iconst 5, 1), (35, .if_icmp .ne 15, 3), (38, .aload_n 2, 1), (39, .getfield 127, 3), (42, .invokeinterface 16 1, 5), (47, .goto 30, 3), (50, .iload_n 1, 1), (51, .bipush 6, 2), (53, .if_icmp .ne 15, 3), (56, .aload_n 2, 1), (57, .getfield 365, 3), (60, .invokeinterface 16 1, 5), (65, .goto 12, 3), (68, .aload_n 0, 1), (69, .getfield 275, 3), (72, .invokeinterface 16 1, 5), (77, .ireturn, 1)]
theorem dtX1_law : chkD (mB tX1_law) DX1_law = true := by decide +kernel
theorem moX1_law : MethOk tX1_law 1 := ⟨Or.inl ⟨rfl, q1483⟩, by decide +kernel, ⟨by decide, by decide⟩, by decide +kernel⟩
def mX1_law (x1 : Int) (h : Hp) (Q : Rs → Hp → Prop) : Prop := mX1_found (vX1_in x1 0 7 h) h (kN Q (fun h101 => mX1_rulesAt (hI h101 50 20) h101 (kR Q (fun r103 h102 => ((((¬ (5 ≤ x1)) → ob h102 r103 2 ∧ ob h102 (hR h102 r103 0) 70 ∧ 0 ≤ x1 ∧ x1 < (hN h102 (hR h102 r103 0))) ∧ (¬ (¬ (5 ≤ x1)) → ((¬ (x1 ≠ 5)) → ob h102 r103 2 ∧ oJ2_size (hR h102 r103 1) h102 ∧ ob h102 (hR h102 r103 1) 32) ∧ (¬ (¬ (x1 ≠ 5)) → ((¬ (x1 ≠ 6)) → ob h102 r103 2 ∧ oJ2_size (hR h102 r103 2) h102 ∧ ob h102 (hR h102 r103 2) 32) ∧ (¬ (¬ (x1 ≠ 6)) → oJ2_size 58 h102))))) ∧ ∀ v116 : Int, v116 = (if ¬ (5 ≤ x1) then (hI h102 (hR h102 r103 0) (Int.toNat x1)) else (if ¬ (x1 ≠ 5) then (vJ2_size (hR h102 r103 1) h102) else (if ¬ (x1 ≠ 6) then (vJ2_size (hR h102 r103 2) h102) else (vJ2_size 58 h102)))) → Q (rV (vI v116)) h102))))
theorem wX1_law {G : Gx} (hg : gF G = true) {d : Nat} {x1 : Int} {h : Hp} {Q : Rs → Hp → Prop} (hm : mX1_law x1 h Q) : Ct G tX1_law (d + 9) [vR 50, vI x1] h Q := by
  refine ct_enter (L0 := [some (vR 50), some (vI x1), none]) rfl rfl ?_
  unfold mX1_law at hm
  refine wc_iload_n (pc := 0) (dAt dtX1_law 0 rfl) rfl (wc_iconst (pc := 1) (dAt dtX1_law 1 rfl) ⟨by decide, by decide⟩ (wc_bipush (pc := 2) (dAt dtX1_law 2 rfl) ⟨by decide, by decide, by decide⟩ (wc_callS (y' := tX1_in) (P := eI (vX1_in x1 0 7 h) h) (pc := 4) (dAt dtX1_law 3 rfl) lkX1_314 moX1_in q374 q128 rfl rfl (Nat.le_of_ble_eq_true rfl) (wX1_in hg ⟨rfl, rfl⟩) (ep_I (wc_callS (y' := tX1_found) (av := [vI (vX1_in x1 0 7 h)]) (st := []) (pc := 7) (dAt dtX1_law 4 rfl) lkX1_318 moX1_found q687 q128 rfl rfl (Nat.le_of_ble_eq_true rfl) (wX1_found hg hm) (kr_N (fun h101 hm => ?_)) (kx_N rfl))) ex_I)))
  refine wc_aload_n (pc := 10) (dAt dtX1_law 5 rfl) rfl (wc_aload_n (pc := 11) (dAt dtX1_law 6 rfl) rfl (wc_getKI hg (pc := 12) (dAt dtX1_law 7 rfl) flX1_173_1 rfl ka50 (wc_kf hg fun zk => wc_callV (k := 1) (y' := tX1_rulesAt) (av := [vI (hI h101 50 20)]) (st := []) (pc := 15) (dAt dtX1_law 8 rfl) lkX1_97 moX1_rulesAt q1486 qs33 (by decide) (zk.2 _ ka50).1 rfl rfl (Nat.le_of_ble_eq_true rfl) (wX1_rulesAt hg hm) (kr_R (fun r103 h102 hm => ?_)) (kx_R rfl))))
  obtain ⟨o115, hm⟩ := hm
  obtain ⟨v116, ev116⟩ : ∃ v116 : Int, v116 = (if ¬ (5 ≤ x1) then (hI h102 (hR h102 r103 0) (Int.toNat x1)) else (if ¬ (x1 ≠ 5) then (vJ2_size (hR h102 r103 1) h102) else (if ¬ (x1 ≠ 6) then (vJ2_size (hR h102 r103 2) h102) else (vJ2_size 58 h102)))) := ⟨_, rfl⟩
  replace hm := hm v116 ev116
  refine wc_astore_n (pc := 18) (dAt dtX1_law 9 rfl) (by decide) (wc_L (L' := [some (vR 50), some (vI x1), some (vR r103)]) rfl (wc_iload_n (pc := 19) (dAt dtX1_law 10 rfl) rfl (wc_iconst (pc := 20) (dAt dtX1_law 11 rfl) ⟨by decide, by decide⟩ (?_))))
  have kj117 : Wc G tX1_law (d + 9) h Q 77 [some (vR 50), none, none] [vI v116] h102 := by
    exact wc_iret (pc := 77) (dAt dtX1_law 35 rfl) rfl (nar_int _) hm
  obtain ⟨p118, p119⟩ := o115
  have k120 : (¬ (5 ≤ x1)) → Wc G tX1_law (d + 9) h Q 24 [some (vR 50), some (vI x1), some (vR r103)] [] h102 := fun c122 => by
    obtain ⟨o104, o105, o106, o107⟩ := (p118 c122)
    have z123 := kj117
    rw [show v116 = (hI h102 (hR h102 r103 0) (Int.toNat x1)) from ev116.trans (if_pos c122)] at z123
    exact wc_aload_n (pc := 24) (dAt dtX1_law 13 rfl) rfl (wc_getR (pc := 25) (dAt dtX1_law 14 rfl) flX1_58_2 rfl o104 (wc_iload_n (pc := 28) (dAt dtX1_law 15 rfl) rfl (wc_iald (pc := 29) (dAt dtX1_law 16 rfl) o105 o106 o107 (wc_goto (pc := 30) (tgt := 77) (dAt dtX1_law 17 rfl) (by decide) (wc_drp [1, 2] rfl (z123))))))
  have k121 : ¬ (¬ (5 ≤ x1)) → Wc G tX1_law (d + 9) h Q 33 [some (vR 50), some (vI x1), some (vR r103)] [] h102 := fun c122 => by
    obtain ⟨p125, p126⟩ := (p119 c122)
    have k127 : (¬ (x1 ≠ 5)) → Wc G tX1_law (d + 9) h Q 38 [some (vR 50), some (vI x1), some (vR r103)] [] h102 := fun c129 => by
      obtain ⟨o108, o109, o110⟩ := (p125 c129)
      have z130 := kj117
      rw [show v116 = (vJ2_size (hR h102 r103 1) h102) from ev116.trans ((if_neg c122).trans (if_pos c129))] at z130
      exact wc_aload_n (pc := 38) (dAt dtX1_law 21 rfl) rfl (wc_getR (pc := 39) (dAt dtX1_law 22 rfl) flX1_127_2 rfl o108 (wc_callF (k := 32) (x := ⟨"java/util/List", "size", "()I"⟩) (y' := tJ2_size) (P := eI (vJ2_size (hR h102 r103 1) h102) h102) (pc := 42) (dAt dtX1_law 23 rfl) q364 q366 q365 ⟨by decide, by decide⟩ moJ2_size rfl q370 q371 q369 q367 q368 (by decide) o110 rfl rfl (Nat.le_of_ble_eq_true rfl) (wJ2_size hg o109 ⟨rfl, rfl⟩) (ep_I (wc_goto (pc := 47) (tgt := 77) (dAt dtX1_law 24 rfl) (by decide) (wc_drp [1, 2] rfl (z130)))) ex_I))
    have k128 : ¬ (¬ (x1 ≠ 5)) → Wc G tX1_law (d + 9) h Q 50 [some (vR 50), some (vI x1), some (vR r103)] [] h102 := fun c129 => by
      obtain ⟨p132, p133⟩ := (p126 c129)
      have k134 : (¬ (x1 ≠ 6)) → Wc G tX1_law (d + 9) h Q 56 [some (vR 50), some (vI x1), some (vR r103)] [] h102 := fun c136 => by
        obtain ⟨o111, o112, o113⟩ := (p132 c136)
        have z137 := kj117
        rw [show v116 = (vJ2_size (hR h102 r103 2) h102) from ev116.trans ((if_neg c122).trans ((if_neg c129).trans (if_pos c136)))] at z137
        exact wc_aload_n (pc := 56) (dAt dtX1_law 28 rfl) rfl (wc_getR (pc := 57) (dAt dtX1_law 29 rfl) flX1_365_2 rfl o111 (wc_callF (k := 32) (x := ⟨"java/util/List", "size", "()I"⟩) (y' := tJ2_size) (P := eI (vJ2_size (hR h102 r103 2) h102) h102) (pc := 60) (dAt dtX1_law 30 rfl) q364 q366 q365 ⟨by decide, by decide⟩ moJ2_size rfl q370 q371 q369 q367 q368 (by decide) o113 rfl rfl (Nat.le_of_ble_eq_true rfl) (wJ2_size hg o112 ⟨rfl, rfl⟩) (ep_I (wc_goto (pc := 65) (tgt := 77) (dAt dtX1_law 31 rfl) (by decide) (wc_drp [1, 2] rfl (z137)))) ex_I))
      have k135 : ¬ (¬ (x1 ≠ 6)) → Wc G tX1_law (d + 9) h Q 68 [some (vR 50), some (vI x1), some (vR r103)] [] h102 := fun c136 => by
        have o114 := (p133 c136)
        have z139 := kj117
        rw [show v116 = (vJ2_size 58 h102) from ev116.trans ((if_neg c122).trans ((if_neg c129).trans (if_neg c136)))] at z139
        exact wc_aload_n (pc := 68) (dAt dtX1_law 32 rfl) rfl (wc_getKR hg (pc := 69) (dAt dtX1_law 33 rfl) flX1_275_1 rfl ka50 kf50_8 (wc_kf hg fun zk => (wc_callF (k := 32) (x := ⟨"java/util/List", "size", "()I"⟩) (y' := tJ2_size) (P := eI (vJ2_size 58 h102) h102) (pc := 72) (dAt dtX1_law 34 rfl) q364 q366 q365 ⟨by decide, by decide⟩ moJ2_size rfl q370 q371 q369 q367 q368 (by decide) (zk.2 _ ka58).1 rfl rfl (Nat.le_of_ble_eq_true rfl) (wJ2_size hg o114 ⟨rfl, rfl⟩) (ep_I (wc_drp [1, 2] rfl (z139))) ex_I)))
      exact wc_iload_n (pc := 50) (dAt dtX1_law 25 rfl) rfl (wc_bipush (pc := 51) (dAt dtX1_law 26 rfl) ⟨by decide, by decide, by decide⟩ (wc_icmp_ne (pc := 53) (tgt := 68) (dAt dtX1_law 27 rfl) (by decide) (fun c141 => (k135 (fun z => z c141))) (fun c141 => (k134 c141))))
    exact wc_iload_n (pc := 33) (dAt dtX1_law 18 rfl) rfl (wc_iconst (pc := 34) (dAt dtX1_law 19 rfl) ⟨by decide, by decide⟩ (wc_icmp_ne (pc := 35) (tgt := 50) (dAt dtX1_law 20 rfl) (by decide) (fun c142 => (k128 (fun z => z c142))) (fun c142 => (k127 c142))))
  exact wc_icmp_ge (pc := 21) (tgt := 33) (dAt dtX1_law 12 rfl) (by decide) (fun c143 => (k121 (fun z => z c143))) (fun c143 => (k120 c143))
def tX0_law : Mt := (⟨"FlyingDoctorsLaw", "law", "(LFlyingDoctors;I[J)I"⟩, method_5_code, 4, (Option.some Jvm.ClassFile.FieldType.int), [((0 : Nat), (9 : Nat), (12 : Nat), (13 : Nat))])
def DX0_law : List (Nat × Instr × Nat) := [(0, .aload_n 2, 1), (1, .iconst 0, 1), (2, .aload_n 0, 1), (3, .iload_n 1, 1), (4, .invokevirtual 21, 3), (7, .i2l, 1), (8, .lastore, 1), (9, .goto 6, 3), (12, .astore_n 3, 1), (13, .iconst 1, 1), (14, .ireturn, 1), (15, .iconst 0, 1), (16, .ireturn, 1)]
theorem dtX0_law : chkD (mB tX0_law) DX0_law = true := by decide +kernel
theorem moX0_law : MethOk tX0_law 3 := ⟨Or.inr q1479, by decide +kernel, ⟨by decide, by decide⟩, by decide +kernel⟩
def mX0_law (x1 : Int) (h : Hp) (Q : Rs → Hp → Prop) : Prop := mX1_law x1 h (kIx (fun a103 h104 => ob h104 a103 41 ∧ (Q (rV (vI 1)) h104)) (fun x102 h101 => ∀ h106 : Hp, h106 = sL h101 158 0 x102 → Q (rV (vI 0)) h106))
theorem wX0_law {G : Gx} (hg : gF G = true) {d : Nat} {x1 : Int} {h : Hp} {Q : Rs → Hp → Prop} (hm : mX0_law x1 h Q) : Ct G tX0_law (d + 10) [vR 50, vI x1, vR 158] h Q := by
  refine ct_enter (L0 := [some (vR 50), some (vI x1), some (vR 158), none]) rfl rfl ?_
  unfold mX0_law at hm
  refine wc_aload_n (pc := 0) (dAt dtX0_law 0 rfl) rfl (wc_iconst (pc := 1) (dAt dtX0_law 1 rfl) ⟨by decide, by decide⟩ (wc_aload_n (pc := 2) (dAt dtX0_law 2 rfl) rfl (wc_iload_n (pc := 3) (dAt dtX0_law 3 rfl) rfl (wc_kf hg fun zk => wc_callV (k := 1) (y' := tX1_law) (av := [vI x1]) (st := [vI 0, vR 158]) (pc := 4) (dAt dtX0_law 4 rfl) lkX0_21 moX1_law q1481 q1482 (by decide) (zk.2 _ ka50).1 rfl rfl (Nat.le_of_ble_eq_true rfl) (wX1_law hg hm) (krx_I (fun x102 h101 hm => ?_)) (kxx_I (fun a103 h104 hm => ?_))))))
  · obtain ⟨h106, eh106⟩ : ∃ h106 : Hp, h106 = sL h101 158 0 x102 := ⟨_, rfl⟩
    replace hm := hm h106 eh106
    exact wc_i2l (pc := 7) (dAt dtX0_law 5 rfl) (wc_lastK hg (pc := 8) (dAt dtX0_law 6 rfl) kr158 (by decide) (by decide) (by decide) (wc_hp eh106 (wc_goto (pc := 9) (tgt := 15) (dAt dtX0_law 7 rfl) (by decide) (wc_iconst (pc := 15) (dAt dtX0_law 11 rfl) ⟨by decide, by decide⟩ (wc_iret (pc := 16) (dAt dtX0_law 12 rfl) rfl (nar_int _) hm)))))
  · obtain ⟨o105, hm⟩ := hm
    refine wx_hit rfl rfl (by decide) q676 (by decide) o105 rfl ?_
    exact wc_astore_n (pc := 12) (dAt dtX0_law 8 rfl) (by decide) (wc_L (L' := [some (vR 50), some (vI x1), some (vR 158), some (vR a103)]) rfl (wc_iconst (pc := 13) (dAt dtX0_law 9 rfl) ⟨by decide, by decide⟩ (wc_iret (pc := 14) (dAt dtX0_law 10 rfl) rfl (nar_int _) hm)))
def tX4_textBy : Mt := (⟨"FlyingDoctorsModel", "textBy", "(I)I"⟩, prog_24_method_45_code, 4, (Option.some Jvm.ClassFile.FieldType.int), [])
def DX4_textBy : List (Nat × Instr × Nat) := [(0, .iconst (-1), 1), (1, .istore_n 2, 1), (2, .iconst 0, 1), (3, .istore_n 3, 1), (4, .iload_n 3, 1), (5, .aload_n 0, 1), (6, .getfield 404, 3), (9, .if_icmp .ge 21, 3), (12, .aload_n 0, 1), (13, .getfield 147, 3), (16, .iload_n 3, 1), (17, .iaload, 1), (18, .iload_n 1, 1), (19, .if_icmp .gt 5, 3), (22, .iload_n 3, 1), (23, .istore_n 2, 1), (24, .iinc 3 1, 3), (27, .goto (-23), 3), (30, .iload_n 2, 1), (31, .ireturn, 1)]
theorem dtX4_textBy : chkD (mB tX4_textBy) DX4_textBy = true := by decide +kernel
theorem moX4_textBy : MethOk tX4_textBy 1 := ⟨Or.inl ⟨rfl, q2633⟩, by decide +kernel, ⟨by decide, by decide⟩, by decide +kernel⟩
def mX4_textBy (x1 : Int) (h : Hp) (Q : Rs → Hp → Prop) : Prop := wh2 (fun (C103 : Int → Int → Prop) (x101 : Int) (x102 : Int) => if ¬ ((hI h 75 35) ≤ x102) then 0 ≤ x102 ∧ x102 < 12 ∧ ∀ v108 : Int, v108 = (if ¬ (x1 < (hI h 95 (Int.toNat x102))) then x102 else x101) → nm (x102 + 1) ∧ ∀ i110 : Int, i110 = (x102 + 1) → C103 v108 i110 else Q (rV (vI x101)) h) (-1) 0
theorem wX4_textBy {G : Gx} (hg : gF G = true) {d : Nat} {x1 : Int} {h : Hp} {Q : Rs → Hp → Prop} (hm : mX4_textBy x1 h Q) : Ct G tX4_textBy (d + 0) [vR 75, vI x1] h Q := by
  refine ct_enter (L0 := [some (vR 75), some (vI x1), none, none]) rfl rfl ?_
  unfold mX4_textBy at hm
  refine wc_iconst (pc := 0) (dAt dtX4_textBy 0 rfl) ⟨by decide, by decide⟩ (wc_istore_n (pc := 1) (dAt dtX4_textBy 1 rfl) (by decide) (wc_L (L' := [some (vR 75), some (vI x1), some (vI (-1)), none]) rfl (wc_iconst (pc := 2) (dAt dtX4_textBy 2 rfl) ⟨by decide, by decide⟩ (wc_istore_n (pc := 3) (dAt dtX4_textBy 3 rfl) (by decide) (wc_L (L' := [some (vR 75), some (vI x1), some (vI (-1)), some (vI 0)]) rfl (?_))))))
  refine wh2_ind (P := fun (x101 : Int) (x102 : Int) => Wc G tX4_textBy (d + 0) h Q 4 [some (vR 75), some (vI x1), some (vI x101), some (vI x102)] [] h) (fun C103 ih104 x101 x102 hm => ?_) hm
  refine wc_iload_n (pc := 4) (dAt dtX4_textBy 4 rfl) rfl (wc_aload_n (pc := 5) (dAt dtX4_textBy 5 rfl) rfl (wc_getKI hg (pc := 6) (dAt dtX4_textBy 6 rfl) flX4_404_4 rfl ka75 (wc_icmp_ge (pc := 9) (tgt := 30) (dAt dtX4_textBy 7 rfl) (by decide) (fun c105 => ?_) (fun c105 => ?_))))
  · replace hm := ite_f (fun z => z c105) hm
    exact wc_iload_n (pc := 30) (dAt dtX4_textBy 18 rfl) rfl (wc_iret (pc := 31) (dAt dtX4_textBy 19 rfl) rfl (nar_int _) hm)
  · replace hm := ite_t c105 hm
    obtain ⟨o106, o107, hm⟩ := hm
    obtain ⟨v108, ev108⟩ : ∃ v108 : Int, v108 = (if ¬ (x1 < (hI h 95 (Int.toNat x102))) then x102 else x101) := ⟨_, rfl⟩
    replace hm := hm v108 ev108
    refine wc_aload_n (pc := 12) (dAt dtX4_textBy 8 rfl) rfl (wc_getKR hg (pc := 13) (dAt dtX4_textBy 9 rfl) flX4_147_4 rfl ka75 kf75_40 (wc_iload_n (pc := 16) (dAt dtX4_textBy 10 rfl) rfl (wc_ialdK hg (pc := 17) (dAt dtX4_textBy 11 rfl) kr95 o106 o107 (wc_iload_n (pc := 18) (dAt dtX4_textBy 12 rfl) rfl (?_)))))
    have kj111 : Wc G tX4_textBy (d + 0) h Q 24 [some (vR 75), some (vI x1), some (vI v108), some (vI x102)] [] h := by
      obtain ⟨o109, hm⟩ := hm
      obtain ⟨i110, ei110⟩ : ∃ i110 : Int, i110 = (x102 + 1) := ⟨_, rfl⟩
      replace hm := hm i110 ei110
      exact wc_iinc (v := i110) (pc := 24) (dAt dtX4_textBy 16 rfl) rfl ei110 (ei110 ▸ o109) (by decide) (wc_L (L' := [some (vR 75), some (vI x1), some (vI v108), some (vI i110)]) rfl (wc_goto (pc := 27) (tgt := 4) (dAt dtX4_textBy 17 rfl) (by decide) (ih104 _ _ hm)))
    have k112 : (¬ (x1 < (hI h 95 (Int.toNat x102)))) → Wc G tX4_textBy (d + 0) h Q 22 [some (vR 75), some (vI x1), some (vI x101), some (vI x102)] [] h := fun c114 => by
      have z115 := kj111
      rw [show v108 = x102 from ev108.trans (if_pos c114)] at z115
      exact wc_iload_n (pc := 22) (dAt dtX4_textBy 14 rfl) rfl (wc_istore_n (pc := 23) (dAt dtX4_textBy 15 rfl) (by decide) (wc_L (L' := [some (vR 75), some (vI x1), some (vI x102), some (vI x102)]) rfl (z115)))
    have k113 : ¬ (¬ (x1 < (hI h 95 (Int.toNat x102)))) → Wc G tX4_textBy (d + 0) h Q 24 [some (vR 75), some (vI x1), some (vI x101), some (vI x102)] [] h := fun c114 => by
      have z117 := kj111
      rw [show v108 = x101 from ev108.trans (if_neg c114)] at z117
      exact z117
    exact wc_icmp_gt (pc := 19) (tgt := 24) (dAt dtX4_textBy 13 rfl) (by decide) (fun c119 => (k113 (fun z => z c119))) (fun c119 => (k112 c119))
def tX4_paramOf : Mt := (⟨"FlyingDoctorsModel", "paramOf", "(II)I"⟩, prog_24_method_46_code, 3, (Option.some Jvm.ClassFile.FieldType.int), [])
def DX4_paramOf : List (Nat × Instr × Nat) := [(0, .iload_n 1, 1), (1, .iconst (-1), 1), (2, .if_icmp .eq 14, 3), (5, .aload_n 0, 1), (6, .getfield 150, 3), (9, .iconst 5, 1), (10, .iload_n 1, 1), (11, .imul, 1), (12, .iload_n 2, 1), (13, .iadd, 1), (14, .iaload, 1), (15, .ireturn, 1), (16, .iload_n 2, 1), (17, .ifCond .ne 8, 3), (20, .bipush 32, 2), (22, .goto 33, 3), (25, .iload_n 2, 1), (26, .iconst 1, 1), (27, .if_icmp .ne 8, 3), (30, .bipush 40, 2), (32, .goto 23, 3), (35, .iload_n 2, 1), (36, .iconst 2, 1), (37, .if_icmp .ne 7, 3), (40, .iconst 4, 1), (41, .goto 14, 3), (44, .iload_n 2, 1), (45, .iconst 3, 1), (46, .if_icmp .ne 7, 3), (49, .iconst 2, 1), (50, .goto 5, 3), (53, .bipush 14, 2), (55, .ireturn, 1)]
theorem dtX4_paramOf : chkD (mB tX4_paramOf) DX4_paramOf = true := by decide +kernel
theorem moX4_paramOf : MethOk tX4_paramOf 2 := ⟨Or.inl ⟨rfl, q2637⟩, by decide +kernel, ⟨by decide, by decide⟩, by decide +kernel⟩
def vX4_paramOf (x1 : Int) (x2 : Int) (h : Hp) : Int := (if ¬ (x1 = (-1)) then (hI h 96 (Int.toNat ((5 * x1) + x2))) else (if ¬ (x2 ≠ 0) then 32 else (if ¬ (x2 ≠ 1) then 40 else (if ¬ (x2 ≠ 2) then 4 else (if ¬ (x2 ≠ 3) then 2 else 14)))))
def oX4_paramOf (x1 : Int) (x2 : Int) (h : Hp) : Prop := ((¬ (x1 = (-1))) → nm (5 * x1) ∧ nm ((5 * x1) + x2) ∧ 0 ≤ ((5 * x1) + x2) ∧ ((5 * x1) + x2) < 60)
theorem wX4_paramOf {G : Gx} (hg : gF G = true) {d : Nat} {x1 : Int} {x2 : Int} {h : Hp} {Q : Rs → Hp → Prop} (hm : oX4_paramOf x1 x2 h) (hq : Q (rV (vI (vX4_paramOf x1 x2 h))) h) : Ct G tX4_paramOf (d + 0) [vR 75, vI x1, vI x2] h Q := by
  refine ct_enter (L0 := [some (vR 75), some (vI x1), some (vI x2)]) rfl rfl ?_
  have p105 := hm
  have k106 : (¬ (x1 = (-1))) → Wc G tX4_paramOf (d + 0) h Q 5 [some (vR 75), some (vI x1), some (vI x2)] [] h := fun c108 => by
    obtain ⟨o101, o102, o103, o104⟩ := (p105 c108)
    have z : Q (rV (vI (hI h 96 (Int.toNat ((5 * x1) + x2))))) h := by
      rw [show (vX4_paramOf x1 x2 h) = (hI h 96 (Int.toNat ((5 * x1) + x2))) from (if_pos c108)] at hq
      exact hq
    exact wc_aload_n (pc := 5) (dAt dtX4_paramOf 3 rfl) rfl (wc_getKR hg (pc := 6) (dAt dtX4_paramOf 4 rfl) flX4_150_4 rfl ka75 kf75_41 (wc_iconst (pc := 9) (dAt dtX4_paramOf 5 rfl) ⟨by decide, by decide⟩ (wc_iload_n (pc := 10) (dAt dtX4_paramOf 6 rfl) rfl (wc_imul (pc := 11) (dAt dtX4_paramOf 7 rfl) o101 (wc_iload_n (pc := 12) (dAt dtX4_paramOf 8 rfl) rfl (wc_iadd (pc := 13) (dAt dtX4_paramOf 9 rfl) o102 (wc_ialdK hg (pc := 14) (dAt dtX4_paramOf 10 rfl) kr96 o103 o104 (wc_iret (pc := 15) (dAt dtX4_paramOf 11 rfl) rfl (nar_int _) z))))))))
  have k107 : ¬ (¬ (x1 = (-1))) → Wc G tX4_paramOf (d + 0) h Q 16 [some (vR 75), some (vI x1), some (vI x2)] [] h := fun c108 => by
    have k109 : (¬ (x2 ≠ 0)) → Wc G tX4_paramOf (d + 0) h Q 20 [some (vR 75), some (vI x1), some (vI x2)] [] h := fun c111 => by
      have z : Q (rV (vI 32)) h := by
        rw [show (vX4_paramOf x1 x2 h) = 32 from ((if_neg c108).trans (if_pos c111))] at hq
        exact hq
      exact wc_bipush (pc := 20) (dAt dtX4_paramOf 14 rfl) ⟨by decide, by decide, by decide⟩ (wc_goto (pc := 22) (tgt := 55) (dAt dtX4_paramOf 15 rfl) (by decide) (wc_iret (pc := 55) (dAt dtX4_paramOf 32 rfl) rfl (nar_int _) z))
    have k110 : ¬ (¬ (x2 ≠ 0)) → Wc G tX4_paramOf (d + 0) h Q 25 [some (vR 75), some (vI x1), some (vI x2)] [] h := fun c111 => by
      have k112 : (¬ (x2 ≠ 1)) → Wc G tX4_paramOf (d + 0) h Q 30 [some (vR 75), some (vI x1), some (vI x2)] [] h := fun c114 => by
        have z : Q (rV (vI 40)) h := by
          rw [show (vX4_paramOf x1 x2 h) = 40 from ((if_neg c108).trans ((if_neg c111).trans (if_pos c114)))] at hq
          exact hq
        exact wc_bipush (pc := 30) (dAt dtX4_paramOf 19 rfl) ⟨by decide, by decide, by decide⟩ (wc_goto (pc := 32) (tgt := 55) (dAt dtX4_paramOf 20 rfl) (by decide) (wc_iret (pc := 55) (dAt dtX4_paramOf 32 rfl) rfl (nar_int _) z))
      have k113 : ¬ (¬ (x2 ≠ 1)) → Wc G tX4_paramOf (d + 0) h Q 35 [some (vR 75), some (vI x1), some (vI x2)] [] h := fun c114 => by
        have k115 : (¬ (x2 ≠ 2)) → Wc G tX4_paramOf (d + 0) h Q 40 [some (vR 75), some (vI x1), some (vI x2)] [] h := fun c117 => by
          have z : Q (rV (vI 4)) h := by
            rw [show (vX4_paramOf x1 x2 h) = 4 from ((if_neg c108).trans ((if_neg c111).trans ((if_neg c114).trans (if_pos c117))))] at hq
            exact hq
          exact wc_iconst (pc := 40) (dAt dtX4_paramOf 24 rfl) ⟨by decide, by decide⟩ (wc_goto (pc := 41) (tgt := 55) (dAt dtX4_paramOf 25 rfl) (by decide) (wc_iret (pc := 55) (dAt dtX4_paramOf 32 rfl) rfl (nar_int _) z))
        have k116 : ¬ (¬ (x2 ≠ 2)) → Wc G tX4_paramOf (d + 0) h Q 44 [some (vR 75), some (vI x1), some (vI x2)] [] h := fun c117 => by
          have k118 : (¬ (x2 ≠ 3)) → Wc G tX4_paramOf (d + 0) h Q 49 [some (vR 75), some (vI x1), some (vI x2)] [] h := fun c120 => by
            have z : Q (rV (vI 2)) h := by
              rw [show (vX4_paramOf x1 x2 h) = 2 from ((if_neg c108).trans ((if_neg c111).trans ((if_neg c114).trans ((if_neg c117).trans (if_pos c120)))))] at hq
              exact hq
            exact wc_iconst (pc := 49) (dAt dtX4_paramOf 29 rfl) ⟨by decide, by decide⟩ (wc_goto (pc := 50) (tgt := 55) (dAt dtX4_paramOf 30 rfl) (by decide) (wc_iret (pc := 55) (dAt dtX4_paramOf 32 rfl) rfl (nar_int _) z))
          have k119 : ¬ (¬ (x2 ≠ 3)) → Wc G tX4_paramOf (d + 0) h Q 53 [some (vR 75), some (vI x1), some (vI x2)] [] h := fun c120 => by
            have z : Q (rV (vI 14)) h := by
              rw [show (vX4_paramOf x1 x2 h) = 14 from ((if_neg c108).trans ((if_neg c111).trans ((if_neg c114).trans ((if_neg c117).trans (if_neg c120)))))] at hq
              exact hq
            exact wc_bipush (pc := 53) (dAt dtX4_paramOf 31 rfl) ⟨by decide, by decide, by decide⟩ (wc_iret (pc := 55) (dAt dtX4_paramOf 32 rfl) rfl (nar_int _) z)
          exact wc_iload_n (pc := 44) (dAt dtX4_paramOf 26 rfl) rfl (wc_iconst (pc := 45) (dAt dtX4_paramOf 27 rfl) ⟨by decide, by decide⟩ (wc_icmp_ne (pc := 46) (tgt := 53) (dAt dtX4_paramOf 28 rfl) (by decide) (fun c121 => (k119 (fun z => z c121))) (fun c121 => (k118 c121))))
        exact wc_iload_n (pc := 35) (dAt dtX4_paramOf 21 rfl) rfl (wc_iconst (pc := 36) (dAt dtX4_paramOf 22 rfl) ⟨by decide, by decide⟩ (wc_icmp_ne (pc := 37) (tgt := 44) (dAt dtX4_paramOf 23 rfl) (by decide) (fun c122 => (k116 (fun z => z c122))) (fun c122 => (k115 c122))))
      exact wc_iload_n (pc := 25) (dAt dtX4_paramOf 16 rfl) rfl (wc_iconst (pc := 26) (dAt dtX4_paramOf 17 rfl) ⟨by decide, by decide⟩ (wc_icmp_ne (pc := 27) (tgt := 35) (dAt dtX4_paramOf 18 rfl) (by decide) (fun c123 => (k113 (fun z => z c123))) (fun c123 => (k112 c123))))
    exact wc_iload_n (pc := 16) (dAt dtX4_paramOf 12 rfl) rfl (wc_if_ne (pc := 17) (tgt := 25) (dAt dtX4_paramOf 13 rfl) (by decide) (fun c124 => (k110 (fun z => z c124))) (fun c124 => (k109 c124)))
  exact wc_iload_n (pc := 0) (dAt dtX4_paramOf 0 rfl) rfl (wc_iconst (pc := 1) (dAt dtX4_paramOf 1 rfl) ⟨by decide, by decide⟩ (wc_icmp_eq (pc := 2) (tgt := 16) (dAt dtX4_paramOf 2 rfl) (by decide) (fun c125 => (k107 (fun z => z c125))) (fun c125 => (k106 c125))))
def tX4_law : Mt := (⟨"FlyingDoctorsModel", "law", "(I)I"⟩, prog_24_method_47_code, 3, (Option.some Jvm.ClassFile.FieldType.int), [])
def DX4_law : List (Nat × Instr × Nat) := [(0, .aload_n 0, 1), (1, .iconst 0, 1), (2, .putfield 1, 3), (5, .aload_n 0, 1), (6, .iload_n 1, 1), (7, .ifCond .lt 13, 3), (10, .iload_n 1, 1), (11, .bipush 7, 2), (13, .if_icmp .gt 7, 3), (16, .iconst 1, 1), (17, .goto 4, 3), (20, .iconst 0, 1), (21, .iconst 1, 1), (22, .invokevirtual 10, 3), (25, .ifCond .ne 5, 3), (28, .iconst 0, 1), (29, .ireturn, 1), (30, .aload_n 0, 1), (31, .aload_n 0, 1), (32, .getfield 81, 3), (35, .invokevirtual 435, 3), (38, .istore_n 2, 1), (39, .iload_n 1, 1), (40, .iconst 5, 1), (41, .if_icmp .ge 10, 3), (44, .aload_n 0, 1), (45, .iload_n 2, 1), (46, .iload_n 1, 1), (47, .invokevirtual 438, 3), (50, .ireturn, 1), (51, .iload_n 1, 1), (52, .bipush 7, 2), (54, .if_icmp .ne 8, 3), (57, .aload_n 0, 1), (58, .getfield 426, 3), (61, .ireturn, 1), (62, .iload_n 2, 1), (63, .iconst (-1), 1), (64, .if_icmp .ne 7, 3), (67, .iconst 0, 1), (68, .goto 23, 3), (71, .iload_n 1, 1), (72, .iconst 5, 1), (73, .if_icmp .ne 12, 3), (76, .aload_n 0, 1), (77, .getfield 156, 3), (80, .iload_n 2, 1), (81, .iaload, 1), (82, .goto 9, 3), (85, .aload_n 0, 1), (86, .getfield 162, 3), (89, .iload_n 2, 1), (90, .iaload, 1), (91, .ireturn, 1)]
theorem dtX4_law : chkD (mB tX4_law) DX4_law = true := by decide +kernel
theorem moX4_law : MethOk tX4_law 1 := ⟨Or.inl ⟨rfl, q2629⟩, by decide +kernel, ⟨by decide, by decide⟩, by decide +kernel⟩
def mX4_law (x1 : Int) (h : Hp) (Q : Rs → Hp → Prop) : Prop := ∀ h101 : Hp, h101 = sI h 75 0 0 → ∀ v102 : Int, v102 = (b2i (¬ (x1 < 0) ∧ (¬ (7 < x1)))) → mX4_right v102 1 h101 (kI Q (fun x104 h103 => if ¬ (x104 ≠ 0) then Q (rV (vI 0)) h103 else mX4_textBy (hI h103 75 1) h103 (kI Q (fun x107 h106 => if ¬ (5 ≤ x1) then oX4_paramOf x107 x1 h106 ∧ Q (rV (vI (vX4_paramOf x107 x1 h106))) h106 else if ¬ (x1 ≠ 7) then Q (rV (vI (hI h106 75 36))) h106 else ((¬ (¬ (x107 ≠ (-1))) → ((¬ (x1 ≠ 5)) → 0 ≤ x107 ∧ x107 < 12) ∧ (¬ (¬ (x1 ≠ 5)) → 0 ≤ x107 ∧ x107 < 12))) ∧ ∀ v116 : Int, v116 = (if ¬ (x107 ≠ (-1)) then 0 else (if ¬ (x1 ≠ 5) then (hI h106 98 (Int.toNat x107)) else (hI h106 100 (Int.toNat x107)))) → Q (rV (vI v116)) h106))))
theorem wX4_law {G : Gx} (hg : gF G = true) {d : Nat} {x1 : Int} {h : Hp} {Q : Rs → Hp → Prop} (hm : mX4_law x1 h Q) : Ct G tX4_law (d + 1) [vR 75, vI x1] h Q := by
  refine ct_enter (L0 := [some (vR 75), some (vI x1), none]) rfl rfl ?_
  unfold mX4_law at hm
  obtain ⟨h101, eh101⟩ : ∃ h101 : Hp, h101 = sI h 75 0 0 := ⟨_, rfl⟩
  replace hm := hm h101 eh101
  obtain ⟨v102, ev102⟩ : ∃ v102 : Int, v102 = (b2i (¬ (x1 < 0) ∧ (¬ (7 < x1)))) := ⟨_, rfl⟩
  replace hm := hm v102 ev102
  refine wc_aload_n (pc := 0) (dAt dtX4_law 0 rfl) rfl (wc_iconst (pc := 1) (dAt dtX4_law 1 rfl) ⟨by decide, by decide⟩ (wc_putKI hg (pc := 2) (dAt dtX4_law 2 rfl) flX4_1_4 (Or.inl rfl) rfl ka75 (by decide) (okI_int _) (wc_hp eh101 (wc_aload_n (pc := 5) (dAt dtX4_law 3 rfl) rfl (wc_iload_n (pc := 6) (dAt dtX4_law 4 rfl) rfl (?_))))))
  have kj135 : Wc G tX4_law (d + 1) h Q 21 [some (vR 75), some (vI x1), none] [vI v102, vR 75] h101 := by
    refine wc_iconst (pc := 21) (dAt dtX4_law 12 rfl) ⟨by decide, by decide⟩ (wc_kf hg fun zk => wc_callV (k := 4) (y' := tX4_right) (av := [vI v102, vI 1]) (st := []) (pc := 22) (dAt dtX4_law 13 rfl) lkX4_10 moX4_right q2152 qs64 (by decide) (zk.2 _ ka75).1 rfl rfl (Nat.le_of_ble_eq_true rfl) (wX4_right hg hm) (kr_I (fun x104 h103 hm => ?_)) (kx_I rfl))
    refine wc_if_ne (pc := 25) (tgt := 30) (dAt dtX4_law 14 rfl) (by decide) (fun c105 => ?_) (fun c105 => ?_)
    · replace hm := ite_f (fun z => z c105) hm
      refine wc_aload_n (pc := 30) (dAt dtX4_law 17 rfl) rfl (wc_aload_n (pc := 31) (dAt dtX4_law 18 rfl) rfl (wc_getKI hg (pc := 32) (dAt dtX4_law 19 rfl) flX4_81_4 rfl ka75 (wc_kf hg fun zk => wc_callV (k := 4) (y' := tX4_textBy) (av := [vI (hI h103 75 1)]) (st := []) (pc := 35) (dAt dtX4_law 20 rfl) lkX4_435 moX4_textBy q2632 qs86 (by decide) (zk.2 _ ka75).1 rfl rfl (Nat.le_of_ble_eq_true rfl) (wX4_textBy hg hm) (kr_I (fun x107 h106 hm => ?_)) (kx_I rfl))))
      refine wc_istore_n (pc := 38) (dAt dtX4_law 21 rfl) (by decide) (wc_L (L' := [some (vR 75), some (vI x1), some (vI x107)]) rfl (wc_iload_n (pc := 39) (dAt dtX4_law 22 rfl) rfl (wc_iconst (pc := 40) (dAt dtX4_law 23 rfl) ⟨by decide, by decide⟩ (wc_icmp_ge (pc := 41) (tgt := 51) (dAt dtX4_law 24 rfl) (by decide) (fun c108 => ?_) (fun c108 => ?_)))))
      · replace hm := ite_f (fun z => z c108) hm
        refine wc_iload_n (pc := 51) (dAt dtX4_law 30 rfl) rfl (wc_bipush (pc := 52) (dAt dtX4_law 31 rfl) ⟨by decide, by decide, by decide⟩ (wc_icmp_ne (pc := 54) (tgt := 62) (dAt dtX4_law 32 rfl) (by decide) (fun c110 => ?_) (fun c110 => ?_)))
        · replace hm := ite_f (fun z => z c110) hm
          obtain ⟨o115, hm⟩ := hm
          obtain ⟨v116, ev116⟩ : ∃ v116 : Int, v116 = (if ¬ (x107 ≠ (-1)) then 0 else (if ¬ (x1 ≠ 5) then (hI h106 98 (Int.toNat x107)) else (hI h106 100 (Int.toNat x107)))) := ⟨_, rfl⟩
          replace hm := hm v116 ev116
          refine wc_iload_n (pc := 62) (dAt dtX4_law 36 rfl) rfl (wc_iconst (pc := 63) (dAt dtX4_law 37 rfl) ⟨by decide, by decide⟩ (?_))
          have kj117 : Wc G tX4_law (d + 1) h Q 91 [some (vR 75), none, none] [vI v116] h106 := by
            exact wc_iret (pc := 91) (dAt dtX4_law 53 rfl) rfl (nar_int _) hm
          have p118 := o115
          have k119 : (¬ (x107 ≠ (-1))) → Wc G tX4_law (d + 1) h Q 67 [some (vR 75), some (vI x1), some (vI x107)] [] h106 := fun c121 => by
            have z122 := kj117
            rw [show v116 = 0 from ev116.trans (if_pos c121)] at z122
            exact wc_iconst (pc := 67) (dAt dtX4_law 39 rfl) ⟨by decide, by decide⟩ (wc_goto (pc := 68) (tgt := 91) (dAt dtX4_law 40 rfl) (by decide) (wc_drp [1, 2] rfl (z122)))
          have k120 : ¬ (¬ (x107 ≠ (-1))) → Wc G tX4_law (d + 1) h Q 71 [some (vR 75), some (vI x1), some (vI x107)] [] h106 := fun c121 => by
            obtain ⟨p124, p125⟩ := (p118 c121)
            have k126 : (¬ (x1 ≠ 5)) → Wc G tX4_law (d + 1) h Q 76 [some (vR 75), some (vI x1), some (vI x107)] [] h106 := fun c128 => by
              obtain ⟨o111, o112⟩ := (p124 c128)
              have z129 := kj117
              rw [show v116 = (hI h106 98 (Int.toNat x107)) from ev116.trans ((if_neg c121).trans (if_pos c128))] at z129
              exact wc_aload_n (pc := 76) (dAt dtX4_law 44 rfl) rfl (wc_getKR hg (pc := 77) (dAt dtX4_law 45 rfl) flX4_156_4 rfl ka75 kf75_43 (wc_iload_n (pc := 80) (dAt dtX4_law 46 rfl) rfl (wc_ialdK hg (pc := 81) (dAt dtX4_law 47 rfl) kr98 o111 o112 (wc_goto (pc := 82) (tgt := 91) (dAt dtX4_law 48 rfl) (by decide) (wc_drp [1, 2] rfl (z129))))))
            have k127 : ¬ (¬ (x1 ≠ 5)) → Wc G tX4_law (d + 1) h Q 85 [some (vR 75), some (vI x1), some (vI x107)] [] h106 := fun c128 => by
              obtain ⟨o113, o114⟩ := (p125 c128)
              have z131 := kj117
              rw [show v116 = (hI h106 100 (Int.toNat x107)) from ev116.trans ((if_neg c121).trans (if_neg c128))] at z131
              exact wc_aload_n (pc := 85) (dAt dtX4_law 49 rfl) rfl (wc_getKR hg (pc := 86) (dAt dtX4_law 50 rfl) flX4_162_4 rfl ka75 kf75_45 (wc_iload_n (pc := 89) (dAt dtX4_law 51 rfl) rfl (wc_ialdK hg (pc := 90) (dAt dtX4_law 52 rfl) kr100 o113 o114 (wc_drp [1, 2] rfl (z131)))))
            exact wc_iload_n (pc := 71) (dAt dtX4_law 41 rfl) rfl (wc_iconst (pc := 72) (dAt dtX4_law 42 rfl) ⟨by decide, by decide⟩ (wc_icmp_ne (pc := 73) (tgt := 85) (dAt dtX4_law 43 rfl) (by decide) (fun c133 => (k127 (fun z => z c133))) (fun c133 => (k126 c133))))
          exact wc_icmp_ne (pc := 64) (tgt := 71) (dAt dtX4_law 38 rfl) (by decide) (fun c134 => (k120 (fun z => z c134))) (fun c134 => (k119 c134))
        · replace hm := ite_t c110 hm
          exact wc_aload_n (pc := 57) (dAt dtX4_law 33 rfl) rfl (wc_getKI hg (pc := 58) (dAt dtX4_law 34 rfl) flX4_426_4 rfl ka75 (wc_iret (pc := 61) (dAt dtX4_law 35 rfl) rfl (nar_int _) hm))
      · replace hm := ite_t c108 hm
        obtain ⟨o109, hm⟩ := hm
        exact wc_aload_n (pc := 44) (dAt dtX4_law 25 rfl) rfl (wc_iload_n (pc := 45) (dAt dtX4_law 26 rfl) rfl (wc_iload_n (pc := 46) (dAt dtX4_law 27 rfl) rfl (wc_kf hg fun zk => wc_callV (k := 4) (y' := tX4_paramOf) (P := eI (vX4_paramOf x107 x1 h106) h106) (pc := 47) (dAt dtX4_law 28 rfl) lkX4_438 moX4_paramOf q2636 qs87 (by decide) (zk.2 _ ka75).1 rfl rfl (Nat.le_of_ble_eq_true rfl) (wX4_paramOf hg o109 ⟨rfl, rfl⟩) (ep_I (wc_iret (pc := 50) (dAt dtX4_law 29 rfl) rfl (nar_int _) hm)) ex_I)))
    · replace hm := ite_t c105 hm
      exact wc_iconst (pc := 28) (dAt dtX4_law 15 rfl) ⟨by decide, by decide⟩ (wc_iret (pc := 29) (dAt dtX4_law 16 rfl) rfl (nar_int _) hm)
  have k136 : (¬ (x1 < 0) ∧ (¬ (7 < x1))) → Wc G tX4_law (d + 1) h Q 16 [some (vR 75), some (vI x1), none] [vR 75] h101 := fun c138 => by
    have z139 := kj135
    rw [show v102 = 1 from ev102.trans (b2i_t c138)] at z139
    exact wc_iconst (pc := 16) (dAt dtX4_law 9 rfl) ⟨by decide, by decide⟩ (wc_goto (pc := 17) (tgt := 21) (dAt dtX4_law 10 rfl) (by decide) (z139))
  have k137 : ¬ (¬ (x1 < 0) ∧ (¬ (7 < x1))) → Wc G tX4_law (d + 1) h Q 20 [some (vR 75), some (vI x1), none] [vR 75] h101 := fun c138 => by
    have z141 := kj135
    rw [show v102 = 0 from ev102.trans (b2i_f c138)] at z141
    exact wc_iconst (pc := 20) (dAt dtX4_law 11 rfl) ⟨by decide, by decide⟩ (z141)
  exact wc_if_lt (pc := 7) (tgt := 20) (dAt dtX4_law 5 rfl) (by decide) (fun c143 => (k137 (fun z => z.1 c143))) (fun c143 => wc_iload_n (pc := 10) (dAt dtX4_law 6 rfl) rfl (wc_bipush (pc := 11) (dAt dtX4_law 7 rfl) ⟨by decide, by decide, by decide⟩ (wc_icmp_gt (pc := 13) (tgt := 20) (dAt dtX4_law 8 rfl) (by decide) (fun c144 => (k137 (fun z => (fun z => z c144) z.2))) (fun c144 => (k136 ⟨c143, c144⟩)))))
