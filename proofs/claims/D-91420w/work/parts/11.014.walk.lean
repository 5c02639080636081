set_option maxRecDepth 100000
set_option maxHeartbeats 1000000
/-! what methods do, and their walks, by program -/
def tX4_newWord : Mt := (⟨"FlyingDoctorsModel", "newWord", "()V"⟩, prog_24_method_38_code, 2, (Option.none : Option Jvm.ClassFile.FieldType), [])
def DX4_newWord : List (Nat × Instr × Nat) := [(0, .aload_n 0, 1), (1, .getfield 116, 3), (4, .iconst 1, 1), (5, .if_icmp .ne 11, 3), (8, .aload_n 0, 1), (9, .invokevirtual 375, 3), (12, .iconst (-1), 1), (13, .if_icmp .eq 9, 3), (16, .aload_n 0, 1), (17, .iconst 1, 1), (18, .invokevirtual 357, 3), (21, .return_, 1), (22, .aload_n 0, 1), (23, .getfield 125, 3), (26, .bipush 8, 2), (28, .if_icmp .le 9, 3), (31, .aload_n 0, 1), (32, .iconst 2, 1), (33, .invokevirtual 357, 3), (36, .return_, 1), (37, .aload_n 0, 1), (38, .invokevirtual 379, 3), (41, .iconst (-1), 1), (42, .if_icmp .eq 9, 3), (45, .aload_n 0, 1), (46, .iconst 4, 1), (47, .invokevirtual 357, 3), (50, .return_, 1), (51, .iconst 0, 1), (52, .istore_n 1, 1), (53, .iload_n 1, 1), (54, .aload_n 0, 1), (55, .getfield 401, 3), (58, .if_icmp .ge 23, 3), (61, .aload_n 0, 1), (62, .getfield 174, 3), (65, .iload_n 1, 1), (66, .laload, 1), (67, .aload_n 0, 1), (68, .getfield 106, 3), (71, .lcmp, 1), (72, .ifCond .eq 9, 3), (75, .iinc 1 1, 3), (78, .goto (-25), 3), (81, .iload_n 1, 1), (82, .bipush 16, 2), (84, .if_icmp .ne 9, 3), (87, .aload_n 0, 1), (88, .iconst 2, 1), (89, .invokevirtual 357, 3), (92, .return_, 1), (93, .iload_n 1, 1), (94, .aload_n 0, 1), (95, .getfield 401, 3), (98, .if_icmp .ne 23, 3), (101, .aload_n 0, 1), (102, .getfield 174, 3), (105, .iload_n 1, 1), (106, .aload_n 0, 1), (107, .getfield 106, 3), (110, .lastore, 1), (111, .aload_n 0, 1), (112, .dup, 1), (113, .getfield 401, 3), (116, .iconst 1, 1), (117, .iadd, 1), (118, .putfield 401, 3), (121, .aload_n 0, 1), (122, .getfield 177, 3), (125, .aload_n 0, 1), (126, .getfield 372, 3), (129, .iload_n 1, 1), (130, .iastore, 1), (131, .aload_n 0, 1), (132, .dup, 1), (133, .getfield 372, 3), (136, .iconst 1, 1), (137, .iadd, 1), (138, .putfield 372, 3), (141, .aload_n 0, 1), (142, .invokevirtual 354, 3), (145, .return_, 1)]
theorem dtX4_newWord : chkD (mB tX4_newWord) DX4_newWord = true := by decide +kernel
theorem moX4_newWord : MethOk tX4_newWord 0 := ⟨Or.inl ⟨rfl, q2569⟩, by decide +kernel, ⟨by decide, by decide⟩, by decide +kernel⟩
def mX4_newWord  (h : Hp) (Q : Rs → Hp → Prop) : Prop := jn (fun (h103 : Hp) => mX4_wrong 1 h103 (kN Q (fun h144 => Q rN h144))) (fun K101 => if ¬ ((hI h 75 28) ≠ 1) then mX4_knownWord h (kI Q (fun x106 h105 => if ¬ (x106 = (-1)) then K101 h105 else if ¬ ((hI h105 75 30) ≤ 8) then mX4_wrong 2 h105 (kN Q (fun h109 => Q rN h109)) else mX4_findWord h105 (kI Q (fun x111 h110 => if ¬ (x111 = (-1)) then mX4_wrong 4 h110 (kN Q (fun h113 => Q rN h113)) else wh1 (fun (C115 : Int → Prop) (x114 : Int) => ((¬ ((hI h110 75 37) ≤ x114) → 0 ≤ x114 ∧ x114 < 32)) ∧ if ¬ ((hI h110 75 37) ≤ x114) ∧ (¬ ((lcm (hL h110 104 (Int.toNat x114)) (hL h110 75 33)) = 0)) then nm (x114 + 1) ∧ ∀ i122 : Int, i122 = (x114 + 1) → C115 i122 else if ¬ (x114 ≠ 16) then mX4_wrong 2 h110 (kN Q (fun h124 => Q rN h124)) else jn (fun (h127 : Hp) => 0 ≤ (hI h127 75 38) ∧ (hI h127 75 38) < 12 ∧ ∀ h136 : Hp, h136 = sI h127 105 (Int.toNat (hI h127 75 38)) x114 → nm ((hI h136 75 38) + 1) ∧ ∀ h138 : Hp, h138 = sI h136 75 38 ((hI h136 75 38) + 1) → mX4_goes h138 (kN Q (fun h139 => Q rN h139))) (fun K125 => if ¬ (x114 ≠ (hI h110 75 37)) then 0 ≤ x114 ∧ x114 < 32 ∧ ∀ h131 : Hp, h131 = sL h110 104 (Int.toNat x114) (hL h110 75 33) → nm ((hI h131 75 37) + 1) ∧ ∀ h133 : Hp, h133 = sI h131 75 37 ((hI h131 75 37) + 1) → K125 h133 else K125 h110)) 0)))) else K101 h)
theorem wX4_newWord {G : Gx} (hg : gF G = true) {d : Nat}  {h : Hp} {Q : Rs → Hp → Prop} (hm : mX4_newWord  h Q) : Ct G tX4_newWord (d + 2) [vR 75] h Q := by
  refine ct_enter (L0 := [some (vR 75), none]) rfl rfl ?_
  unfold mX4_newWord at hm
  refine wc_aload_n (pc := 0) (dAt dtX4_newWord 0 rfl) rfl (wc_getKI hg (pc := 1) (dAt dtX4_newWord 1 rfl) flX4_116_4 rfl ka75 (wc_iconst (pc := 4) (dAt dtX4_newWord 2 rfl) ⟨by decide, by decide⟩ (?_)))
  refine jn1_ind (P := fun (h103 : Hp) => Wc G tX4_newWord (d + 2) h Q 16 [some (vR 75), none] [] h103) (fun h103 hm => ?_) (fun K101 kj102 hm => ?_) hm
  · refine wc_aload_n (pc := 16) (dAt dtX4_newWord 8 rfl) rfl (wc_iconst (pc := 17) (dAt dtX4_newWord 9 rfl) ⟨by decide, by decide⟩ (wc_kf hg fun zk => wc_callV (k := 4) (y' := tX4_wrong) (av := [vI 1]) (st := []) (pc := 18) (dAt dtX4_newWord 10 rfl) lkX4_357 moX4_wrong q2564 qs72 (by decide) (zk.2 _ ka75).1 rfl rfl (Nat.le_of_ble_eq_true rfl) (wX4_wrong hg hm) (kr_N (fun h144 hm => ?_)) (kx_N rfl)))
    exact wc_vret (pc := 21) (dAt dtX4_newWord 11 rfl) rfl hm
  · refine wc_icmp_ne (pc := 5) (tgt := 16) (dAt dtX4_newWord 3 rfl) (by decide) (fun c104 => ?_) (fun c104 => ?_)
    · replace hm := ite_f (fun z => z c104) hm
      exact kj102 _ hm
    · replace hm := ite_t c104 hm
      refine wc_aload_n (pc := 8) (dAt dtX4_newWord 4 rfl) rfl (wc_kf hg fun zk => wc_callV (k := 4) (y' := tX4_knownWord) (av := []) (st := []) (pc := 9) (dAt dtX4_newWord 5 rfl) lkX4_375 moX4_knownWord q2560 qs71 (by decide) (zk.2 _ ka75).1 rfl rfl (Nat.le_of_ble_eq_true rfl) (wX4_knownWord hg hm) (kr_I (fun x106 h105 hm => ?_)) (kx_I rfl))
      refine wc_iconst (pc := 12) (dAt dtX4_newWord 6 rfl) ⟨by decide, by decide⟩ (wc_icmp_eq (pc := 13) (tgt := 22) (dAt dtX4_newWord 7 rfl) (by decide) (fun c107 => ?_) (fun c107 => ?_))
      · replace hm := ite_f (fun z => z c107) hm
        refine wc_aload_n (pc := 22) (dAt dtX4_newWord 12 rfl) rfl (wc_getKI hg (pc := 23) (dAt dtX4_newWord 13 rfl) flX4_125_4 rfl ka75 (wc_bipush (pc := 26) (dAt dtX4_newWord 14 rfl) ⟨by decide, by decide, by decide⟩ (wc_icmp_le (pc := 28) (tgt := 37) (dAt dtX4_newWord 15 rfl) (by decide) (fun c108 => ?_) (fun c108 => ?_))))
        · replace hm := ite_f (fun z => z c108) hm
          refine wc_aload_n (pc := 37) (dAt dtX4_newWord 20 rfl) rfl (wc_kf hg fun zk => wc_callV (k := 4) (y' := tX4_findWord) (av := []) (st := []) (pc := 38) (dAt dtX4_newWord 21 rfl) lkX4_379 moX4_findWord q2572 qs74 (by decide) (zk.2 _ ka75).1 rfl rfl (Nat.le_of_ble_eq_true rfl) (wX4_findWord hg hm) (kr_I (fun x111 h110 hm => ?_)) (kx_I rfl))
          refine wc_iconst (pc := 41) (dAt dtX4_newWord 22 rfl) ⟨by decide, by decide⟩ (wc_icmp_eq (pc := 42) (tgt := 51) (dAt dtX4_newWord 23 rfl) (by decide) (fun c112 => ?_) (fun c112 => ?_))
          · replace hm := ite_f (fun z => z c112) hm
            refine wc_iconst (pc := 51) (dAt dtX4_newWord 28 rfl) ⟨by decide, by decide⟩ (wc_istore_n (pc := 52) (dAt dtX4_newWord 29 rfl) (by decide) (wc_L (L' := [some (vR 75), some (vI 0)]) rfl (?_)))
            refine wh1_ind (P := fun (x114 : Int) => Wc G tX4_newWord (d + 2) h Q 53 [some (vR 75), some (vI x114)] [] h110) (fun C115 ih116 x114 hm => ?_) hm
            obtain ⟨o119, hm⟩ := hm
            refine wc_iload_n (pc := 53) (dAt dtX4_newWord 30 rfl) rfl (wc_aload_n (pc := 54) (dAt dtX4_newWord 31 rfl) rfl (wc_getKI hg (pc := 55) (dAt dtX4_newWord 32 rfl) flX4_401_4 rfl ka75 (?_)))
            have k140 : (¬ ((hI h110 75 37) ≤ x114) ∧ (¬ ((lcm (hL h110 104 (Int.toNat x114)) (hL h110 75 33)) = 0))) → Wc G tX4_newWord (d + 2) h Q 75 [some (vR 75), some (vI x114)] [] h110 := fun c120 => by
              replace hm := ite_t c120 hm
              obtain ⟨o121, hm⟩ := hm
              obtain ⟨i122, ei122⟩ : ∃ i122 : Int, i122 = (x114 + 1) := ⟨_, rfl⟩
              replace hm := hm i122 ei122
              exact wc_iinc (v := i122) (pc := 75) (dAt dtX4_newWord 42 rfl) rfl ei122 (ei122 ▸ o121) (by decide) (wc_L (L' := [some (vR 75), some (vI i122)]) rfl (wc_goto (pc := 78) (tgt := 53) (dAt dtX4_newWord 43 rfl) (by decide) (ih116 _ hm)))
            have k141 : ¬ (¬ ((hI h110 75 37) ≤ x114) ∧ (¬ ((lcm (hL h110 104 (Int.toNat x114)) (hL h110 75 33)) = 0))) → Wc G tX4_newWord (d + 2) h Q 81 [some (vR 75), some (vI x114)] [] h110 := fun c120 => by
              replace hm := ite_f c120 hm
              refine wc_iload_n (pc := 81) (dAt dtX4_newWord 44 rfl) rfl (wc_bipush (pc := 82) (dAt dtX4_newWord 45 rfl) ⟨by decide, by decide, by decide⟩ (wc_icmp_ne (pc := 84) (tgt := 93) (dAt dtX4_newWord 46 rfl) (by decide) (fun c123 => ?_) (fun c123 => ?_)))
              · replace hm := ite_f (fun z => z c123) hm
                refine wc_iload_n (pc := 93) (dAt dtX4_newWord 51 rfl) rfl (wc_aload_n (pc := 94) (dAt dtX4_newWord 52 rfl) rfl (wc_getKI hg (pc := 95) (dAt dtX4_newWord 53 rfl) flX4_401_4 rfl ka75 (?_)))
                refine jn1_ind (P := fun (h127 : Hp) => Wc G tX4_newWord (d + 2) h Q 121 [some (vR 75), some (vI x114)] [] h127) (fun h127 hm => ?_) (fun K125 kj126 hm => ?_) hm
                · obtain ⟨o134, o135, hm⟩ := hm
                  obtain ⟨h136, eh136⟩ : ∃ h136 : Hp, h136 = sI h127 105 (Int.toNat (hI h127 75 38)) x114 := ⟨_, rfl⟩
                  replace hm := hm h136 eh136
                  obtain ⟨o137, hm⟩ := hm
                  obtain ⟨h138, eh138⟩ : ∃ h138 : Hp, h138 = sI h136 75 38 ((hI h136 75 38) + 1) := ⟨_, rfl⟩
                  replace hm := hm h138 eh138
                  refine wc_aload_n (pc := 121) (dAt dtX4_newWord 67 rfl) rfl (wc_getKR hg (pc := 122) (dAt dtX4_newWord 68 rfl) flX4_177_4 rfl ka75 kf75_50 (wc_aload_n (pc := 125) (dAt dtX4_newWord 69 rfl) rfl (wc_getKI hg (pc := 126) (dAt dtX4_newWord 70 rfl) flX4_372_4 rfl ka75 (wc_iload_n (pc := 129) (dAt dtX4_newWord 71 rfl) rfl (wc_iastK hg (pc := 130) (dAt dtX4_newWord 72 rfl) kr105 (by decide) o134 o135 (wc_hp eh136 (wc_aload_n (pc := 131) (dAt dtX4_newWord 73 rfl) rfl (wc_dup (pc := 132) (dAt dtX4_newWord 74 rfl) rfl (wc_getKI hg (pc := 133) (dAt dtX4_newWord 75 rfl) flX4_372_4 rfl ka75 (wc_iconst (pc := 136) (dAt dtX4_newWord 76 rfl) ⟨by decide, by decide⟩ (wc_iadd (pc := 137) (dAt dtX4_newWord 77 rfl) o137 (wc_putKI hg (pc := 138) (dAt dtX4_newWord 78 rfl) flX4_372_4 (Or.inl rfl) rfl ka75 (by decide) (okI_int _) (wc_hp eh138 (wc_aload_n (pc := 141) (dAt dtX4_newWord 79 rfl) rfl (wc_kf hg fun zk => wc_callV (k := 4) (y' := tX4_goes) (av := []) (st := []) (pc := 142) (dAt dtX4_newWord 80 rfl) lkX4_354 moX4_goes q2538 qs67 (by decide) (zk.2 _ ka75).1 rfl rfl (Nat.le_of_ble_eq_true rfl) (wX4_goes hg hm) (kr_N (fun h139 hm => ?_)) (kx_N rfl))))))))))))))))
                  exact wc_vret (pc := 145) (dAt dtX4_newWord 81 rfl) rfl hm
                · refine wc_icmp_ne (pc := 98) (tgt := 121) (dAt dtX4_newWord 54 rfl) (by decide) (fun c128 => ?_) (fun c128 => ?_)
                  · replace hm := ite_f (fun z => z c128) hm
                    exact kj126 _ hm
                  · replace hm := ite_t c128 hm
                    obtain ⟨o129, o130, hm⟩ := hm
                    obtain ⟨h131, eh131⟩ : ∃ h131 : Hp, h131 = sL h110 104 (Int.toNat x114) (hL h110 75 33) := ⟨_, rfl⟩
                    replace hm := hm h131 eh131
                    obtain ⟨o132, hm⟩ := hm
                    obtain ⟨h133, eh133⟩ : ∃ h133 : Hp, h133 = sI h131 75 37 ((hI h131 75 37) + 1) := ⟨_, rfl⟩
                    replace hm := hm h133 eh133
                    exact wc_aload_n (pc := 101) (dAt dtX4_newWord 55 rfl) rfl (wc_getKR hg (pc := 102) (dAt dtX4_newWord 56 rfl) flX4_174_4 rfl ka75 kf75_49 (wc_iload_n (pc := 105) (dAt dtX4_newWord 57 rfl) rfl (wc_aload_n (pc := 106) (dAt dtX4_newWord 58 rfl) rfl (wc_getKL hg (pc := 107) (dAt dtX4_newWord 59 rfl) flX4_106_4 rfl ka75 (wc_lastK hg (pc := 110) (dAt dtX4_newWord 60 rfl) kr104 (by decide) o129 o130 (wc_hp eh131 (wc_aload_n (pc := 111) (dAt dtX4_newWord 61 rfl) rfl (wc_dup (pc := 112) (dAt dtX4_newWord 62 rfl) rfl (wc_getKI hg (pc := 113) (dAt dtX4_newWord 63 rfl) flX4_401_4 rfl ka75 (wc_iconst (pc := 116) (dAt dtX4_newWord 64 rfl) ⟨by decide, by decide⟩ (wc_iadd (pc := 117) (dAt dtX4_newWord 65 rfl) o132 (wc_putKI hg (pc := 118) (dAt dtX4_newWord 66 rfl) flX4_401_4 (Or.inl rfl) rfl ka75 (by decide) (okI_int _) (wc_hp eh133 (kj126 _ hm))))))))))))))
              · replace hm := ite_t c123 hm
                refine wc_aload_n (pc := 87) (dAt dtX4_newWord 47 rfl) rfl (wc_iconst (pc := 88) (dAt dtX4_newWord 48 rfl) ⟨by decide, by decide⟩ (wc_kf hg fun zk => wc_callV (k := 4) (y' := tX4_wrong) (av := [vI 2]) (st := []) (pc := 89) (dAt dtX4_newWord 49 rfl) lkX4_357 moX4_wrong q2564 qs72 (by decide) (zk.2 _ ka75).1 rfl rfl (Nat.le_of_ble_eq_true rfl) (wX4_wrong hg hm) (kr_N (fun h124 hm => ?_)) (kx_N rfl)))
                exact wc_vret (pc := 92) (dAt dtX4_newWord 50 rfl) rfl hm
            exact wc_icmp_ge (pc := 58) (tgt := 81) (dAt dtX4_newWord 33 rfl) (by decide) (fun c142 => (k141 (fun z => z.1 c142))) (fun c142 => wc_aload_n (pc := 61) (dAt dtX4_newWord 34 rfl) rfl (wc_getKR hg (pc := 62) (dAt dtX4_newWord 35 rfl) flX4_174_4 rfl ka75 kf75_49 (wc_iload_n (pc := 65) (dAt dtX4_newWord 36 rfl) rfl (wc_laldK hg (pc := 66) (dAt dtX4_newWord 37 rfl) kr104 (o119 c142).1 (o119 c142).2 (wc_aload_n (pc := 67) (dAt dtX4_newWord 38 rfl) rfl (wc_getKL hg (pc := 68) (dAt dtX4_newWord 39 rfl) flX4_106_4 rfl ka75 (wc_lcmp (pc := 71) (dAt dtX4_newWord 40 rfl) (wc_if_eq (pc := 72) (tgt := 81) (dAt dtX4_newWord 41 rfl) (by decide) (fun c143 => (k141 (fun z => (fun z => z c143) z.2))) (fun c143 => (k140 ⟨c142, c143⟩))))))))))
          · replace hm := ite_t c112 hm
            refine wc_aload_n (pc := 45) (dAt dtX4_newWord 24 rfl) rfl (wc_iconst (pc := 46) (dAt dtX4_newWord 25 rfl) ⟨by decide, by decide⟩ (wc_kf hg fun zk => wc_callV (k := 4) (y' := tX4_wrong) (av := [vI 4]) (st := []) (pc := 47) (dAt dtX4_newWord 26 rfl) lkX4_357 moX4_wrong q2564 qs72 (by decide) (zk.2 _ ka75).1 rfl rfl (Nat.le_of_ble_eq_true rfl) (wX4_wrong hg hm) (kr_N (fun h113 hm => ?_)) (kx_N rfl)))
            exact wc_vret (pc := 50) (dAt dtX4_newWord 27 rfl) rfl hm
        · replace hm := ite_t c108 hm
          refine wc_aload_n (pc := 31) (dAt dtX4_newWord 16 rfl) rfl (wc_iconst (pc := 32) (dAt dtX4_newWord 17 rfl) ⟨by decide, by decide⟩ (wc_kf hg fun zk => wc_callV (k := 4) (y' := tX4_wrong) (av := [vI 2]) (st := []) (pc := 33) (dAt dtX4_newWord 18 rfl) lkX4_357 moX4_wrong q2564 qs72 (by decide) (zk.2 _ ka75).1 rfl rfl (Nat.le_of_ble_eq_true rfl) (wX4_wrong hg hm) (kr_N (fun h109 hm => ?_)) (kx_N rfl)))
          exact wc_vret (pc := 36) (dAt dtX4_newWord 19 rfl) rfl hm
      · replace hm := ite_t c107 hm
        exact kj102 _ hm
def tX4_isSign : Mt := (⟨"FlyingDoctorsModel", "isSign", "(I)Z"⟩, prog_24_method_27_code, 2, (Option.some Jvm.ClassFile.FieldType.boolean), [])
def DX4_isSign : List (Nat × Instr × Nat) := [(0, .aload_n 0, 1), (1, .getfield 116, 3), (4, .iconst 3, 1), (5, .if_icmp .ne 15, 3), (8, .aload_n 0, 1), (9, .getfield 113, 3), (12, .iload_n 1, 1), (13, .if_icmp .ne 7, 3), (16, .iconst 1, 1), (17, .goto 4, 3), (20, .iconst 0, 1), (21, .ireturn, 1)]
theorem dtX4_isSign : chkD (mB tX4_isSign) DX4_isSign = true := by decide +kernel
theorem moX4_isSign : MethOk tX4_isSign 1 := ⟨Or.inl ⟨rfl, q2585⟩, by decide +kernel, ⟨by decide, by decide⟩, by decide +kernel⟩
def vX4_isSign (x1 : Int) (h : Hp) : Int := (b2i (¬ ((hI h 75 28) ≠ 3) ∧ (¬ ((hI h 75 32) ≠ x1))))
theorem wX4_isSign {G : Gx} (hg : gF G = true) {d : Nat} {x1 : Int} {h : Hp} {Q : Rs → Hp → Prop} (hq : Q (rV (vI (vX4_isSign x1 h))) h) : Ct G tX4_isSign (d + 0) [vR 75, vI x1] h Q := by
  refine ct_enter (L0 := [some (vR 75), some (vI x1)]) rfl rfl ?_
  have k101 : (¬ ((hI h 75 28) ≠ 3) ∧ (¬ ((hI h 75 32) ≠ x1))) → Wc G tX4_isSign (d + 0) h Q 16 [some (vR 75), some (vI x1)] [] h := fun c103 => by
    have z : Q (rV (vI 1)) h := by
      rw [show (vX4_isSign x1 h) = 1 from (b2i_t c103)] at hq
      exact hq
    exact wc_iconst (pc := 16) (dAt dtX4_isSign 8 rfl) ⟨by decide, by decide⟩ (wc_goto (pc := 17) (tgt := 21) (dAt dtX4_isSign 9 rfl) (by decide) (wc_iret (pc := 21) (dAt dtX4_isSign 11 rfl) rfl (nar_bool (Or.inr rfl)) z))
  have k102 : ¬ (¬ ((hI h 75 28) ≠ 3) ∧ (¬ ((hI h 75 32) ≠ x1))) → Wc G tX4_isSign (d + 0) h Q 20 [some (vR 75), some (vI x1)] [] h := fun c103 => by
    have z : Q (rV (vI 0)) h := by
      rw [show (vX4_isSign x1 h) = 0 from (b2i_f c103)] at hq
      exact hq
    exact wc_iconst (pc := 20) (dAt dtX4_isSign 10 rfl) ⟨by decide, by decide⟩ (wc_iret (pc := 21) (dAt dtX4_isSign 11 rfl) rfl (nar_bool (Or.inl rfl)) z)
  exact wc_aload_n (pc := 0) (dAt dtX4_isSign 0 rfl) rfl (wc_getKI hg (pc := 1) (dAt dtX4_isSign 1 rfl) flX4_116_4 rfl ka75 (wc_iconst (pc := 4) (dAt dtX4_isSign 2 rfl) ⟨by decide, by decide⟩ (wc_icmp_ne (pc := 5) (tgt := 20) (dAt dtX4_isSign 3 rfl) (by decide) (fun c104 => (k102 (fun z => z.1 c104))) (fun c104 => wc_aload_n (pc := 8) (dAt dtX4_isSign 4 rfl) rfl (wc_getKI hg (pc := 9) (dAt dtX4_isSign 5 rfl) flX4_113_4 rfl ka75 (wc_iload_n (pc := 12) (dAt dtX4_isSign 6 rfl) rfl (wc_icmp_ne (pc := 13) (tgt := 20) (dAt dtX4_isSign 7 rfl) (by decide) (fun c105 => (k102 (fun z => (fun z => z c105) z.2))) (fun c105 => (k101 ⟨c104, c105⟩)))))))))
theorem bX4_isSign (x1 : Int) (h : Hp) : (vX4_isSign x1 h) = 0 ∨ (vX4_isSign x1 h) = 1 := (bool_b2i _)
def tX4_begins : Mt := (⟨"FlyingDoctorsModel", "begins", "()V"⟩, prog_24_method_35_code, 1, (Option.none : Option Jvm.ClassFile.FieldType), [])
def DX4_begins : List (Nat × Instr × Nat) := [(0, .aload_n 0, 1), (1, .getfield 382, 3), (4, .bipush 6, 2), (6, .if_icmp .ge 24, 3), (9, .aload_n 0, 1), (10, .dup, 1), (11, .getfield 382, 3), (14, .iconst 1, 1), (15, .iadd, 1), (16, .putfield 382, 3), (19, .aload_n 0, 1), (20, .getfield 186, 3), (23, .aload_n 0, 1), (24, .getfield 382, 3), (27, .iconst 0, 1), (28, .bastore, 1), (29, .return_, 1), (30, .aload_n 0, 1), (31, .aload_n 0, 1), (32, .getfield 116, 3), (35, .iconst 2, 1), (36, .if_icmp .eq 20, 3), (39, .aload_n 0, 1), (40, .getfield 116, 3), (43, .iconst 1, 1), (44, .if_icmp .eq 12, 3), (47, .aload_n 0, 1), (48, .bipush 40, 2), (50, .invokevirtual 351, 3), (53, .ifCond .eq 7, 3), (56, .iconst 2, 1), (57, .goto 4, 3), (60, .iconst 1, 1), (61, .invokevirtual 357, 3), (64, .return_, 1)]
theorem dtX4_begins : chkD (mB tX4_begins) DX4_begins = true := by decide +kernel
theorem moX4_begins : MethOk tX4_begins 0 := ⟨Or.inl ⟨rfl, q2581⟩, by decide +kernel, ⟨by decide, by decide⟩, by decide +kernel⟩
def mX4_begins  (h : Hp) (Q : Rs → Hp → Prop) : Prop := if ¬ (6 ≤ (hI h 75 55)) then nm ((hI h 75 55) + 1) ∧ ∀ h103 : Hp, h103 = sI h 75 55 ((hI h 75 55) + 1) → 0 ≤ (hI h103 75 55) ∧ (hI h103 75 55) < 9 ∧ ∀ h106 : Hp, h106 = sI h103 108 (Int.toNat (hI h103 75 55)) 0 → Q rN h106 else ∀ v107 : Int, v107 = (if ((hI h 75 28) = 2) ∨ (((hI h 75 28) = 1) ∨ (¬ ((vX4_isSign 40 h) = 0))) then 2 else 1) → mX4_wrong v107 h (kN Q (fun h108 => Q rN h108))
theorem wX4_begins {G : Gx} (hg : gF G = true) {d : Nat}  {h : Hp} {Q : Rs → Hp → Prop} (hm : mX4_begins  h Q) : Ct G tX4_begins (d + 1) [vR 75] h Q := by
  refine ct_enter (L0 := [some (vR 75)]) rfl rfl ?_
  unfold mX4_begins at hm
  refine wc_aload_n (pc := 0) (dAt dtX4_begins 0 rfl) rfl (wc_getKI hg (pc := 1) (dAt dtX4_begins 1 rfl) flX4_382_4 rfl ka75 (wc_bipush (pc := 4) (dAt dtX4_begins 2 rfl) ⟨by decide, by decide, by decide⟩ (wc_icmp_ge (pc := 6) (tgt := 30) (dAt dtX4_begins 3 rfl) (by decide) (fun c101 => ?_) (fun c101 => ?_))))
  · replace hm := ite_f (fun z => z c101) hm
    obtain ⟨v107, ev107⟩ : ∃ v107 : Int, v107 = (if ((hI h 75 28) = 2) ∨ (((hI h 75 28) = 1) ∨ (¬ ((vX4_isSign 40 h) = 0))) then 2 else 1) := ⟨_, rfl⟩
    replace hm := hm v107 ev107
    refine wc_aload_n (pc := 30) (dAt dtX4_begins 17 rfl) rfl (wc_aload_n (pc := 31) (dAt dtX4_begins 18 rfl) rfl (wc_getKI hg (pc := 32) (dAt dtX4_begins 19 rfl) flX4_116_4 rfl ka75 (wc_iconst (pc := 35) (dAt dtX4_begins 20 rfl) ⟨by decide, by decide⟩ (?_))))
    have kj109 : Wc G tX4_begins (d + 1) h Q 61 [some (vR 75)] [vI v107, vR 75] h := by
      refine wc_kf hg fun zk => wc_callV (k := 4) (y' := tX4_wrong) (av := [vI v107]) (st := []) (pc := 61) (dAt dtX4_begins 33 rfl) lkX4_357 moX4_wrong q2564 qs72 (by decide) (zk.2 _ ka75).1 rfl rfl (Nat.le_of_ble_eq_true rfl) (wX4_wrong hg hm) (kr_N (fun h108 hm => ?_)) (kx_N rfl)
      exact wc_vret (pc := 64) (dAt dtX4_begins 34 rfl) rfl hm
    have k110 : (((hI h 75 28) = 2) ∨ (((hI h 75 28) = 1) ∨ (¬ ((vX4_isSign 40 h) = 0)))) → Wc G tX4_begins (d + 1) h Q 56 [some (vR 75)] [vR 75] h := fun c112 => by
      have z113 := kj109
      rw [show v107 = 2 from ev107.trans (if_pos c112)] at z113
      exact wc_iconst (pc := 56) (dAt dtX4_begins 30 rfl) ⟨by decide, by decide⟩ (wc_goto (pc := 57) (tgt := 61) (dAt dtX4_begins 31 rfl) (by decide) (z113))
    have k111 : ¬ (((hI h 75 28) = 2) ∨ (((hI h 75 28) = 1) ∨ (¬ ((vX4_isSign 40 h) = 0)))) → Wc G tX4_begins (d + 1) h Q 60 [some (vR 75)] [vR 75] h := fun c112 => by
      have z115 := kj109
      rw [show v107 = 1 from ev107.trans (if_neg c112)] at z115
      exact wc_iconst (pc := 60) (dAt dtX4_begins 32 rfl) ⟨by decide, by decide⟩ (z115)
    exact wc_icmp_eq (pc := 36) (tgt := 56) (dAt dtX4_begins 21 rfl) (by decide) (fun c117 => (k110 (Or.inl c117))) (fun c117 => wc_aload_n (pc := 39) (dAt dtX4_begins 22 rfl) rfl (wc_getKI hg (pc := 40) (dAt dtX4_begins 23 rfl) flX4_116_4 rfl ka75 (wc_iconst (pc := 43) (dAt dtX4_begins 24 rfl) ⟨by decide, by decide⟩ (wc_icmp_eq (pc := 44) (tgt := 56) (dAt dtX4_begins 25 rfl) (by decide) (fun c118 => (k110 (Or.inr (Or.inl c118)))) (fun c118 => wc_aload_n (pc := 47) (dAt dtX4_begins 26 rfl) rfl (wc_bipush (pc := 48) (dAt dtX4_begins 27 rfl) ⟨by decide, by decide, by decide⟩ (wc_kf hg fun zk => wc_callV (k := 4) (y' := tX4_isSign) (P := eI (vX4_isSign 40 h) h) (pc := 50) (dAt dtX4_begins 28 rfl) lkX4_351 moX4_isSign q2584 qs77 (by decide) (zk.2 _ ka75).1 rfl rfl (Nat.le_of_ble_eq_true rfl) (wX4_isSign hg ⟨rfl, rfl⟩) (ep_I (wc_if_eq (pc := 53) (tgt := 60) (dAt dtX4_begins 29 rfl) (by decide) (fun c119 => (k111 (fun z => z.elim c117 (fun z => z.elim c118 (fun z => z c119))))) (fun c119 => (k110 (Or.inr (Or.inr c119)))))) ex_I)))))))
  · replace hm := ite_t c101 hm
    obtain ⟨o102, hm⟩ := hm
    obtain ⟨h103, eh103⟩ : ∃ h103 : Hp, h103 = sI h 75 55 ((hI h 75 55) + 1) := ⟨_, rfl⟩
    replace hm := hm h103 eh103
    obtain ⟨o104, o105, hm⟩ := hm
    obtain ⟨h106, eh106⟩ : ∃ h106 : Hp, h106 = sI h103 108 (Int.toNat (hI h103 75 55)) 0 := ⟨_, rfl⟩
    replace hm := hm h106 eh106
    exact wc_aload_n (pc := 9) (dAt dtX4_begins 4 rfl) rfl (wc_dup (pc := 10) (dAt dtX4_begins 5 rfl) rfl (wc_getKI hg (pc := 11) (dAt dtX4_begins 6 rfl) flX4_382_4 rfl ka75 (wc_iconst (pc := 14) (dAt dtX4_begins 7 rfl) ⟨by decide, by decide⟩ (wc_iadd (pc := 15) (dAt dtX4_begins 8 rfl) o102 (wc_putKI hg (pc := 16) (dAt dtX4_begins 9 rfl) flX4_382_4 (Or.inl rfl) rfl ka75 (by decide) (okI_int _) (wc_hp eh103 (wc_aload_n (pc := 19) (dAt dtX4_begins 10 rfl) rfl (wc_getKR hg (pc := 20) (dAt dtX4_begins 11 rfl) flX4_186_4 rfl ka75 kf75_56 (wc_aload_n (pc := 23) (dAt dtX4_begins 12 rfl) rfl (wc_getKI hg (pc := 24) (dAt dtX4_begins 13 rfl) flX4_382_4 rfl ka75 (wc_iconst (pc := 27) (dAt dtX4_begins 14 rfl) ⟨by decide, by decide⟩ (wc_zastK hg (pc := 28) (dAt dtX4_begins 15 rfl) kr108 (by decide) o104 o105 (Or.inl rfl) (wc_hp eh106 (wc_vret (pc := 29) (dAt dtX4_begins 16 rfl) rfl hm))))))))))))))
def tX4_waitsFor : Mt := (⟨"FlyingDoctorsModel", "waitsFor", "(I)V"⟩, prog_24_method_32_code, 2, (Option.none : Option Jvm.ClassFile.FieldType), [])
def DX4_waitsFor : List (Nat × Instr × Nat) := [(0, .aload_n 0, 1), (1, .getfield 183, 3), (4, .aload_n 0, 1), (5, .getfield 363, 3), (8, .iload_n 1, 1), (9, .iastore, 1), (10, .aload_n 0, 1), (11, .dup, 1), (12, .getfield 363, 3), (15, .iconst 1, 1), (16, .iadd, 1), (17, .putfield 363, 3), (20, .return_, 1)]
theorem dtX4_waitsFor : chkD (mB tX4_waitsFor) DX4_waitsFor = true := by decide +kernel
theorem moX4_waitsFor : MethOk tX4_waitsFor 1 := ⟨Or.inl ⟨rfl, q2593⟩, by decide +kernel, ⟨by decide, by decide⟩, by decide +kernel⟩
def mX4_waitsFor (x1 : Int) (h : Hp) (Q : Rs → Hp → Prop) : Prop := 0 ≤ (hI h 75 54) ∧ (hI h 75 54) < 820 ∧ ∀ h103 : Hp, h103 = sI h 107 (Int.toNat (hI h 75 54)) x1 → nm ((hI h103 75 54) + 1) ∧ ∀ h105 : Hp, h105 = sI h103 75 54 ((hI h103 75 54) + 1) → Q rN h105
theorem wX4_waitsFor {G : Gx} (hg : gF G = true) {d : Nat} {x1 : Int} {h : Hp} {Q : Rs → Hp → Prop} (hm : mX4_waitsFor x1 h Q) : Ct G tX4_waitsFor (d + 0) [vR 75, vI x1] h Q := by
  refine ct_enter (L0 := [some (vR 75), some (vI x1)]) rfl rfl ?_
  unfold mX4_waitsFor at hm
  obtain ⟨o101, o102, hm⟩ := hm
  obtain ⟨h103, eh103⟩ : ∃ h103 : Hp, h103 = sI h 107 (Int.toNat (hI h 75 54)) x1 := ⟨_, rfl⟩
  replace hm := hm h103 eh103
  obtain ⟨o104, hm⟩ := hm
  obtain ⟨h105, eh105⟩ : ∃ h105 : Hp, h105 = sI h103 75 54 ((hI h103 75 54) + 1) := ⟨_, rfl⟩
  replace hm := hm h105 eh105
  exact wc_aload_n (pc := 0) (dAt dtX4_waitsFor 0 rfl) rfl (wc_getKR hg (pc := 1) (dAt dtX4_waitsFor 1 rfl) flX4_183_4 rfl ka75 kf75_53 (wc_aload_n (pc := 4) (dAt dtX4_waitsFor 2 rfl) rfl (wc_getKI hg (pc := 5) (dAt dtX4_waitsFor 3 rfl) flX4_363_4 rfl ka75 (wc_iload_n (pc := 8) (dAt dtX4_waitsFor 4 rfl) rfl (wc_iastK hg (pc := 9) (dAt dtX4_waitsFor 5 rfl) kr107 (by decide) o101 o102 (wc_hp eh103 (wc_aload_n (pc := 10) (dAt dtX4_waitsFor 6 rfl) rfl (wc_dup (pc := 11) (dAt dtX4_waitsFor 7 rfl) rfl (wc_getKI hg (pc := 12) (dAt dtX4_waitsFor 8 rfl) flX4_363_4 rfl ka75 (wc_iconst (pc := 15) (dAt dtX4_waitsFor 9 rfl) ⟨by decide, by decide⟩ (wc_iadd (pc := 16) (dAt dtX4_waitsFor 10 rfl) o104 (wc_putKI hg (pc := 17) (dAt dtX4_waitsFor 11 rfl) flX4_363_4 (Or.inl rfl) rfl ka75 (by decide) (okI_int _) (wc_hp eh105 (wc_vret (pc := 20) (dAt dtX4_waitsFor 12 rfl) rfl hm))))))))))))))
def tX4_puts : Mt := (⟨"FlyingDoctorsModel", "puts", "(I)V"⟩, prog_24_method_29_code, 2, (Option.none : Option Jvm.ClassFile.FieldType), [])
def DX4_puts : List (Nat × Instr × Nat) := [(0, .aload_n 0, 1), (1, .getfield 180, 3), (4, .aload_n 0, 1), (5, .getfield 360, 3), (8, .iload_n 1, 1), (9, .iastore, 1), (10, .aload_n 0, 1), (11, .dup, 1), (12, .getfield 360, 3), (15, .iconst 1, 1), (16, .iadd, 1), (17, .putfield 360, 3), (20, .return_, 1)]
theorem dtX4_puts : chkD (mB tX4_puts) DX4_puts = true := by decide +kernel
theorem moX4_puts : MethOk tX4_puts 1 := ⟨Or.inl ⟨rfl, q2601⟩, by decide +kernel, ⟨by decide, by decide⟩, by decide +kernel⟩
def mX4_puts (x1 : Int) (h : Hp) (Q : Rs → Hp → Prop) : Prop := 0 ≤ (hI h 75 52) ∧ (hI h 75 52) < 22000 ∧ ∀ h103 : Hp, h103 = sI h 106 (Int.toNat (hI h 75 52)) x1 → nm ((hI h103 75 52) + 1) ∧ ∀ h105 : Hp, h105 = sI h103 75 52 ((hI h103 75 52) + 1) → Q rN h105
theorem wX4_puts {G : Gx} (hg : gF G = true) {d : Nat} {x1 : Int} {h : Hp} {Q : Rs → Hp → Prop} (hm : mX4_puts x1 h Q) : Ct G tX4_puts (d + 0) [vR 75, vI x1] h Q := by
  refine ct_enter (L0 := [some (vR 75), some (vI x1)]) rfl rfl ?_
  unfold mX4_puts at hm
  obtain ⟨o101, o102, hm⟩ := hm
  obtain ⟨h103, eh103⟩ : ∃ h103 : Hp, h103 = sI h 106 (Int.toNat (hI h 75 52)) x1 := ⟨_, rfl⟩
  replace hm := hm h103 eh103
  obtain ⟨o104, hm⟩ := hm
  obtain ⟨h105, eh105⟩ : ∃ h105 : Hp, h105 = sI h103 75 52 ((hI h103 75 52) + 1) := ⟨_, rfl⟩
  replace hm := hm h105 eh105
  exact wc_aload_n (pc := 0) (dAt dtX4_puts 0 rfl) rfl (wc_getKR hg (pc := 1) (dAt dtX4_puts 1 rfl) flX4_180_4 rfl ka75 kf75_51 (wc_aload_n (pc := 4) (dAt dtX4_puts 2 rfl) rfl (wc_getKI hg (pc := 5) (dAt dtX4_puts 3 rfl) flX4_360_4 rfl ka75 (wc_iload_n (pc := 8) (dAt dtX4_puts 4 rfl) rfl (wc_iastK hg (pc := 9) (dAt dtX4_puts 5 rfl) kr106 (by decide) o101 o102 (wc_hp eh103 (wc_aload_n (pc := 10) (dAt dtX4_puts 6 rfl) rfl (wc_dup (pc := 11) (dAt dtX4_puts 7 rfl) rfl (wc_getKI hg (pc := 12) (dAt dtX4_puts 8 rfl) flX4_360_4 rfl ka75 (wc_iconst (pc := 15) (dAt dtX4_puts 9 rfl) ⟨by decide, by decide⟩ (wc_iadd (pc := 16) (dAt dtX4_puts 10 rfl) o104 (wc_putKI hg (pc := 17) (dAt dtX4_puts 11 rfl) flX4_360_4 (Or.inl rfl) rfl ka75 (by decide) (okI_int _) (wc_hp eh105 (wc_vret (pc := 20) (dAt dtX4_puts 12 rfl) rfl hm))))))))))))))
def tX4_part : Mt := (⟨"FlyingDoctorsModel", "part", "()V"⟩, prog_24_method_34_code, 3, (Option.none : Option Jvm.ClassFile.FieldType), [])
def DX4_part : List (Nat × Instr × Nat) := [(0, .aload_n 0, 1), (1, .invokevirtual 347, 3), (4, .ifCond .ne 4, 3), (7, .return_, 1), (8, .aload_n 0, 1), (9, .getfield 116, 3), (12, .iconst 2, 1), (13, .if_icmp .ne 32, 3), (16, .aload_n 0, 1), (17, .getfield 125, 3), (20, .iconst 5, 1), (21, .if_icmp .le 8, 3), (24, .aload_n 0, 1), (25, .iconst 2, 1), (26, .invokevirtual 357, 3), (29, .aload_n 0, 1), (30, .iconst 1, 1), (31, .invokevirtual 369, 3), (34, .aload_n 0, 1), (35, .aload_n 0, 1), (36, .getfield 110, 3), (39, .invokevirtual 369, 3), (42, .goto 108, 3), (45, .aload_n 0, 1), (46, .getfield 116, 3), (49, .iconst 1, 1), (50, .if_icmp .ne 95, 3), (53, .aload_n 0, 1), (54, .invokevirtual 375, 3), (57, .istore_n 1, 1), (58, .iload_n 1, 1), (59, .iconst (-1), 1), (60, .if_icmp .ne 10, 3), (63, .aload_n 0, 1), (64, .invokevirtual 379, 3), (67, .goto 4, 3), (70, .iconst (-1), 1), (71, .istore_n 2, 1), (72, .iload_n 1, 1), (73, .bipush 12, 2), (75, .if_icmp .ge 13, 3), (78, .iload_n 2, 1), (79, .iconst (-1), 1), (80, .if_icmp .ne 8, 3), (83, .aload_n 0, 1), (84, .iconst 3, 1), (85, .invokevirtual 357, 3), (88, .aload_n 0, 1), (89, .iload_n 2, 1), (90, .iconst (-1), 1), (91, .if_icmp .eq 7, 3), (94, .iconst 4, 1), (95, .goto 14, 3), (98, .iload_n 1, 1), (99, .bipush 17, 2), (101, .if_icmp .ge 7, 3), (104, .iconst 3, 1), (105, .goto 4, 3), (108, .iconst 2, 1), (109, .invokevirtual 369, 3), (112, .aload_n 0, 1), (113, .iload_n 2, 1), (114, .iconst (-1), 1), (115, .if_icmp .eq 7, 3), (118, .iload_n 2, 1), (119, .goto 20, 3), (122, .iload_n 1, 1), (123, .bipush 17, 2), (125, .if_icmp .ge 10, 3), (128, .iload_n 1, 1), (129, .bipush 12, 2), (131, .isub, 1), (132, .goto 7, 3), (135, .iload_n 1, 1), (136, .bipush 17, 2), (138, .isub, 1), (139, .invokevirtual 369, 3), (142, .goto 8, 3), (145, .aload_n 0, 1), (146, .iconst 1, 1), (147, .invokevirtual 357, 3), (150, .aload_n 0, 1), (151, .invokevirtual 347, 3), (154, .ifCond .eq 7, 3), (157, .aload_n 0, 1), (158, .invokevirtual 354, 3), (161, .return_, 1)]
theorem dtX4_part : chkD (mB tX4_part) DX4_part = true := by decide +kernel
theorem moX4_part : MethOk tX4_part 0 := ⟨Or.inl ⟨rfl, q2597⟩, by decide +kernel, ⟨by decide, by decide⟩, by decide +kernel⟩
def mX4_part  (h : Hp) (Q : Rs → Hp → Prop) : Prop := if ¬ ((vX4_isGood h) ≠ 0) then Q rN h else jn (fun (h104 : Hp) => if ¬ ((vX4_isGood h104) = 0) then mX4_goes h104 (kN Q (fun h174 => Q rN h174)) else Q rN h104) (fun K102 => if ¬ ((hI h 75 28) ≠ 2) then jn (fun (h108 : Hp) => mX4_puts 1 h108 (kN Q (fun h111 => mX4_puts (hI h111 75 31) h111 (kN Q (fun h112 => K102 h112))))) (fun K106 => if ¬ ((hI h 75 30) ≤ 5) then mX4_wrong 2 h (kN Q (fun h110 => K106 h110)) else K106 h) else if ¬ ((hI h 75 28) ≠ 1) then mX4_knownWord h (kI Q (fun x115 h114 => jn (fun (x122 : Int) (h118 : Hp) => jn (fun (h125 : Hp) => ∀ v132 : Int, v132 = (if ¬ (x122 = (-1)) then 4 else (if ¬ (17 ≤ x115) then 3 else 2)) → mX4_puts v132 h125 (kN Q (fun h133 => ((¬ (¬ (x122 = (-1))) → ((¬ (17 ≤ x115)) → nm (x115 - 12)) ∧ (¬ (¬ (17 ≤ x115)) → nm (x115 - 17)))) ∧ ∀ v137 : Int, v137 = (if ¬ (x122 = (-1)) then x122 else (if ¬ (17 ≤ x115) then (x115 - 12) else (x115 - 17))) → mX4_puts v137 h133 (kN Q (fun h138 => K102 h138))))) (fun K123 => if ¬ (12 ≤ x115) ∧ (¬ (x122 ≠ (-1))) then mX4_wrong 3 h118 (kN Q (fun h127 => K123 h127)) else K123 h118)) (fun K116 => if ¬ (x115 ≠ (-1)) then mX4_findWord h114 (kI Q (fun x121 h120 => K116 x121 h120)) else K116 (-1) h114))) else mX4_wrong 1 h (kN Q (fun h172 => K102 h172)))
theorem wX4_part {G : Gx} (hg : gF G = true) {d : Nat}  {h : Hp} {Q : Rs → Hp → Prop} (hm : mX4_part  h Q) : Ct G tX4_part (d + 2) [vR 75] h Q := by
  refine ct_enter (L0 := [some (vR 75), none, none]) rfl rfl ?_
  unfold mX4_part at hm
  refine wc_aload_n (pc := 0) (dAt dtX4_part 0 rfl) rfl (wc_kf hg fun zk => wc_callV (k := 4) (y' := tX4_isGood) (P := eI (vX4_isGood h) h) (pc := 1) (dAt dtX4_part 1 rfl) lkX4_347 moX4_isGood q2552 qs69 (by decide) (zk.2 _ ka75).1 rfl rfl (Nat.le_of_ble_eq_true rfl) (wX4_isGood hg ⟨rfl, rfl⟩) (ep_I (wc_if_ne (pc := 4) (tgt := 8) (dAt dtX4_part 2 rfl) (by decide) (fun c101 => ?_) (fun c101 => ?_))) ex_I)
  · replace hm := ite_f (fun z => z c101) hm
    refine wc_aload_n (pc := 8) (dAt dtX4_part 4 rfl) rfl (wc_getKI hg (pc := 9) (dAt dtX4_part 5 rfl) flX4_116_4 rfl ka75 (wc_iconst (pc := 12) (dAt dtX4_part 6 rfl) ⟨by decide, by decide⟩ (?_)))
    refine jn1_ind (P := fun (h104 : Hp) => Wc G tX4_part (d + 2) h Q 150 [some (vR 75), none, none] [] h104) (fun h104 hm => ?_) (fun K102 kj103 hm => ?_) hm
    · refine wc_aload_n (pc := 150) (dAt dtX4_part 81 rfl) rfl (wc_kf hg fun zk => wc_callV (k := 4) (y' := tX4_isGood) (P := eI (vX4_isGood h104) h104) (pc := 151) (dAt dtX4_part 82 rfl) lkX4_347 moX4_isGood q2552 qs69 (by decide) (zk.2 _ ka75).1 rfl rfl (Nat.le_of_ble_eq_true rfl) (wX4_isGood hg ⟨rfl, rfl⟩) (ep_I (wc_if_eq (pc := 154) (tgt := 161) (dAt dtX4_part 83 rfl) (by decide) (fun c173 => ?_) (fun c173 => ?_))) ex_I)
      · replace hm := ite_f (fun z => z c173) hm
        exact wc_vret (pc := 161) (dAt dtX4_part 86 rfl) rfl hm
      · replace hm := ite_t c173 hm
        refine wc_aload_n (pc := 157) (dAt dtX4_part 84 rfl) rfl (wc_kf hg fun zk => wc_callV (k := 4) (y' := tX4_goes) (av := []) (st := []) (pc := 158) (dAt dtX4_part 85 rfl) lkX4_354 moX4_goes q2538 qs67 (by decide) (zk.2 _ ka75).1 rfl rfl (Nat.le_of_ble_eq_true rfl) (wX4_goes hg hm) (kr_N (fun h174 hm => ?_)) (kx_N rfl))
        exact wc_vret (pc := 161) (dAt dtX4_part 86 rfl) rfl hm
    · refine wc_icmp_ne (pc := 13) (tgt := 45) (dAt dtX4_part 7 rfl) (by decide) (fun c105 => ?_) (fun c105 => ?_)
      · replace hm := ite_f (fun z => z c105) hm
        refine wc_aload_n (pc := 45) (dAt dtX4_part 23 rfl) rfl (wc_getKI hg (pc := 46) (dAt dtX4_part 24 rfl) flX4_116_4 rfl ka75 (wc_iconst (pc := 49) (dAt dtX4_part 25 rfl) ⟨by decide, by decide⟩ (wc_icmp_ne (pc := 50) (tgt := 145) (dAt dtX4_part 26 rfl) (by decide) (fun c113 => ?_) (fun c113 => ?_))))
        · replace hm := ite_f (fun z => z c113) hm
          refine wc_aload_n (pc := 145) (dAt dtX4_part 78 rfl) rfl (wc_iconst (pc := 146) (dAt dtX4_part 79 rfl) ⟨by decide, by decide⟩ (wc_kf hg fun zk => wc_callV (k := 4) (y' := tX4_wrong) (av := [vI 1]) (st := []) (pc := 147) (dAt dtX4_part 80 rfl) lkX4_357 moX4_wrong q2564 qs72 (by decide) (zk.2 _ ka75).1 rfl rfl (Nat.le_of_ble_eq_true rfl) (wX4_wrong hg hm) (kr_N (fun h172 hm => ?_)) (kx_N rfl)))
          exact kj103 _ hm
        · replace hm := ite_t c113 hm
          refine wc_aload_n (pc := 53) (dAt dtX4_part 27 rfl) rfl (wc_kf hg fun zk => wc_callV (k := 4) (y' := tX4_knownWord) (av := []) (st := []) (pc := 54) (dAt dtX4_part 28 rfl) lkX4_375 moX4_knownWord q2560 qs71 (by decide) (zk.2 _ ka75).1 rfl rfl (Nat.le_of_ble_eq_true rfl) (wX4_knownWord hg hm) (kr_I (fun x115 h114 hm => ?_)) (kx_I rfl))
          refine wc_istore_n (pc := 57) (dAt dtX4_part 29 rfl) (by decide) (wc_L (L' := [some (vR 75), some (vI x115), none]) rfl (wc_iload_n (pc := 58) (dAt dtX4_part 30 rfl) rfl (wc_iconst (pc := 59) (dAt dtX4_part 31 rfl) ⟨by decide, by decide⟩ (?_))))
          refine jn2_ind (P := fun (x122 : Int) (h118 : Hp) => Wc G tX4_part (d + 2) h Q 71 [some (vR 75), some (vI x115), none] [vI x122] h118) (fun x122 h118 hm => ?_) (fun K116 kj117 hm => ?_) hm
          · refine wc_istore_n (pc := 71) (dAt dtX4_part 37 rfl) (by decide) (wc_L (L' := [some (vR 75), some (vI x115), some (vI x122)]) rfl (wc_iload_n (pc := 72) (dAt dtX4_part 38 rfl) rfl (wc_bipush (pc := 73) (dAt dtX4_part 39 rfl) ⟨by decide, by decide, by decide⟩ (?_))))
            refine jn1_ind (P := fun (h125 : Hp) => Wc G tX4_part (d + 2) h Q 88 [some (vR 75), some (vI x115), some (vI x122)] [] h125) (fun h125 hm => ?_) (fun K123 kj124 hm => ?_) hm
            · obtain ⟨v132, ev132⟩ : ∃ v132 : Int, v132 = (if ¬ (x122 = (-1)) then 4 else (if ¬ (17 ≤ x115) then 3 else 2)) := ⟨_, rfl⟩
              replace hm := hm v132 ev132
              refine wc_aload_n (pc := 88) (dAt dtX4_part 47 rfl) rfl (wc_iload_n (pc := 89) (dAt dtX4_part 48 rfl) rfl (wc_iconst (pc := 90) (dAt dtX4_part 49 rfl) ⟨by decide, by decide⟩ (?_)))
              have kj157 : Wc G tX4_part (d + 2) h Q 109 [some (vR 75), some (vI x115), some (vI x122)] [vI v132, vR 75] h125 := by
                refine wc_kf hg fun zk => wc_callV (k := 4) (y' := tX4_puts) (av := [vI v132]) (st := []) (pc := 109) (dAt dtX4_part 59 rfl) lkX4_369 moX4_puts q2600 qs81 (by decide) (zk.2 _ ka75).1 rfl rfl (Nat.le_of_ble_eq_true rfl) (wX4_puts hg hm) (kr_N (fun h133 hm => ?_)) (kx_N rfl)
                obtain ⟨o136, hm⟩ := hm
                obtain ⟨v137, ev137⟩ : ∃ v137 : Int, v137 = (if ¬ (x122 = (-1)) then x122 else (if ¬ (17 ≤ x115) then (x115 - 12) else (x115 - 17))) := ⟨_, rfl⟩
                replace hm := hm v137 ev137
                refine wc_aload_n (pc := 112) (dAt dtX4_part 60 rfl) rfl (wc_iload_n (pc := 113) (dAt dtX4_part 61 rfl) rfl (wc_iconst (pc := 114) (dAt dtX4_part 62 rfl) ⟨by decide, by decide⟩ (?_)))
                have kj139 : Wc G tX4_part (d + 2) h Q 139 [some (vR 75), none, none] [vI v137, vR 75] h133 := by
                  refine wc_kf hg fun zk => wc_callV (k := 4) (y' := tX4_puts) (av := [vI v137]) (st := []) (pc := 139) (dAt dtX4_part 76 rfl) lkX4_369 moX4_puts q2600 qs81 (by decide) (zk.2 _ ka75).1 rfl rfl (Nat.le_of_ble_eq_true rfl) (wX4_puts hg hm) (kr_N (fun h138 hm => ?_)) (kx_N rfl)
                  exact wc_goto (pc := 142) (tgt := 150) (dAt dtX4_part 77 rfl) (by decide) (kj103 _ hm)
                have p140 := o136
                have k141 : (¬ (x122 = (-1))) → Wc G tX4_part (d + 2) h Q 118 [some (vR 75), some (vI x115), some (vI x122)] [vR 75] h133 := fun c143 => by
                  have z144 := kj139
                  rw [show v137 = x122 from ev137.trans (if_pos c143)] at z144
                  exact wc_iload_n (pc := 118) (dAt dtX4_part 64 rfl) rfl (wc_goto (pc := 119) (tgt := 139) (dAt dtX4_part 65 rfl) (by decide) (wc_drp [1, 2] rfl (z144)))
                have k142 : ¬ (¬ (x122 = (-1))) → Wc G tX4_part (d + 2) h Q 122 [some (vR 75), some (vI x115), some (vI x122)] [vR 75] h133 := fun c143 => by
                  obtain ⟨p146, p147⟩ := (p140 c143)
                  have k148 : (¬ (17 ≤ x115)) → Wc G tX4_part (d + 2) h Q 128 [some (vR 75), some (vI x115), some (vI x122)] [vR 75] h133 := fun c150 => by
                    have o134 := (p146 c150)
                    have z151 := kj139
                    rw [show v137 = (x115 - 12) from ev137.trans ((if_neg c143).trans (if_pos c150))] at z151
                    exact wc_iload_n (pc := 128) (dAt dtX4_part 69 rfl) rfl (wc_bipush (pc := 129) (dAt dtX4_part 70 rfl) ⟨by decide, by decide, by decide⟩ (wc_isub (pc := 131) (dAt dtX4_part 71 rfl) o134 (wc_goto (pc := 132) (tgt := 139) (dAt dtX4_part 72 rfl) (by decide) (wc_drp [1, 2] rfl (z151)))))
                  have k149 : ¬ (¬ (17 ≤ x115)) → Wc G tX4_part (d + 2) h Q 135 [some (vR 75), some (vI x115), some (vI x122)] [vR 75] h133 := fun c150 => by
                    have o135 := (p147 c150)
                    have z153 := kj139
                    rw [show v137 = (x115 - 17) from ev137.trans ((if_neg c143).trans (if_neg c150))] at z153
                    exact wc_iload_n (pc := 135) (dAt dtX4_part 73 rfl) rfl (wc_bipush (pc := 136) (dAt dtX4_part 74 rfl) ⟨by decide, by decide, by decide⟩ (wc_isub (pc := 138) (dAt dtX4_part 75 rfl) o135 (wc_drp [1, 2] rfl (z153))))
                  exact wc_iload_n (pc := 122) (dAt dtX4_part 66 rfl) rfl (wc_bipush (pc := 123) (dAt dtX4_part 67 rfl) ⟨by decide, by decide, by decide⟩ (wc_icmp_ge (pc := 125) (tgt := 135) (dAt dtX4_part 68 rfl) (by decide) (fun c155 => (k149 (fun z => z c155))) (fun c155 => (k148 c155))))
                exact wc_icmp_eq (pc := 115) (tgt := 122) (dAt dtX4_part 63 rfl) (by decide) (fun c156 => (k142 (fun z => z c156))) (fun c156 => (k141 c156))
              have k158 : (¬ (x122 = (-1))) → Wc G tX4_part (d + 2) h Q 94 [some (vR 75), some (vI x115), some (vI x122)] [vR 75] h125 := fun c160 => by
                have z161 := kj157
                rw [show v132 = 4 from ev132.trans (if_pos c160)] at z161
                exact wc_iconst (pc := 94) (dAt dtX4_part 51 rfl) ⟨by decide, by decide⟩ (wc_goto (pc := 95) (tgt := 109) (dAt dtX4_part 52 rfl) (by decide) (z161))
              have k159 : ¬ (¬ (x122 = (-1))) → Wc G tX4_part (d + 2) h Q 98 [some (vR 75), some (vI x115), some (vI x122)] [vR 75] h125 := fun c160 => by
                have k163 : (¬ (17 ≤ x115)) → Wc G tX4_part (d + 2) h Q 104 [some (vR 75), some (vI x115), some (vI x122)] [vR 75] h125 := fun c165 => by
                  have z166 := kj157
                  rw [show v132 = 3 from ev132.trans ((if_neg c160).trans (if_pos c165))] at z166
                  exact wc_iconst (pc := 104) (dAt dtX4_part 56 rfl) ⟨by decide, by decide⟩ (wc_goto (pc := 105) (tgt := 109) (dAt dtX4_part 57 rfl) (by decide) (z166))
                have k164 : ¬ (¬ (17 ≤ x115)) → Wc G tX4_part (d + 2) h Q 108 [some (vR 75), some (vI x115), some (vI x122)] [vR 75] h125 := fun c165 => by
                  have z168 := kj157
                  rw [show v132 = 2 from ev132.trans ((if_neg c160).trans (if_neg c165))] at z168
                  exact wc_iconst (pc := 108) (dAt dtX4_part 58 rfl) ⟨by decide, by decide⟩ (z168)
                exact wc_iload_n (pc := 98) (dAt dtX4_part 53 rfl) rfl (wc_bipush (pc := 99) (dAt dtX4_part 54 rfl) ⟨by decide, by decide, by decide⟩ (wc_icmp_ge (pc := 101) (tgt := 108) (dAt dtX4_part 55 rfl) (by decide) (fun c170 => (k164 (fun z => z c170))) (fun c170 => (k163 c170))))
              exact wc_icmp_eq (pc := 91) (tgt := 98) (dAt dtX4_part 50 rfl) (by decide) (fun c171 => (k159 (fun z => z c171))) (fun c171 => (k158 c171))
            · have k128 : (¬ (12 ≤ x115) ∧ (¬ (x122 ≠ (-1)))) → Wc G tX4_part (d + 2) h Q 83 [some (vR 75), some (vI x115), some (vI x122)] [] h118 := fun c126 => by
                replace hm := ite_t c126 hm
                refine wc_aload_n (pc := 83) (dAt dtX4_part 44 rfl) rfl (wc_iconst (pc := 84) (dAt dtX4_part 45 rfl) ⟨by decide, by decide⟩ (wc_kf hg fun zk => wc_callV (k := 4) (y' := tX4_wrong) (av := [vI 3]) (st := []) (pc := 85) (dAt dtX4_part 46 rfl) lkX4_357 moX4_wrong q2564 qs72 (by decide) (zk.2 _ ka75).1 rfl rfl (Nat.le_of_ble_eq_true rfl) (wX4_wrong hg hm) (kr_N (fun h127 hm => ?_)) (kx_N rfl)))
                exact kj124 _ hm
              have k129 : ¬ (¬ (12 ≤ x115) ∧ (¬ (x122 ≠ (-1)))) → Wc G tX4_part (d + 2) h Q 88 [some (vR 75), some (vI x115), some (vI x122)] [] h118 := fun c126 => by
                replace hm := ite_f c126 hm
                exact kj124 _ hm
              exact wc_icmp_ge (pc := 75) (tgt := 88) (dAt dtX4_part 40 rfl) (by decide) (fun c130 => (k129 (fun z => z.1 c130))) (fun c130 => wc_iload_n (pc := 78) (dAt dtX4_part 41 rfl) rfl (wc_iconst (pc := 79) (dAt dtX4_part 42 rfl) ⟨by decide, by decide⟩ (wc_icmp_ne (pc := 80) (tgt := 88) (dAt dtX4_part 43 rfl) (by decide) (fun c131 => (k129 (fun z => (fun z => z c131) z.2))) (fun c131 => (k128 ⟨c130, c131⟩)))))
          · refine wc_icmp_ne (pc := 60) (tgt := 70) (dAt dtX4_part 32 rfl) (by decide) (fun c119 => ?_) (fun c119 => ?_)
            · replace hm := ite_f (fun z => z c119) hm
              exact wc_iconst (pc := 70) (dAt dtX4_part 36 rfl) ⟨by decide, by decide⟩ (kj117 _ _ hm)
            · replace hm := ite_t c119 hm
              refine wc_aload_n (pc := 63) (dAt dtX4_part 33 rfl) rfl (wc_kf hg fun zk => wc_callV (k := 4) (y' := tX4_findWord) (av := []) (st := []) (pc := 64) (dAt dtX4_part 34 rfl) lkX4_379 moX4_findWord q2572 qs74 (by decide) (zk.2 _ ka75).1 rfl rfl (Nat.le_of_ble_eq_true rfl) (wX4_findWord hg hm) (kr_I (fun x121 h120 hm => ?_)) (kx_I rfl))
              exact wc_goto (pc := 67) (tgt := 71) (dAt dtX4_part 35 rfl) (by decide) (kj117 _ _ hm)
      · replace hm := ite_t c105 hm
        refine wc_aload_n (pc := 16) (dAt dtX4_part 8 rfl) rfl (wc_getKI hg (pc := 17) (dAt dtX4_part 9 rfl) flX4_125_4 rfl ka75 (wc_iconst (pc := 20) (dAt dtX4_part 10 rfl) ⟨by decide, by decide⟩ (?_)))
        refine jn1_ind (P := fun (h108 : Hp) => Wc G tX4_part (d + 2) h Q 29 [some (vR 75), none, none] [] h108) (fun h108 hm => ?_) (fun K106 kj107 hm => ?_) hm
        · refine wc_aload_n (pc := 29) (dAt dtX4_part 15 rfl) rfl (wc_iconst (pc := 30) (dAt dtX4_part 16 rfl) ⟨by decide, by decide⟩ (wc_kf hg fun zk => wc_callV (k := 4) (y' := tX4_puts) (av := [vI 1]) (st := []) (pc := 31) (dAt dtX4_part 17 rfl) lkX4_369 moX4_puts q2600 qs81 (by decide) (zk.2 _ ka75).1 rfl rfl (Nat.le_of_ble_eq_true rfl) (wX4_puts hg hm) (kr_N (fun h111 hm => ?_)) (kx_N rfl)))
          refine wc_aload_n (pc := 34) (dAt dtX4_part 18 rfl) rfl (wc_aload_n (pc := 35) (dAt dtX4_part 19 rfl) rfl (wc_getKI hg (pc := 36) (dAt dtX4_part 20 rfl) flX4_110_4 rfl ka75 (wc_kf hg fun zk => wc_callV (k := 4) (y' := tX4_puts) (av := [vI (hI h111 75 31)]) (st := []) (pc := 39) (dAt dtX4_part 21 rfl) lkX4_369 moX4_puts q2600 qs81 (by decide) (zk.2 _ ka75).1 rfl rfl (Nat.le_of_ble_eq_true rfl) (wX4_puts hg hm) (kr_N (fun h112 hm => ?_)) (kx_N rfl))))
          exact wc_goto (pc := 42) (tgt := 150) (dAt dtX4_part 22 rfl) (by decide) (kj103 _ hm)
        · refine wc_icmp_le (pc := 21) (tgt := 29) (dAt dtX4_part 11 rfl) (by decide) (fun c109 => ?_) (fun c109 => ?_)
          · replace hm := ite_f (fun z => z c109) hm
            exact kj107 _ hm
          · replace hm := ite_t c109 hm
            refine wc_aload_n (pc := 24) (dAt dtX4_part 12 rfl) rfl (wc_iconst (pc := 25) (dAt dtX4_part 13 rfl) ⟨by decide, by decide⟩ (wc_kf hg fun zk => wc_callV (k := 4) (y' := tX4_wrong) (av := [vI 2]) (st := []) (pc := 26) (dAt dtX4_part 14 rfl) lkX4_357 moX4_wrong q2564 qs72 (by decide) (zk.2 _ ka75).1 rfl rfl (Nat.le_of_ble_eq_true rfl) (wX4_wrong hg hm) (kr_N (fun h110 hm => ?_)) (kx_N rfl)))
            exact kj107 _ hm
  · replace hm := ite_t c101 hm
    exact wc_vret (pc := 7) (dAt dtX4_part 3 rfl) rfl hm
