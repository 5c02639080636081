set_option maxRecDepth 100000
set_option maxHeartbeats 1000000
/-! what methods do, and their walks, by program -/
def tX4_operand : Mt := (⟨"FlyingDoctorsModel", "operand", "(Z)V"⟩, prog_24_method_36_code, 5, (Option.none : Option Jvm.ClassFile.FieldType), [])
def DX4_operand : List (Nat × Instr × Nat) := [(0, .iload_n 1, 1), (1, .istore_n 2, 1), (2, .iconst 1, 1), (3, .istore_n 3, 1), (4, .iload_n 3, 1), (5, .ifCond .eq 115, 3), (8, .aload_n 0, 1), (9, .invokevirtual 347, 3), (12, .ifCond .eq 108, 3), (15, .iconst 0, 1), (16, .istore 4, 2), (18, .aload_n 0, 1), (19, .invokevirtual 347, 3), (22, .ifCond .eq 53, 3), (25, .iload_n 2, 1), (26, .ifCond .eq 49, 3), (29, .aload_n 0, 1), (30, .invokevirtual 375, 3), (33, .bipush 11, 2), (35, .if_icmp .ne 40, 3), (38, .iload 4, 2), (40, .bipush 6, 2), (42, .if_icmp .ne 8, 3), (45, .aload_n 0, 1), (46, .iconst 2, 1), (47, .invokevirtual 357, 3), (50, .iinc 4 1, 3), (53, .aload_n 0, 1), (54, .invokevirtual 347, 3), (57, .ifCond .ne 6, 3), (60, .goto (-42), 3), (63, .aload_n 0, 1), (64, .iconst 5, 1), (65, .invokevirtual 385, 3), (68, .aload_n 0, 1), (69, .invokevirtual 354, 3), (72, .goto (-54), 3), (75, .aload_n 0, 1), (76, .invokevirtual 347, 3), (79, .ifCond .eq 16, 3), (82, .aload_n 0, 1), (83, .bipush 40, 2), (85, .invokevirtual 351, 3), (88, .ifCond .eq 7, 3), (91, .iconst 1, 1), (92, .goto 4, 3), (95, .iconst 0, 1), (96, .istore_n 3, 1), (97, .iload_n 3, 1), (98, .ifCond .eq 19, 3), (101, .aload_n 0, 1), (102, .bipush 14, 2), (104, .invokevirtual 385, 3), (107, .aload_n 0, 1), (108, .invokevirtual 354, 3), (111, .aload_n 0, 1), (112, .invokevirtual 388, 3), (115, .iconst 1, 1), (116, .istore_n 2, 1), (117, .goto (-113), 3), (120, .aload_n 0, 1), (121, .invokevirtual 391, 3), (124, .return_, 1)]
theorem dtX4_operand : chkD (mB tX4_operand) DX4_operand = true := by decide +kernel
theorem moX4_operand : MethOk tX4_operand 1 := ⟨Or.inl ⟨rfl, q2589⟩, by decide +kernel, ⟨by decide, by decide⟩, by decide +kernel⟩
def mX4_operand (x1 : Int) (h : Hp) (Q : Rs → Hp → Prop) : Prop := wh3 (fun (C104 : Int → Int → Hp → Prop) (x101 : Int) (x102 : Int) (h103 : Hp) => if ¬ (x102 = 0) ∧ (¬ ((vX4_isGood h103) = 0)) then wh2 (fun (C109 : Int → Hp → Prop) (x107 : Int) (h108 : Hp) => jn (fun (h113 : Hp) => ∀ v132 : Int, v132 = (b2i (¬ ((vX4_isGood h113) = 0) ∧ (¬ ((vX4_isSign 40 h113) = 0)))) → if ¬ (v132 = 0) then mX4_waitsFor 14 h113 (kN Q (fun h134 => mX4_goes h134 (kN Q (fun h135 => mX4_begins h135 (kN Q (fun h136 => C104 1 v132 h136)))))) else C104 x101 v132 h113) (fun K111 => if ¬ ((vX4_isGood h108) = 0) ∧ (¬ (x101 = 0)) then mX4_knownWord h108 (kI Q (fun x116 h115 => if ¬ (x116 ≠ 11) then jn (fun (h120 : Hp) => nm (x107 + 1) ∧ ∀ i124 : Int, i124 = (x107 + 1) → if ¬ ((vX4_isGood h120) ≠ 0) then C109 i124 h120 else mX4_waitsFor 5 h120 (kN Q (fun h126 => mX4_goes h126 (kN Q (fun h127 => C109 i124 h127))))) (fun K118 => if ¬ (x107 ≠ 6) then mX4_wrong 2 h115 (kN Q (fun h122 => K118 h122)) else K118 h115) else K111 h115)) else K111 h108)) 0 h103 else mX4_part h103 (kN Q (fun h147 => Q rN h147))) x1 1 h
theorem wX4_operand {G : Gx} (hg : gF G = true) {d : Nat} {x1 : Int} {h : Hp} {Q : Rs → Hp → Prop} (hm : mX4_operand x1 h Q) : Ct G tX4_operand (d + 3) [vR 75, vI x1] h Q := by
  refine ct_enter (L0 := [some (vR 75), some (vI x1), none, none, none]) rfl rfl ?_
  unfold mX4_operand at hm
  refine wc_iload_n (pc := 0) (dAt dtX4_operand 0 rfl) rfl (wc_istore_n (pc := 1) (dAt dtX4_operand 1 rfl) (by decide) (wc_L (L' := [some (vR 75), some (vI x1), some (vI x1), none, none]) rfl (wc_iconst (pc := 2) (dAt dtX4_operand 2 rfl) ⟨by decide, by decide⟩ (wc_istore_n (pc := 3) (dAt dtX4_operand 3 rfl) (by decide) (wc_L (L' := [some (vR 75), some (vI x1), some (vI x1), some (vI 1), none]) rfl (wc_drp [1] rfl (wc_L (L' := [some (vR 75), none, some (vI x1), some (vI 1), none]) rfl (?_))))))))
  refine wh3_ind (P := fun (x101 : Int) (x102 : Int) (h103 : Hp) => Wc G tX4_operand (d + 3) h Q 4 [some (vR 75), none, some (vI x101), some (vI x102), none] [] h103) (fun C104 ih105 x101 x102 h103 hm => ?_) hm
  refine wc_iload_n (pc := 4) (dAt dtX4_operand 4 rfl) rfl (?_)
  have k148 : (¬ (x102 = 0) ∧ (¬ ((vX4_isGood h103) = 0))) → Wc G tX4_operand (d + 3) h Q 15 [some (vR 75), none, some (vI x101), some (vI x102), none] [] h103 := fun c106 => by
    replace hm := ite_t c106 hm
    refine wc_iconst (pc := 15) (dAt dtX4_operand 9 rfl) ⟨by decide, by decide⟩ (wc_istore (pc := 16) (dAt dtX4_operand 10 rfl) (by decide) (wc_L (L' := [some (vR 75), none, some (vI x101), some (vI x102), some (vI 0)]) rfl (wc_drp [3] rfl (wc_L (L' := [some (vR 75), none, some (vI x101), none, some (vI 0)]) rfl (?_)))))
    refine wh2_ind (P := fun (x107 : Int) (h108 : Hp) => Wc G tX4_operand (d + 3) h Q 18 [some (vR 75), none, some (vI x101), none, some (vI x107)] [] h108) (fun C109 ih110 x107 h108 hm => ?_) hm
    refine wc_aload_n (pc := 18) (dAt dtX4_operand 11 rfl) rfl (wc_kf hg fun zk => wc_callV (k := 4) (y' := tX4_isGood) (P := eI (vX4_isGood h108) h108) (pc := 19) (dAt dtX4_operand 12 rfl) lkX4_347 moX4_isGood q2552 qs69 (by decide) (zk.2 _ ka75).1 rfl rfl (Nat.le_of_ble_eq_true rfl) (wX4_isGood hg ⟨rfl, rfl⟩) (ep_I (?_)) ex_I)
    refine jn1_ind (P := fun (h113 : Hp) => Wc G tX4_operand (d + 3) h Q 75 [some (vR 75), none, some (vI x101), none, none] [] h113) (fun h113 hm => ?_) (fun K111 kj112 hm => ?_) hm
    · obtain ⟨v132, ev132⟩ : ∃ v132 : Int, v132 = (b2i (¬ ((vX4_isGood h113) = 0) ∧ (¬ ((vX4_isSign 40 h113) = 0)))) := ⟨_, rfl⟩
      replace hm := hm v132 ev132
      refine wc_aload_n (pc := 75) (dAt dtX4_operand 37 rfl) rfl (wc_kf hg fun zk => wc_callV (k := 4) (y' := tX4_isGood) (P := eI (vX4_isGood h113) h113) (pc := 76) (dAt dtX4_operand 38 rfl) lkX4_347 moX4_isGood q2552 qs69 (by decide) (zk.2 _ ka75).1 rfl rfl (Nat.le_of_ble_eq_true rfl) (wX4_isGood hg ⟨rfl, rfl⟩) (ep_I (?_)) ex_I)
      have kj137 : Wc G tX4_operand (d + 3) h Q 96 [some (vR 75), none, some (vI x101), none, none] [vI v132] h113 := by
        refine wc_istore_n (pc := 96) (dAt dtX4_operand 47 rfl) (by decide) (wc_L (L' := [some (vR 75), none, some (vI x101), some (vI v132), none]) rfl (wc_iload_n (pc := 97) (dAt dtX4_operand 48 rfl) rfl (wc_if_eq (pc := 98) (tgt := 117) (dAt dtX4_operand 49 rfl) (by decide) (fun c133 => ?_) (fun c133 => ?_))))
        · replace hm := ite_f (fun z => z c133) hm
          exact wc_goto (pc := 117) (tgt := 4) (dAt dtX4_operand 59 rfl) (by decide) (ih105 _ _ _ hm)
        · replace hm := ite_t c133 hm
          refine wc_aload_n (pc := 101) (dAt dtX4_operand 50 rfl) rfl (wc_bipush (pc := 102) (dAt dtX4_operand 51 rfl) ⟨by decide, by decide, by decide⟩ (wc_kf hg fun zk => wc_callV (k := 4) (y' := tX4_waitsFor) (av := [vI 14]) (st := []) (pc := 104) (dAt dtX4_operand 52 rfl) lkX4_385 moX4_waitsFor q2592 qs79 (by decide) (zk.2 _ ka75).1 rfl rfl (Nat.le_of_ble_eq_true rfl) (wX4_waitsFor hg hm) (kr_N (fun h134 hm => ?_)) (kx_N rfl)))
          refine wc_aload_n (pc := 107) (dAt dtX4_operand 53 rfl) rfl (wc_kf hg fun zk => wc_callV (k := 4) (y' := tX4_goes) (av := []) (st := []) (pc := 108) (dAt dtX4_operand 54 rfl) lkX4_354 moX4_goes q2538 qs67 (by decide) (zk.2 _ ka75).1 rfl rfl (Nat.le_of_ble_eq_true rfl) (wX4_goes hg hm) (kr_N (fun h135 hm => ?_)) (kx_N rfl))
          refine wc_aload_n (pc := 111) (dAt dtX4_operand 55 rfl) rfl (wc_kf hg fun zk => wc_callV (k := 4) (y' := tX4_begins) (av := []) (st := []) (pc := 112) (dAt dtX4_operand 56 rfl) lkX4_388 moX4_begins q2580 qs76 (by decide) (zk.2 _ ka75).1 rfl rfl (Nat.le_of_ble_eq_true rfl) (wX4_begins hg hm) (kr_N (fun h136 hm => ?_)) (kx_N rfl))
          exact wc_iconst (pc := 115) (dAt dtX4_operand 57 rfl) ⟨by decide, by decide⟩ (wc_istore_n (pc := 116) (dAt dtX4_operand 58 rfl) (by decide) (wc_L (L' := [some (vR 75), none, some (vI 1), some (vI v132), none]) rfl (wc_goto (pc := 117) (tgt := 4) (dAt dtX4_operand 59 rfl) (by decide) (ih105 _ _ _ hm))))
      have k138 : (¬ ((vX4_isGood h113) = 0) ∧ (¬ ((vX4_isSign 40 h113) = 0))) → Wc G tX4_operand (d + 3) h Q 91 [some (vR 75), none, some (vI x101), none, none] [] h113 := fun c140 => by
        have z141 := kj137
        rw [show v132 = 1 from ev132.trans (b2i_t c140)] at z141
        exact wc_iconst (pc := 91) (dAt dtX4_operand 44 rfl) ⟨by decide, by decide⟩ (wc_goto (pc := 92) (tgt := 96) (dAt dtX4_operand 45 rfl) (by decide) (z141))
      have k139 : ¬ (¬ ((vX4_isGood h113) = 0) ∧ (¬ ((vX4_isSign 40 h113) = 0))) → Wc G tX4_operand (d + 3) h Q 95 [some (vR 75), none, some (vI x101), none, none] [] h113 := fun c140 => by
        have z143 := kj137
        rw [show v132 = 0 from ev132.trans (b2i_f c140)] at z143
        exact wc_iconst (pc := 95) (dAt dtX4_operand 46 rfl) ⟨by decide, by decide⟩ (z143)
      exact wc_if_eq (pc := 79) (tgt := 95) (dAt dtX4_operand 39 rfl) (by decide) (fun c145 => (k139 (fun z => z.1 c145))) (fun c145 => wc_aload_n (pc := 82) (dAt dtX4_operand 40 rfl) rfl (wc_bipush (pc := 83) (dAt dtX4_operand 41 rfl) ⟨by decide, by decide, by decide⟩ (wc_kf hg fun zk => wc_callV (k := 4) (y' := tX4_isSign) (P := eI (vX4_isSign 40 h113) h113) (pc := 85) (dAt dtX4_operand 42 rfl) lkX4_351 moX4_isSign q2584 qs77 (by decide) (zk.2 _ ka75).1 rfl rfl (Nat.le_of_ble_eq_true rfl) (wX4_isSign hg ⟨rfl, rfl⟩) (ep_I (wc_if_eq (pc := 88) (tgt := 95) (dAt dtX4_operand 43 rfl) (by decide) (fun c146 => (k139 (fun z => (fun z => z c146) z.2))) (fun c146 => (k138 ⟨c145, c146⟩)))) ex_I)))
    · have k128 : (¬ ((vX4_isGood h108) = 0) ∧ (¬ (x101 = 0))) → Wc G tX4_operand (d + 3) h Q 29 [some (vR 75), none, some (vI x101), none, some (vI x107)] [] h108 := fun c114 => by
        replace hm := ite_t c114 hm
        refine wc_aload_n (pc := 29) (dAt dtX4_operand 16 rfl) rfl (wc_kf hg fun zk => wc_callV (k := 4) (y' := tX4_knownWord) (av := []) (st := []) (pc := 30) (dAt dtX4_operand 17 rfl) lkX4_375 moX4_knownWord q2560 qs71 (by decide) (zk.2 _ ka75).1 rfl rfl (Nat.le_of_ble_eq_true rfl) (wX4_knownWord hg hm) (kr_I (fun x116 h115 hm => ?_)) (kx_I rfl))
        refine wc_bipush (pc := 33) (dAt dtX4_operand 18 rfl) ⟨by decide, by decide, by decide⟩ (wc_icmp_ne (pc := 35) (tgt := 75) (dAt dtX4_operand 19 rfl) (by decide) (fun c117 => ?_) (fun c117 => ?_))
        · replace hm := ite_f (fun z => z c117) hm
          exact wc_drp [4] rfl (kj112 _ hm)
        · replace hm := ite_t c117 hm
          refine wc_iload (pc := 38) (dAt dtX4_operand 20 rfl) rfl (wc_bipush (pc := 40) (dAt dtX4_operand 21 rfl) ⟨by decide, by decide, by decide⟩ (?_))
          refine jn1_ind (P := fun (h120 : Hp) => Wc G tX4_operand (d + 3) h Q 50 [some (vR 75), none, some (vI x101), none, some (vI x107)] [] h120) (fun h120 hm => ?_) (fun K118 kj119 hm => ?_) hm
          · obtain ⟨o123, hm⟩ := hm
            obtain ⟨i124, ei124⟩ : ∃ i124 : Int, i124 = (x107 + 1) := ⟨_, rfl⟩
            replace hm := hm i124 ei124
            refine wc_iinc (v := i124) (pc := 50) (dAt dtX4_operand 26 rfl) rfl ei124 (ei124 ▸ o123) (by decide) (wc_L (L' := [some (vR 75), none, some (vI x101), none, some (vI i124)]) rfl (wc_aload_n (pc := 53) (dAt dtX4_operand 27 rfl) rfl (wc_kf hg fun zk => wc_callV (k := 4) (y' := tX4_isGood) (P := eI (vX4_isGood h120) h120) (pc := 54) (dAt dtX4_operand 28 rfl) lkX4_347 moX4_isGood q2552 qs69 (by decide) (zk.2 _ ka75).1 rfl rfl (Nat.le_of_ble_eq_true rfl) (wX4_isGood hg ⟨rfl, rfl⟩) (ep_I (wc_if_ne (pc := 57) (tgt := 63) (dAt dtX4_operand 29 rfl) (by decide) (fun c125 => ?_) (fun c125 => ?_))) ex_I)))
            · replace hm := ite_f (fun z => z c125) hm
              refine wc_aload_n (pc := 63) (dAt dtX4_operand 31 rfl) rfl (wc_iconst (pc := 64) (dAt dtX4_operand 32 rfl) ⟨by decide, by decide⟩ (wc_kf hg fun zk => wc_callV (k := 4) (y' := tX4_waitsFor) (av := [vI 5]) (st := []) (pc := 65) (dAt dtX4_operand 33 rfl) lkX4_385 moX4_waitsFor q2592 qs79 (by decide) (zk.2 _ ka75).1 rfl rfl (Nat.le_of_ble_eq_true rfl) (wX4_waitsFor hg hm) (kr_N (fun h126 hm => ?_)) (kx_N rfl)))
              refine wc_aload_n (pc := 68) (dAt dtX4_operand 34 rfl) rfl (wc_kf hg fun zk => wc_callV (k := 4) (y' := tX4_goes) (av := []) (st := []) (pc := 69) (dAt dtX4_operand 35 rfl) lkX4_354 moX4_goes q2538 qs67 (by decide) (zk.2 _ ka75).1 rfl rfl (Nat.le_of_ble_eq_true rfl) (wX4_goes hg hm) (kr_N (fun h127 hm => ?_)) (kx_N rfl))
              exact wc_goto (pc := 72) (tgt := 18) (dAt dtX4_operand 36 rfl) (by decide) (ih110 _ _ hm)
            · replace hm := ite_t c125 hm
              exact wc_goto (pc := 60) (tgt := 18) (dAt dtX4_operand 30 rfl) (by decide) (ih110 _ _ hm)
          · refine wc_icmp_ne (pc := 42) (tgt := 50) (dAt dtX4_operand 22 rfl) (by decide) (fun c121 => ?_) (fun c121 => ?_)
            · replace hm := ite_f (fun z => z c121) hm
              exact kj119 _ hm
            · replace hm := ite_t c121 hm
              refine wc_aload_n (pc := 45) (dAt dtX4_operand 23 rfl) rfl (wc_iconst (pc := 46) (dAt dtX4_operand 24 rfl) ⟨by decide, by decide⟩ (wc_kf hg fun zk => wc_callV (k := 4) (y' := tX4_wrong) (av := [vI 2]) (st := []) (pc := 47) (dAt dtX4_operand 25 rfl) lkX4_357 moX4_wrong q2564 qs72 (by decide) (zk.2 _ ka75).1 rfl rfl (Nat.le_of_ble_eq_true rfl) (wX4_wrong hg hm) (kr_N (fun h122 hm => ?_)) (kx_N rfl)))
              exact kj119 _ hm
      have k129 : ¬ (¬ ((vX4_isGood h108) = 0) ∧ (¬ (x101 = 0))) → Wc G tX4_operand (d + 3) h Q 75 [some (vR 75), none, some (vI x101), none, some (vI x107)] [] h108 := fun c114 => by
        replace hm := ite_f c114 hm
        exact wc_drp [4] rfl (kj112 _ hm)
      exact wc_if_eq (pc := 22) (tgt := 75) (dAt dtX4_operand 13 rfl) (by decide) (fun c130 => (k129 (fun z => z.1 c130))) (fun c130 => wc_iload_n (pc := 25) (dAt dtX4_operand 14 rfl) rfl (wc_if_eq (pc := 26) (tgt := 75) (dAt dtX4_operand 15 rfl) (by decide) (fun c131 => (k129 (fun z => (fun z => z c131) z.2))) (fun c131 => (k128 ⟨c130, c131⟩))))
  have k149 : ¬ (¬ (x102 = 0) ∧ (¬ ((vX4_isGood h103) = 0))) → Wc G tX4_operand (d + 3) h Q 120 [some (vR 75), none, some (vI x101), some (vI x102), none] [] h103 := fun c106 => by
    replace hm := ite_f c106 hm
    refine wc_aload_n (pc := 120) (dAt dtX4_operand 60 rfl) rfl (wc_kf hg fun zk => wc_callV (k := 4) (y' := tX4_part) (av := []) (st := []) (pc := 121) (dAt dtX4_operand 61 rfl) lkX4_391 moX4_part q2596 qs80 (by decide) (zk.2 _ ka75).1 rfl rfl (Nat.le_of_ble_eq_true rfl) (wX4_part hg hm) (kr_N (fun h147 hm => ?_)) (kx_N rfl))
    exact wc_vret (pc := 124) (dAt dtX4_operand 62 rfl) rfl hm
  exact wc_if_eq (pc := 5) (tgt := 120) (dAt dtX4_operand 5 rfl) (by decide) (fun c150 => (k149 (fun z => z.1 c150))) (fun c150 => wc_aload_n (pc := 8) (dAt dtX4_operand 6 rfl) rfl (wc_kf hg fun zk => wc_callV (k := 4) (y' := tX4_isGood) (P := eI (vX4_isGood h103) h103) (pc := 9) (dAt dtX4_operand 7 rfl) lkX4_347 moX4_isGood q2552 qs69 (by decide) (zk.2 _ ka75).1 rfl rfl (Nat.le_of_ble_eq_true rfl) (wX4_isGood hg ⟨rfl, rfl⟩) (ep_I (wc_if_eq (pc := 12) (tgt := 120) (dAt dtX4_operand 8 rfl) (by decide) (fun c151 => (k149 (fun z => (fun z => z c151) z.2))) (fun c151 => (k148 ⟨c150, c151⟩)))) ex_I))
def tX4_strength : Mt := (⟨"FlyingDoctorsModel", "strength", "(I)I"⟩, prog_24_method_30_code, 1, (Option.some Jvm.ClassFile.FieldType.int), [])
def DX4_strength : List (Nat × Instr × Nat) := [(0, .iload_n 0, 1), (1, .bipush 14, 2), (3, .if_icmp .ne 7, 3), (6, .iconst 0, 1), (7, .goto 66, 3), (10, .iload_n 0, 1), (11, .bipush 7, 2), (13, .if_icmp .ne 7, 3), (16, .iconst 1, 1), (17, .goto 56, 3), (20, .iload_n 0, 1), (21, .bipush 6, 2), (23, .if_icmp .ne 7, 3), (26, .iconst 2, 1), (27, .goto 46, 3), (30, .iload_n 0, 1), (31, .iconst 5, 1), (32, .if_icmp .ne 7, 3), (35, .iconst 3, 1), (36, .goto 37, 3), (39, .iload_n 0, 1), (40, .bipush 8, 2), (42, .if_icmp .eq 9, 3), (45, .iload_n 0, 1), (46, .bipush 9, 2), (48, .if_icmp .ne 7, 3), (51, .iconst 4, 1), (52, .goto 21, 3), (55, .iload_n 0, 1), (56, .bipush 10, 2), (58, .if_icmp .eq 9, 3), (61, .iload_n 0, 1), (62, .bipush 11, 2), (64, .if_icmp .ne 7, 3), (67, .iconst 5, 1), (68, .goto 5, 3), (71, .bipush 6, 2), (73, .ireturn, 1)]
theorem dtX4_strength : chkD (mB tX4_strength) DX4_strength = true := by decide +kernel
theorem moX4_strength : MethOk tX4_strength 1 := ⟨Or.inl ⟨rfl, q2608⟩, by decide +kernel, ⟨by decide, by decide⟩, by decide +kernel⟩
def vX4_strength (x0 : Int) (h : Hp) : Int := (if ¬ (x0 ≠ 14) then 0 else (if ¬ (x0 ≠ 7) then 1 else (if ¬ (x0 ≠ 6) then 2 else (if ¬ (x0 ≠ 5) then 3 else (if (x0 = 8) ∨ (¬ (x0 ≠ 9)) then 4 else (if (x0 = 10) ∨ (¬ (x0 ≠ 11)) then 5 else 6))))))
theorem wX4_strength {G : Gx} (hg : gF G = true) {d : Nat} {x0 : Int} {h : Hp} {Q : Rs → Hp → Prop} (hq : Q (rV (vI (vX4_strength x0 h))) h) : Ct G tX4_strength (d + 0) [vI x0] h Q := by
  refine ct_enter (L0 := [some (vI x0)]) rfl rfl ?_
  have k101 : (¬ (x0 ≠ 14)) → Wc G tX4_strength (d + 0) h Q 6 [some (vI x0)] [] h := fun c103 => by
    have z : Q (rV (vI 0)) h := by
      rw [show (vX4_strength x0 h) = 0 from (if_pos c103)] at hq
      exact hq
    exact wc_iconst (pc := 6) (dAt dtX4_strength 3 rfl) ⟨by decide, by decide⟩ (wc_goto (pc := 7) (tgt := 73) (dAt dtX4_strength 4 rfl) (by decide) (wc_iret (pc := 73) (dAt dtX4_strength 37 rfl) rfl (nar_int _) z))
  have k102 : ¬ (¬ (x0 ≠ 14)) → Wc G tX4_strength (d + 0) h Q 10 [some (vI x0)] [] h := fun c103 => by
    have k104 : (¬ (x0 ≠ 7)) → Wc G tX4_strength (d + 0) h Q 16 [some (vI x0)] [] h := fun c106 => by
      have z : Q (rV (vI 1)) h := by
        rw [show (vX4_strength x0 h) = 1 from ((if_neg c103).trans (if_pos c106))] at hq
        exact hq
      exact wc_iconst (pc := 16) (dAt dtX4_strength 8 rfl) ⟨by decide, by decide⟩ (wc_goto (pc := 17) (tgt := 73) (dAt dtX4_strength 9 rfl) (by decide) (wc_iret (pc := 73) (dAt dtX4_strength 37 rfl) rfl (nar_int _) z))
    have k105 : ¬ (¬ (x0 ≠ 7)) → Wc G tX4_strength (d + 0) h Q 20 [some (vI x0)] [] h := fun c106 => by
      have k107 : (¬ (x0 ≠ 6)) → Wc G tX4_strength (d + 0) h Q 26 [some (vI x0)] [] h := fun c109 => by
        have z : Q (rV (vI 2)) h := by
          rw [show (vX4_strength x0 h) = 2 from ((if_neg c103).trans ((if_neg c106).trans (if_pos c109)))] at hq
          exact hq
        exact wc_iconst (pc := 26) (dAt dtX4_strength 13 rfl) ⟨by decide, by decide⟩ (wc_goto (pc := 27) (tgt := 73) (dAt dtX4_strength 14 rfl) (by decide) (wc_iret (pc := 73) (dAt dtX4_strength 37 rfl) rfl (nar_int _) z))
      have k108 : ¬ (¬ (x0 ≠ 6)) → Wc G tX4_strength (d + 0) h Q 30 [some (vI x0)] [] h := fun c109 => by
        have k110 : (¬ (x0 ≠ 5)) → Wc G tX4_strength (d + 0) h Q 35 [some (vI x0)] [] h := fun c112 => by
          have z : Q (rV (vI 3)) h := by
            rw [show (vX4_strength x0 h) = 3 from ((if_neg c103).trans ((if_neg c106).trans ((if_neg c109).trans (if_pos c112))))] at hq
            exact hq
          exact wc_iconst (pc := 35) (dAt dtX4_strength 18 rfl) ⟨by decide, by decide⟩ (wc_goto (pc := 36) (tgt := 73) (dAt dtX4_strength 19 rfl) (by decide) (wc_iret (pc := 73) (dAt dtX4_strength 37 rfl) rfl (nar_int _) z))
        have k111 : ¬ (¬ (x0 ≠ 5)) → Wc G tX4_strength (d + 0) h Q 39 [some (vI x0)] [] h := fun c112 => by
          have k113 : ((x0 = 8) ∨ (¬ (x0 ≠ 9))) → Wc G tX4_strength (d + 0) h Q 51 [some (vI x0)] [] h := fun c115 => by
            have z : Q (rV (vI 4)) h := by
              rw [show (vX4_strength x0 h) = 4 from ((if_neg c103).trans ((if_neg c106).trans ((if_neg c109).trans ((if_neg c112).trans (if_pos c115)))))] at hq
              exact hq
            exact wc_iconst (pc := 51) (dAt dtX4_strength 26 rfl) ⟨by decide, by decide⟩ (wc_goto (pc := 52) (tgt := 73) (dAt dtX4_strength 27 rfl) (by decide) (wc_iret (pc := 73) (dAt dtX4_strength 37 rfl) rfl (nar_int _) z))
          have k114 : ¬ ((x0 = 8) ∨ (¬ (x0 ≠ 9))) → Wc G tX4_strength (d + 0) h Q 55 [some (vI x0)] [] h := fun c115 => by
            have k116 : ((x0 = 10) ∨ (¬ (x0 ≠ 11))) → Wc G tX4_strength (d + 0) h Q 67 [some (vI x0)] [] h := fun c118 => by
              have z : Q (rV (vI 5)) h := by
                rw [show (vX4_strength x0 h) = 5 from ((if_neg c103).trans ((if_neg c106).trans ((if_neg c109).trans ((if_neg c112).trans ((if_neg c115).trans (if_pos c118))))))] at hq
                exact hq
              exact wc_iconst (pc := 67) (dAt dtX4_strength 34 rfl) ⟨by decide, by decide⟩ (wc_goto (pc := 68) (tgt := 73) (dAt dtX4_strength 35 rfl) (by decide) (wc_iret (pc := 73) (dAt dtX4_strength 37 rfl) rfl (nar_int _) z))
            have k117 : ¬ ((x0 = 10) ∨ (¬ (x0 ≠ 11))) → Wc G tX4_strength (d + 0) h Q 71 [some (vI x0)] [] h := fun c118 => by
              have z : Q (rV (vI 6)) h := by
                rw [show (vX4_strength x0 h) = 6 from ((if_neg c103).trans ((if_neg c106).trans ((if_neg c109).trans ((if_neg c112).trans ((if_neg c115).trans (if_neg c118))))))] at hq
                exact hq
              exact wc_bipush (pc := 71) (dAt dtX4_strength 36 rfl) ⟨by decide, by decide, by decide⟩ (wc_iret (pc := 73) (dAt dtX4_strength 37 rfl) rfl (nar_int _) z)
            exact wc_iload_n (pc := 55) (dAt dtX4_strength 28 rfl) rfl (wc_bipush (pc := 56) (dAt dtX4_strength 29 rfl) ⟨by decide, by decide, by decide⟩ (wc_icmp_eq (pc := 58) (tgt := 67) (dAt dtX4_strength 30 rfl) (by decide) (fun c119 => (k116 (Or.inl c119))) (fun c119 => wc_iload_n (pc := 61) (dAt dtX4_strength 31 rfl) rfl (wc_bipush (pc := 62) (dAt dtX4_strength 32 rfl) ⟨by decide, by decide, by decide⟩ (wc_icmp_ne (pc := 64) (tgt := 71) (dAt dtX4_strength 33 rfl) (by decide) (fun c120 => (k117 (fun z => z.elim c119 (fun z => z c120)))) (fun c120 => (k116 (Or.inr c120))))))))
          exact wc_iload_n (pc := 39) (dAt dtX4_strength 20 rfl) rfl (wc_bipush (pc := 40) (dAt dtX4_strength 21 rfl) ⟨by decide, by decide, by decide⟩ (wc_icmp_eq (pc := 42) (tgt := 51) (dAt dtX4_strength 22 rfl) (by decide) (fun c121 => (k113 (Or.inl c121))) (fun c121 => wc_iload_n (pc := 45) (dAt dtX4_strength 23 rfl) rfl (wc_bipush (pc := 46) (dAt dtX4_strength 24 rfl) ⟨by decide, by decide, by decide⟩ (wc_icmp_ne (pc := 48) (tgt := 55) (dAt dtX4_strength 25 rfl) (by decide) (fun c122 => (k114 (fun z => z.elim c121 (fun z => z c122)))) (fun c122 => (k113 (Or.inr c122))))))))
        exact wc_iload_n (pc := 30) (dAt dtX4_strength 15 rfl) rfl (wc_iconst (pc := 31) (dAt dtX4_strength 16 rfl) ⟨by decide, by decide⟩ (wc_icmp_ne (pc := 32) (tgt := 39) (dAt dtX4_strength 17 rfl) (by decide) (fun c123 => (k111 (fun z => z c123))) (fun c123 => (k110 c123))))
      exact wc_iload_n (pc := 20) (dAt dtX4_strength 10 rfl) rfl (wc_bipush (pc := 21) (dAt dtX4_strength 11 rfl) ⟨by decide, by decide, by decide⟩ (wc_icmp_ne (pc := 23) (tgt := 30) (dAt dtX4_strength 12 rfl) (by decide) (fun c124 => (k108 (fun z => z c124))) (fun c124 => (k107 c124))))
    exact wc_iload_n (pc := 10) (dAt dtX4_strength 5 rfl) rfl (wc_bipush (pc := 11) (dAt dtX4_strength 6 rfl) ⟨by decide, by decide, by decide⟩ (wc_icmp_ne (pc := 13) (tgt := 20) (dAt dtX4_strength 7 rfl) (by decide) (fun c125 => (k105 (fun z => z c125))) (fun c125 => (k104 c125))))
  exact wc_iload_n (pc := 0) (dAt dtX4_strength 0 rfl) rfl (wc_bipush (pc := 1) (dAt dtX4_strength 1 rfl) ⟨by decide, by decide, by decide⟩ (wc_icmp_ne (pc := 3) (tgt := 10) (dAt dtX4_strength 2 rfl) (by decide) (fun c126 => (k102 (fun z => z c126))) (fun c126 => (k101 c126))))
def tX4_drops : Mt := (⟨"FlyingDoctorsModel", "drops", "(I)V"⟩, prog_24_method_31_code, 2, (Option.none : Option Jvm.ClassFile.FieldType), [])
def DX4_drops : List (Nat × Instr × Nat) := [(0, .aload_n 0, 1), (1, .getfield 363, 3), (4, .ifCond .le 63, 3), (7, .aload_n 0, 1), (8, .getfield 183, 3), (11, .aload_n 0, 1), (12, .getfield 363, 3), (15, .iconst 1, 1), (16, .isub, 1), (17, .iaload, 1), (18, .bipush 14, 2), (20, .if_icmp .eq 47, 3), (23, .aload_n 0, 1), (24, .getfield 183, 3), (27, .aload_n 0, 1), (28, .getfield 363, 3), (31, .iconst 1, 1), (32, .isub, 1), (33, .iaload, 1), (34, .invokestatic 366, 3), (37, .iload_n 1, 1), (38, .if_icmp .lt 29, 3), (41, .aload_n 0, 1), (42, .dup, 1), (43, .getfield 363, 3), (46, .iconst 1, 1), (47, .isub, 1), (48, .putfield 363, 3), (51, .aload_n 0, 1), (52, .aload_n 0, 1), (53, .getfield 183, 3), (56, .aload_n 0, 1), (57, .getfield 363, 3), (60, .iaload, 1), (61, .invokevirtual 369, 3), (64, .goto (-64), 3), (67, .return_, 1)]
theorem dtX4_drops : chkD (mB tX4_drops) DX4_drops = true := by decide +kernel
theorem moX4_drops : MethOk tX4_drops 1 := ⟨Or.inl ⟨rfl, q2605⟩, by decide +kernel, ⟨by decide, by decide⟩, by decide +kernel⟩
def mX4_drops (x1 : Int) (h : Hp) (Q : Rs → Hp → Prop) : Prop := wh1 (fun (C102 : Hp → Prop) (h101 : Hp) => ((¬ ((hI h101 75 54) ≤ 0) → nm ((hI h101 75 54) - 1) ∧ 0 ≤ ((hI h101 75 54) - 1) ∧ ((hI h101 75 54) - 1) < 820)) ∧ if ¬ ((hI h101 75 54) ≤ 0) ∧ (¬ ((hI h101 107 (Int.toNat ((hI h101 75 54) - 1))) = 14) ∧ (¬ ((vX4_strength (hI h101 107 (Int.toNat ((hI h101 75 54) - 1))) h101) < x1))) then nm ((hI h101 75 54) - 1) ∧ ∀ h110 : Hp, h110 = sI h101 75 54 ((hI h101 75 54) - 1) → 0 ≤ (hI h110 75 54) ∧ (hI h110 75 54) < 820 ∧ mX4_puts (hI h110 107 (Int.toNat (hI h110 75 54))) h110 (kN Q (fun h113 => C102 h113)) else Q rN h101) h
theorem wX4_drops {G : Gx} (hg : gF G = true) {d : Nat} {x1 : Int} {h : Hp} {Q : Rs → Hp → Prop} (hm : mX4_drops x1 h Q) : Ct G tX4_drops (d + 1) [vR 75, vI x1] h Q := by
  refine ct_enter (L0 := [some (vR 75), some (vI x1)]) rfl rfl ?_
  unfold mX4_drops at hm
  refine wh1_ind (P := fun (h101 : Hp) => Wc G tX4_drops (d + 1) h Q 0 [some (vR 75), some (vI x1)] [] h101) (fun C102 ih103 h101 hm => ?_) hm
  obtain ⟨o107, hm⟩ := hm
  refine wc_aload_n (pc := 0) (dAt dtX4_drops 0 rfl) rfl (wc_getKI hg (pc := 1) (dAt dtX4_drops 1 rfl) flX4_363_4 rfl ka75 (?_))
  have k114 : (¬ ((hI h101 75 54) ≤ 0) ∧ (¬ ((hI h101 107 (Int.toNat ((hI h101 75 54) - 1))) = 14) ∧ (¬ ((vX4_strength (hI h101 107 (Int.toNat ((hI h101 75 54) - 1))) h101) < x1)))) → Wc G tX4_drops (d + 1) h Q 41 [some (vR 75), some (vI x1)] [] h101 := fun c108 => by
    replace hm := ite_t c108 hm
    obtain ⟨o109, hm⟩ := hm
    obtain ⟨h110, eh110⟩ : ∃ h110 : Hp, h110 = sI h101 75 54 ((hI h101 75 54) - 1) := ⟨_, rfl⟩
    replace hm := hm h110 eh110
    obtain ⟨o111, o112, hm⟩ := hm
    refine wc_aload_n (pc := 41) (dAt dtX4_drops 22 rfl) rfl (wc_dup (pc := 42) (dAt dtX4_drops 23 rfl) rfl (wc_getKI hg (pc := 43) (dAt dtX4_drops 24 rfl) flX4_363_4 rfl ka75 (wc_iconst (pc := 46) (dAt dtX4_drops 25 rfl) ⟨by decide, by decide⟩ (wc_isub (pc := 47) (dAt dtX4_drops 26 rfl) o109 (wc_putKI hg (pc := 48) (dAt dtX4_drops 27 rfl) flX4_363_4 (Or.inl rfl) rfl ka75 (by decide) (okI_int _) (wc_hp eh110 (wc_aload_n (pc := 51) (dAt dtX4_drops 28 rfl) rfl (wc_aload_n (pc := 52) (dAt dtX4_drops 29 rfl) rfl (wc_getKR hg (pc := 53) (dAt dtX4_drops 30 rfl) flX4_183_4 rfl ka75 kf75_53 (wc_aload_n (pc := 56) (dAt dtX4_drops 31 rfl) rfl (wc_getKI hg (pc := 57) (dAt dtX4_drops 32 rfl) flX4_363_4 rfl ka75 (wc_ialdK hg (pc := 60) (dAt dtX4_drops 33 rfl) kr107 o111 o112 (wc_kf hg fun zk => wc_callV (k := 4) (y' := tX4_puts) (av := [vI (hI h110 107 (Int.toNat (hI h110 75 54)))]) (st := []) (pc := 61) (dAt dtX4_drops 34 rfl) lkX4_369 moX4_puts q2600 qs81 (by decide) (zk.2 _ ka75).1 rfl rfl (Nat.le_of_ble_eq_true rfl) (wX4_puts hg hm) (kr_N (fun h113 hm => ?_)) (kx_N rfl))))))))))))))
    exact wc_goto (pc := 64) (tgt := 0) (dAt dtX4_drops 35 rfl) (by decide) (ih103 _ hm)
  have k115 : ¬ (¬ ((hI h101 75 54) ≤ 0) ∧ (¬ ((hI h101 107 (Int.toNat ((hI h101 75 54) - 1))) = 14) ∧ (¬ ((vX4_strength (hI h101 107 (Int.toNat ((hI h101 75 54) - 1))) h101) < x1)))) → Wc G tX4_drops (d + 1) h Q 67 [some (vR 75), some (vI x1)] [] h101 := fun c108 => by
    replace hm := ite_f c108 hm
    exact wc_vret (pc := 67) (dAt dtX4_drops 36 rfl) rfl hm
  exact wc_if_le (pc := 4) (tgt := 67) (dAt dtX4_drops 2 rfl) (by decide) (fun c116 => (k115 (fun z => z.1 c116))) (fun c116 => wc_aload_n (pc := 7) (dAt dtX4_drops 3 rfl) rfl (wc_getKR hg (pc := 8) (dAt dtX4_drops 4 rfl) flX4_183_4 rfl ka75 kf75_53 (wc_aload_n (pc := 11) (dAt dtX4_drops 5 rfl) rfl (wc_getKI hg (pc := 12) (dAt dtX4_drops 6 rfl) flX4_363_4 rfl ka75 (wc_iconst (pc := 15) (dAt dtX4_drops 7 rfl) ⟨by decide, by decide⟩ (wc_isub (pc := 16) (dAt dtX4_drops 8 rfl) (o107 c116).1 (wc_ialdK hg (pc := 17) (dAt dtX4_drops 9 rfl) kr107 (o107 c116).2.1 (o107 c116).2.2 (wc_bipush (pc := 18) (dAt dtX4_drops 10 rfl) ⟨by decide, by decide, by decide⟩ (wc_icmp_eq (pc := 20) (tgt := 67) (dAt dtX4_drops 11 rfl) (by decide) (fun c117 => (k115 (fun z => (fun z => z.1 c117) z.2))) (fun c117 => wc_aload_n (pc := 23) (dAt dtX4_drops 12 rfl) rfl (wc_getKR hg (pc := 24) (dAt dtX4_drops 13 rfl) flX4_183_4 rfl ka75 kf75_53 (wc_aload_n (pc := 27) (dAt dtX4_drops 14 rfl) rfl (wc_getKI hg (pc := 28) (dAt dtX4_drops 15 rfl) flX4_363_4 rfl ka75 (wc_iconst (pc := 31) (dAt dtX4_drops 16 rfl) ⟨by decide, by decide⟩ (wc_isub (pc := 32) (dAt dtX4_drops 17 rfl) (o107 c116).1 (wc_ialdK hg (pc := 33) (dAt dtX4_drops 18 rfl) kr107 (o107 c116).2.1 (o107 c116).2.2 (wc_callS (y' := tX4_strength) (P := eI (vX4_strength (hI h101 107 (Int.toNat ((hI h101 75 54) - 1))) h101) h101) (pc := 34) (dAt dtX4_drops 19 rfl) lkX4_366 moX4_strength q2607 q134 rfl rfl (Nat.le_of_ble_eq_true rfl) (wX4_strength hg ⟨rfl, rfl⟩) (ep_I (wc_iload_n (pc := 37) (dAt dtX4_drops 20 rfl) rfl (wc_icmp_lt (pc := 38) (tgt := 67) (dAt dtX4_drops 21 rfl) (by decide) (fun c118 => (k115 (fun z => (fun z => (fun z => z c118) z.2) z.2))) (fun c118 => (k114 ⟨c116, ⟨c117, c118⟩⟩))))) ex_I)))))))))))))))))
