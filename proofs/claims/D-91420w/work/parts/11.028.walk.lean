set_option maxRecDepth 100000
set_option maxHeartbeats 1000000
/-! what methods do, and their walks, by program -/
def tX4_isAhead : Mt := (⟨"FlyingDoctorsModel", "isAhead", "(II)Z"⟩, prog_24_method_73_code, 3, (Option.some Jvm.ClassFile.FieldType.boolean), [])
def DX4_isAhead : List (Nat × Instr × Nat) := [(0, .aload_n 0, 1), (1, .getfield 235, 3), (4, .iload_n 1, 1), (5, .iaload, 1), (6, .aload_n 0, 1), (7, .getfield 235, 3), (10, .iload_n 2, 1), (11, .iaload, 1), (12, .if_icmp .gt 33, 3), (15, .aload_n 0, 1), (16, .getfield 235, 3), (19, .iload_n 1, 1), (20, .iaload, 1), (21, .aload_n 0, 1), (22, .getfield 235, 3), (25, .iload_n 2, 1), (26, .iaload, 1), (27, .if_icmp .ne 22, 3), (30, .aload_n 0, 1), (31, .getfield 229, 3), (34, .iload_n 1, 1), (35, .iaload, 1), (36, .aload_n 0, 1), (37, .getfield 229, 3), (40, .iload_n 2, 1), (41, .iaload, 1), (42, .if_icmp .ge 7, 3), (45, .iconst 1, 1), (46, .goto 4, 3), (49, .iconst 0, 1), (50, .ireturn, 1)]
theorem dtX4_isAhead : chkD (mB tX4_isAhead) DX4_isAhead = true := by decide +kernel
theorem moX4_isAhead : MethOk tX4_isAhead 2 := ⟨Or.inl ⟨rfl, q2765⟩, by decide +kernel, ⟨by decide, by decide⟩, by decide +kernel⟩
def vX4_isAhead (x1 : Int) (x2 : Int) (h : Hp) : Int := (b2i (((hI h 124 (Int.toNat x2)) < (hI h 124 (Int.toNat x1))) ∨ (¬ ((hI h 124 (Int.toNat x1)) ≠ (hI h 124 (Int.toNat x2))) ∧ (¬ ((hI h 122 (Int.toNat x2)) ≤ (hI h 122 (Int.toNat x1)))))))
def oX4_isAhead (x1 : Int) (x2 : Int) (h : Hp) : Prop := 0 ≤ x1 ∧ x1 < 60 ∧ 0 ≤ x2 ∧ x2 < 60
theorem wX4_isAhead {G : Gx} (hg : gF G = true) {d : Nat} {x1 : Int} {x2 : Int} {h : Hp} {Q : Rs → Hp → Prop} (hm : oX4_isAhead x1 x2 h) (hq : Q (rV (vI (vX4_isAhead x1 x2 h))) h) : Ct G tX4_isAhead (d + 0) [vR 75, vI x1, vI x2] h Q := by
  refine ct_enter (L0 := [some (vR 75), some (vI x1), some (vI x2)]) rfl rfl ?_
  obtain ⟨o101, o102, o103, o104⟩ := hm
  have k105 : (((hI h 124 (Int.toNat x2)) < (hI h 124 (Int.toNat x1))) ∨ (¬ ((hI h 124 (Int.toNat x1)) ≠ (hI h 124 (Int.toNat x2))) ∧ (¬ ((hI h 122 (Int.toNat x2)) ≤ (hI h 122 (Int.toNat x1)))))) → Wc G tX4_isAhead (d + 0) h Q 45 [some (vR 75), some (vI x1), some (vI x2)] [] h := fun c107 => by
    have z : Q (rV (vI 1)) h := by
      rw [show (vX4_isAhead x1 x2 h) = 1 from (b2i_t c107)] at hq
      exact hq
    exact wc_iconst (pc := 45) (dAt dtX4_isAhead 27 rfl) ⟨by decide, by decide⟩ (wc_goto (pc := 46) (tgt := 50) (dAt dtX4_isAhead 28 rfl) (by decide) (wc_iret (pc := 50) (dAt dtX4_isAhead 30 rfl) rfl (nar_bool (Or.inr rfl)) z))
  have k106 : ¬ (((hI h 124 (Int.toNat x2)) < (hI h 124 (Int.toNat x1))) ∨ (¬ ((hI h 124 (Int.toNat x1)) ≠ (hI h 124 (Int.toNat x2))) ∧ (¬ ((hI h 122 (Int.toNat x2)) ≤ (hI h 122 (Int.toNat x1)))))) → Wc G tX4_isAhead (d + 0) h Q 49 [some (vR 75), some (vI x1), some (vI x2)] [] h := fun c107 => by
    have z : Q (rV (vI 0)) h := by
      rw [show (vX4_isAhead x1 x2 h) = 0 from (b2i_f c107)] at hq
      exact hq
    exact wc_iconst (pc := 49) (dAt dtX4_isAhead 29 rfl) ⟨by decide, by decide⟩ (wc_iret (pc := 50) (dAt dtX4_isAhead 30 rfl) rfl (nar_bool (Or.inl rfl)) z)
  exact wc_aload_n (pc := 0) (dAt dtX4_isAhead 0 rfl) rfl (wc_getKR hg (pc := 1) (dAt dtX4_isAhead 1 rfl) flX4_235_4 rfl ka75 kf75_75 (wc_iload_n (pc := 4) (dAt dtX4_isAhead 2 rfl) rfl (wc_ialdK hg (pc := 5) (dAt dtX4_isAhead 3 rfl) kr124 o101 o102 (wc_aload_n (pc := 6) (dAt dtX4_isAhead 4 rfl) rfl (wc_getKR hg (pc := 7) (dAt dtX4_isAhead 5 rfl) flX4_235_4 rfl ka75 kf75_75 (wc_iload_n (pc := 10) (dAt dtX4_isAhead 6 rfl) rfl (wc_ialdK hg (pc := 11) (dAt dtX4_isAhead 7 rfl) kr124 o103 o104 (wc_icmp_gt (pc := 12) (tgt := 45) (dAt dtX4_isAhead 8 rfl) (by decide) (fun c108 => (k105 (Or.inl c108))) (fun c108 => wc_aload_n (pc := 15) (dAt dtX4_isAhead 9 rfl) rfl (wc_getKR hg (pc := 16) (dAt dtX4_isAhead 10 rfl) flX4_235_4 rfl ka75 kf75_75 (wc_iload_n (pc := 19) (dAt dtX4_isAhead 11 rfl) rfl (wc_ialdK hg (pc := 20) (dAt dtX4_isAhead 12 rfl) kr124 o101 o102 (wc_aload_n (pc := 21) (dAt dtX4_isAhead 13 rfl) rfl (wc_getKR hg (pc := 22) (dAt dtX4_isAhead 14 rfl) flX4_235_4 rfl ka75 kf75_75 (wc_iload_n (pc := 25) (dAt dtX4_isAhead 15 rfl) rfl (wc_ialdK hg (pc := 26) (dAt dtX4_isAhead 16 rfl) kr124 o103 o104 (wc_icmp_ne (pc := 27) (tgt := 49) (dAt dtX4_isAhead 17 rfl) (by decide) (fun c109 => (k106 (fun z => z.elim c108 (fun z => z.1 c109)))) (fun c109 => wc_aload_n (pc := 30) (dAt dtX4_isAhead 18 rfl) rfl (wc_getKR hg (pc := 31) (dAt dtX4_isAhead 19 rfl) flX4_229_4 rfl ka75 kf75_73 (wc_iload_n (pc := 34) (dAt dtX4_isAhead 20 rfl) rfl (wc_ialdK hg (pc := 35) (dAt dtX4_isAhead 21 rfl) kr122 o101 o102 (wc_aload_n (pc := 36) (dAt dtX4_isAhead 22 rfl) rfl (wc_getKR hg (pc := 37) (dAt dtX4_isAhead 23 rfl) flX4_229_4 rfl ka75 kf75_73 (wc_iload_n (pc := 40) (dAt dtX4_isAhead 24 rfl) rfl (wc_ialdK hg (pc := 41) (dAt dtX4_isAhead 25 rfl) kr122 o103 o104 (wc_icmp_ge (pc := 42) (tgt := 49) (dAt dtX4_isAhead 26 rfl) (by decide) (fun c110 => (k106 (fun z => z.elim c108 (fun z => (fun z => z c110) z.2)))) (fun c110 => (k105 (Or.inr ⟨c109, c110⟩)))))))))))))))))))))))))))))
theorem bX4_isAhead (x1 : Int) (x2 : Int) (h : Hp) : (vX4_isAhead x1 x2 h) = 0 ∨ (vX4_isAhead x1 x2 h) = 1 := (bool_b2i _)
def tX4_orders : Mt := (⟨"FlyingDoctorsModel", "orders", "()I"⟩, prog_24_method_72_code, 5, (Option.some Jvm.ClassFile.FieldType.int), [])
def DX4_orders : List (Nat × Instr × Nat) := [(0, .iconst 0, 1), (1, .istore_n 1, 1), (2, .iconst 0, 1), (3, .istore_n 2, 1), (4, .iload_n 2, 1), (5, .aload_n 0, 1), (6, .getfield 497, 3), (9, .if_icmp .ge 108, 3), (12, .aload_n 0, 1), (13, .iload_n 2, 1), (14, .invokevirtual 503, 3), (17, .istore_n 3, 1), (18, .aload_n 0, 1), (19, .iload_n 2, 1), (20, .invokevirtual 509, 3), (23, .ifCond .eq 88, 3), (26, .iload_n 3, 1), (27, .iconst (-1), 1), (28, .if_icmp .eq 14, 3), (31, .iload_n 3, 1), (32, .aload_n 0, 1), (33, .getfield 81, 3), (36, .if_icmp .gt 6, 3), (39, .goto 72, 3), (42, .aload_n 0, 1), (43, .getfield 235, 3), (46, .iload_n 2, 1), (47, .aload_n 0, 1), (48, .iload_n 2, 1), (49, .invokevirtual 512, 3), (52, .iastore, 1), (53, .iload_n 1, 1), (54, .istore 4, 2), (56, .iload 4, 2), (58, .ifCond .le 42, 3), (61, .aload_n 0, 1), (62, .iload_n 2, 1), (63, .aload_n 0, 1), (64, .getfield 232, 3), (67, .iload 4, 2), (69, .iconst 1, 1), (70, .isub, 1), (71, .iaload, 1), (72, .invokevirtual 515, 3), (75, .ifCond .eq 25, 3), (78, .aload_n 0, 1), (79, .getfield 232, 3), (82, .iload 4, 2), (84, .aload_n 0, 1), (85, .getfield 232, 3), (88, .iload 4, 2), (90, .iconst 1, 1), (91, .isub, 1), (92, .iaload, 1), (93, .iastore, 1), (94, .iinc 4 (-1), 3), (97, .goto (-41), 3), (100, .aload_n 0, 1), (101, .getfield 232, 3), (104, .iload 4, 2), (106, .iload_n 2, 1), (107, .iastore, 1), (108, .iinc 1 1, 3), (111, .iinc 2 1, 3), (114, .goto (-110), 3), (117, .iload_n 1, 1), (118, .ireturn, 1)]
theorem dtX4_orders : chkD (mB tX4_orders) DX4_orders = true := by decide +kernel
theorem moX4_orders : MethOk tX4_orders 0 := ⟨Or.inl ⟨rfl, q2761⟩, by decide +kernel, ⟨by decide, by decide⟩, by decide +kernel⟩
def mX4_orders  (h : Hp) (Q : Rs → Hp → Prop) : Prop := wh3 (fun (C104 : Int → Int → Hp → Prop) (x101 : Int) (x102 : Int) (h103 : Hp) => if ¬ ((hI h103 75 69) ≤ x102) then mX4_served x102 h103 (kI Q (fun x108 h107 => oX4_isHeard x102 h107 ∧ if ¬ ((vX4_isHeard x102 h107) = 0) then if ¬ (x108 = (-1)) ∧ (¬ ((hI h107 75 1) < x108)) then nm (x102 + 1) ∧ ∀ i113 : Int, i113 = (x102 + 1) → C104 x101 i113 h107 else mX4_priorityOf x102 h107 (kI Q (fun x115 h114 => 0 ≤ x102 ∧ x102 < 60 ∧ ∀ h118 : Hp, h118 = sI h114 124 (Int.toNat x102) x115 → wh2 (fun (C121 : Int → Hp → Prop) (x119 : Int) (h120 : Hp) => ((¬ (x119 ≤ 0) → nm (x119 - 1) ∧ 0 ≤ (x119 - 1) ∧ (x119 - 1) < 60 ∧ oX4_isAhead x102 (hI h120 123 (Int.toNat (x119 - 1))) h120)) ∧ if ¬ (x119 ≤ 0) ∧ (¬ ((vX4_isAhead x102 (hI h120 123 (Int.toNat (x119 - 1))) h120) = 0)) then nm (x119 - 1) ∧ 0 ≤ (x119 - 1) ∧ (x119 - 1) < 60 ∧ 0 ≤ x119 ∧ x119 < 60 ∧ ∀ h134 : Hp, h134 = sI h120 123 (Int.toNat x119) (hI h120 123 (Int.toNat (x119 - 1))) → nm (x119 + (-1)) ∧ ∀ i136 : Int, i136 = (x119 + (-1)) → C121 i136 h134 else 0 ≤ x119 ∧ x119 < 60 ∧ ∀ h139 : Hp, h139 = sI h120 123 (Int.toNat x119) x102 → nm (x101 + 1) ∧ ∀ i141 : Int, i141 = (x101 + 1) → nm (x102 + 1) ∧ ∀ i143 : Int, i143 = (x102 + 1) → C104 i141 i143 h139) x101 h118)) else nm (x102 + 1) ∧ ∀ i153 : Int, i153 = (x102 + 1) → C104 x101 i153 h107)) else Q (rV (vI x101)) h103) 0 0 h
theorem wX4_orders {G : Gx} (hg : gF G = true) {d : Nat}  {h : Hp} {Q : Rs → Hp → Prop} (hm : mX4_orders  h Q) : Ct G tX4_orders (d + 4) [vR 75] h Q := by
  refine ct_enter (L0 := [some (vR 75), none, none, none, none]) rfl rfl ?_
  unfold mX4_orders at hm
  refine wc_iconst (pc := 0) (dAt dtX4_orders 0 rfl) ⟨by decide, by decide⟩ (wc_istore_n (pc := 1) (dAt dtX4_orders 1 rfl) (by decide) (wc_L (L' := [some (vR 75), some (vI 0), none, none, none]) rfl (wc_iconst (pc := 2) (dAt dtX4_orders 2 rfl) ⟨by decide, by decide⟩ (wc_istore_n (pc := 3) (dAt dtX4_orders 3 rfl) (by decide) (wc_L (L' := [some (vR 75), some (vI 0), some (vI 0), none, none]) rfl (?_))))))
  refine wh3_ind (P := fun (x101 : Int) (x102 : Int) (h103 : Hp) => Wc G tX4_orders (d + 4) h Q 4 [some (vR 75), some (vI x101), some (vI x102), none, none] [] h103) (fun C104 ih105 x101 x102 h103 hm => ?_) hm
  refine wc_iload_n (pc := 4) (dAt dtX4_orders 4 rfl) rfl (wc_aload_n (pc := 5) (dAt dtX4_orders 5 rfl) rfl (wc_getKI hg (pc := 6) (dAt dtX4_orders 6 rfl) flX4_497_4 rfl ka75 (wc_icmp_ge (pc := 9) (tgt := 117) (dAt dtX4_orders 7 rfl) (by decide) (fun c106 => ?_) (fun c106 => ?_))))
  · replace hm := ite_f (fun z => z c106) hm
    exact wc_iload_n (pc := 117) (dAt dtX4_orders 65 rfl) rfl (wc_iret (pc := 118) (dAt dtX4_orders 66 rfl) rfl (nar_int _) hm)
  · replace hm := ite_t c106 hm
    refine wc_aload_n (pc := 12) (dAt dtX4_orders 8 rfl) rfl (wc_iload_n (pc := 13) (dAt dtX4_orders 9 rfl) rfl (wc_kf hg fun zk => wc_callV (k := 4) (y' := tX4_served) (av := [vI x102]) (st := []) (pc := 14) (dAt dtX4_orders 10 rfl) lkX4_503 moX4_served q2736 qs101 (by decide) (zk.2 _ ka75).1 rfl rfl (Nat.le_of_ble_eq_true rfl) (wX4_served hg hm) (kr_I (fun x108 h107 hm => ?_)) (kx_I rfl)))
    obtain ⟨o109, hm⟩ := hm
    refine wc_istore_n (pc := 17) (dAt dtX4_orders 11 rfl) (by decide) (wc_L (L' := [some (vR 75), some (vI x101), some (vI x102), some (vI x108), none]) rfl (wc_aload_n (pc := 18) (dAt dtX4_orders 12 rfl) rfl (wc_iload_n (pc := 19) (dAt dtX4_orders 13 rfl) rfl (wc_kf hg fun zk => wc_callV (k := 4) (y' := tX4_isHeard) (P := eI (vX4_isHeard x102 h107) h107) (pc := 20) (dAt dtX4_orders 14 rfl) lkX4_509 moX4_isHeard q2744 qs102 (by decide) (zk.2 _ ka75).1 rfl rfl (Nat.le_of_ble_eq_true rfl) (wX4_isHeard hg o109 ⟨rfl, rfl⟩) (ep_I (wc_if_eq (pc := 23) (tgt := 111) (dAt dtX4_orders 15 rfl) (by decide) (fun c110 => ?_) (fun c110 => ?_))) ex_I))))
    · replace hm := ite_f (fun z => z c110) hm
      obtain ⟨o152, hm⟩ := hm
      obtain ⟨i153, ei153⟩ : ∃ i153 : Int, i153 = (x102 + 1) := ⟨_, rfl⟩
      replace hm := hm i153 ei153
      exact wc_iinc (v := i153) (pc := 111) (dAt dtX4_orders 63 rfl) rfl ei153 (ei153 ▸ o152) (by decide) (wc_L (L' := [some (vR 75), some (vI x101), some (vI i153), some (vI x108), none]) rfl (wc_goto (pc := 114) (tgt := 4) (dAt dtX4_orders 64 rfl) (by decide) (wc_drp [3] rfl (ih105 _ _ _ hm))))
    · replace hm := ite_t c110 hm
      refine wc_iload_n (pc := 26) (dAt dtX4_orders 16 rfl) rfl (wc_iconst (pc := 27) (dAt dtX4_orders 17 rfl) ⟨by decide, by decide⟩ (?_))
      have k148 : (¬ (x108 = (-1)) ∧ (¬ ((hI h107 75 1) < x108))) → Wc G tX4_orders (d + 4) h Q 39 [some (vR 75), some (vI x101), some (vI x102), some (vI x108), none] [] h107 := fun c111 => by
        replace hm := ite_t c111 hm
        obtain ⟨o112, hm⟩ := hm
        obtain ⟨i113, ei113⟩ : ∃ i113 : Int, i113 = (x102 + 1) := ⟨_, rfl⟩
        replace hm := hm i113 ei113
        exact wc_goto (pc := 39) (tgt := 111) (dAt dtX4_orders 23 rfl) (by decide) (wc_iinc (v := i113) (pc := 111) (dAt dtX4_orders 63 rfl) rfl ei113 (ei113 ▸ o112) (by decide) (wc_L (L' := [some (vR 75), some (vI x101), some (vI i113), some (vI x108), none]) rfl (wc_goto (pc := 114) (tgt := 4) (dAt dtX4_orders 64 rfl) (by decide) (wc_drp [3] rfl (ih105 _ _ _ hm)))))
      have k149 : ¬ (¬ (x108 = (-1)) ∧ (¬ ((hI h107 75 1) < x108))) → Wc G tX4_orders (d + 4) h Q 42 [some (vR 75), some (vI x101), some (vI x102), some (vI x108), none] [] h107 := fun c111 => by
        replace hm := ite_f c111 hm
        refine wc_aload_n (pc := 42) (dAt dtX4_orders 24 rfl) rfl (wc_getKR hg (pc := 43) (dAt dtX4_orders 25 rfl) flX4_235_4 rfl ka75 kf75_75 (wc_iload_n (pc := 46) (dAt dtX4_orders 26 rfl) rfl (wc_aload_n (pc := 47) (dAt dtX4_orders 27 rfl) rfl (wc_iload_n (pc := 48) (dAt dtX4_orders 28 rfl) rfl (wc_kf hg fun zk => wc_callV (k := 4) (y' := tX4_priorityOf) (av := [vI x102]) (st := [vI x102, vR 124]) (pc := 49) (dAt dtX4_orders 29 rfl) lkX4_512 moX4_priorityOf q2748 qs103 (by decide) (zk.2 _ ka75).1 rfl rfl (Nat.le_of_ble_eq_true rfl) (wX4_priorityOf hg hm) (kr_I (fun x115 h114 hm => ?_)) (kx_I rfl))))))
        obtain ⟨o116, o117, hm⟩ := hm
        obtain ⟨h118, eh118⟩ : ∃ h118 : Hp, h118 = sI h114 124 (Int.toNat x102) x115 := ⟨_, rfl⟩
        replace hm := hm h118 eh118
        refine wc_iastK hg (pc := 52) (dAt dtX4_orders 30 rfl) kr124 (by decide) o116 o117 (wc_hp eh118 (wc_iload_n (pc := 53) (dAt dtX4_orders 31 rfl) rfl (wc_istore (pc := 54) (dAt dtX4_orders 32 rfl) (by decide) (wc_L (L' := [some (vR 75), some (vI x101), some (vI x102), some (vI x108), some (vI x101)]) rfl (wc_drp [3] rfl (wc_L (L' := [some (vR 75), some (vI x101), some (vI x102), none, some (vI x101)]) rfl (?_)))))))
        refine wh2_ind (P := fun (x119 : Int) (h120 : Hp) => Wc G tX4_orders (d + 4) h Q 56 [some (vR 75), some (vI x101), some (vI x102), none, some (vI x119)] [] h120) (fun C121 ih122 x119 h120 hm => ?_) hm
        obtain ⟨o127, hm⟩ := hm
        refine wc_iload (pc := 56) (dAt dtX4_orders 33 rfl) rfl (?_)
        have k144 : (¬ (x119 ≤ 0) ∧ (¬ ((vX4_isAhead x102 (hI h120 123 (Int.toNat (x119 - 1))) h120) = 0))) → Wc G tX4_orders (d + 4) h Q 78 [some (vR 75), some (vI x101), some (vI x102), none, some (vI x119)] [] h120 := fun c128 => by
          replace hm := ite_t c128 hm
          obtain ⟨o129, o130, o131, o132, o133, hm⟩ := hm
          obtain ⟨h134, eh134⟩ : ∃ h134 : Hp, h134 = sI h120 123 (Int.toNat x119) (hI h120 123 (Int.toNat (x119 - 1))) := ⟨_, rfl⟩
          replace hm := hm h134 eh134
          obtain ⟨o135, hm⟩ := hm
          obtain ⟨i136, ei136⟩ : ∃ i136 : Int, i136 = (x119 + (-1)) := ⟨_, rfl⟩
          replace hm := hm i136 ei136
          exact wc_aload_n (pc := 78) (dAt dtX4_orders 45 rfl) rfl (wc_getKR hg (pc := 79) (dAt dtX4_orders 46 rfl) flX4_232_4 rfl ka75 kf75_74 (wc_iload (pc := 82) (dAt dtX4_orders 47 rfl) rfl (wc_aload_n (pc := 84) (dAt dtX4_orders 48 rfl) rfl (wc_getKR hg (pc := 85) (dAt dtX4_orders 49 rfl) flX4_232_4 rfl ka75 kf75_74 (wc_iload (pc := 88) (dAt dtX4_orders 50 rfl) rfl (wc_iconst (pc := 90) (dAt dtX4_orders 51 rfl) ⟨by decide, by decide⟩ (wc_isub (pc := 91) (dAt dtX4_orders 52 rfl) o129 (wc_ialdK hg (pc := 92) (dAt dtX4_orders 53 rfl) kr123 o130 o131 (wc_iastK hg (pc := 93) (dAt dtX4_orders 54 rfl) kr123 (by decide) o132 o133 (wc_hp eh134 (wc_iinc (v := i136) (pc := 94) (dAt dtX4_orders 55 rfl) rfl ei136 (ei136 ▸ o135) (by decide) (wc_L (L' := [some (vR 75), some (vI x101), some (vI x102), none, some (vI i136)]) rfl (wc_goto (pc := 97) (tgt := 56) (dAt dtX4_orders 56 rfl) (by decide) (ih122 _ _ hm))))))))))))))
        have k145 : ¬ (¬ (x119 ≤ 0) ∧ (¬ ((vX4_isAhead x102 (hI h120 123 (Int.toNat (x119 - 1))) h120) = 0))) → Wc G tX4_orders (d + 4) h Q 100 [some (vR 75), some (vI x101), some (vI x102), none, some (vI x119)] [] h120 := fun c128 => by
          replace hm := ite_f c128 hm
          obtain ⟨o137, o138, hm⟩ := hm
          obtain ⟨h139, eh139⟩ : ∃ h139 : Hp, h139 = sI h120 123 (Int.toNat x119) x102 := ⟨_, rfl⟩
          replace hm := hm h139 eh139
          obtain ⟨o140, hm⟩ := hm
          obtain ⟨i141, ei141⟩ : ∃ i141 : Int, i141 = (x101 + 1) := ⟨_, rfl⟩
          replace hm := hm i141 ei141
          obtain ⟨o142, hm⟩ := hm
          obtain ⟨i143, ei143⟩ : ∃ i143 : Int, i143 = (x102 + 1) := ⟨_, rfl⟩
          replace hm := hm i143 ei143
          exact wc_aload_n (pc := 100) (dAt dtX4_orders 57 rfl) rfl (wc_getKR hg (pc := 101) (dAt dtX4_orders 58 rfl) flX4_232_4 rfl ka75 kf75_74 (wc_iload (pc := 104) (dAt dtX4_orders 59 rfl) rfl (wc_iload_n (pc := 106) (dAt dtX4_orders 60 rfl) rfl (wc_iastK hg (pc := 107) (dAt dtX4_orders 61 rfl) kr123 (by decide) o137 o138 (wc_hp eh139 (wc_iinc (v := i141) (pc := 108) (dAt dtX4_orders 62 rfl) rfl ei141 (ei141 ▸ o140) (by decide) (wc_L (L' := [some (vR 75), some (vI i141), some (vI x102), none, some (vI x119)]) rfl (wc_iinc (v := i143) (pc := 111) (dAt dtX4_orders 63 rfl) rfl ei143 (ei143 ▸ o142) (by decide) (wc_L (L' := [some (vR 75), some (vI i141), some (vI i143), none, some (vI x119)]) rfl (wc_goto (pc := 114) (tgt := 4) (dAt dtX4_orders 64 rfl) (by decide) (wc_drp [4] rfl (ih105 _ _ _ hm))))))))))))
        exact wc_if_le (pc := 58) (tgt := 100) (dAt dtX4_orders 34 rfl) (by decide) (fun c146 => (k145 (fun z => z.1 c146))) (fun c146 => wc_aload_n (pc := 61) (dAt dtX4_orders 35 rfl) rfl (wc_iload_n (pc := 62) (dAt dtX4_orders 36 rfl) rfl (wc_aload_n (pc := 63) (dAt dtX4_orders 37 rfl) rfl (wc_getKR hg (pc := 64) (dAt dtX4_orders 38 rfl) flX4_232_4 rfl ka75 kf75_74 (wc_iload (pc := 67) (dAt dtX4_orders 39 rfl) rfl (wc_iconst (pc := 69) (dAt dtX4_orders 40 rfl) ⟨by decide, by decide⟩ (wc_isub (pc := 70) (dAt dtX4_orders 41 rfl) (o127 c146).1 (wc_ialdK hg (pc := 71) (dAt dtX4_orders 42 rfl) kr123 (o127 c146).2.1 (o127 c146).2.2.1 (wc_kf hg fun zk => wc_callV (k := 4) (y' := tX4_isAhead) (P := eI (vX4_isAhead x102 (hI h120 123 (Int.toNat (x119 - 1))) h120) h120) (pc := 72) (dAt dtX4_orders 43 rfl) lkX4_515 moX4_isAhead q2764 qs106 (by decide) (zk.2 _ ka75).1 rfl rfl (Nat.le_of_ble_eq_true rfl) (wX4_isAhead hg (o127 c146).2.2.2 ⟨rfl, rfl⟩) (ep_I (wc_if_eq (pc := 75) (tgt := 100) (dAt dtX4_orders 44 rfl) (by decide) (fun c147 => (k145 (fun z => (fun z => z c147) z.2))) (fun c147 => (k144 ⟨c146, c147⟩)))) ex_I)))))))))
      exact wc_icmp_eq (pc := 28) (tgt := 42) (dAt dtX4_orders 18 rfl) (by decide) (fun c150 => (k149 (fun z => z.1 c150))) (fun c150 => wc_iload_n (pc := 31) (dAt dtX4_orders 19 rfl) rfl (wc_aload_n (pc := 32) (dAt dtX4_orders 20 rfl) rfl (wc_getKI hg (pc := 33) (dAt dtX4_orders 21 rfl) flX4_81_4 rfl ka75 (wc_icmp_gt (pc := 36) (tgt := 42) (dAt dtX4_orders 22 rfl) (by decide) (fun c151 => (k149 (fun z => (fun z => z c151) z.2))) (fun c151 => (k148 ⟨c150, c151⟩))))))
def tX4_order : Mt := (⟨"FlyingDoctorsModel", "order", "(I)I"⟩, prog_24_method_74_code, 3, (Option.some Jvm.ClassFile.FieldType.int), [])
def DX4_order : List (Nat × Instr × Nat) := [(0, .aload_n 0, 1), (1, .iconst 0, 1), (2, .putfield 1, 3), (5, .aload_n 0, 1), (6, .invokevirtual 518, 3), (9, .istore_n 2, 1), (10, .aload_n 0, 1), (11, .iload_n 1, 1), (12, .iconst (-1), 1), (13, .if_icmp .lt 12, 3), (16, .iload_n 1, 1), (17, .iload_n 2, 1), (18, .if_icmp .ge 7, 3), (21, .iconst 1, 1), (22, .goto 4, 3), (25, .iconst 0, 1), (26, .iconst 1, 1), (27, .invokevirtual 10, 3), (30, .ifCond .ne 5, 3), (33, .iconst 0, 1), (34, .ireturn, 1), (35, .iload_n 1, 1), (36, .iconst (-1), 1), (37, .if_icmp .ne 7, 3), (40, .iload_n 2, 1), (41, .goto 9, 3), (44, .aload_n 0, 1), (45, .getfield 232, 3), (48, .iload_n 1, 1), (49, .iaload, 1), (50, .ireturn, 1)]
theorem dtX4_order : chkD (mB tX4_order) DX4_order = true := by decide +kernel
theorem moX4_order : MethOk tX4_order 1 := ⟨Or.inl ⟨rfl, q2757⟩, by decide +kernel, ⟨by decide, by decide⟩, by decide +kernel⟩
def mX4_order (x1 : Int) (h : Hp) (Q : Rs → Hp → Prop) : Prop := ∀ h101 : Hp, h101 = sI h 75 0 0 → mX4_orders h101 (kI Q (fun x103 h102 => ∀ v104 : Int, v104 = (b2i (¬ (x1 < (-1)) ∧ (¬ (x103 ≤ x1)))) → mX4_right v104 1 h102 (kI Q (fun x106 h105 => if ¬ (x106 ≠ 0) then Q (rV (vI 0)) h105 else ((¬ (¬ (x1 ≠ (-1))) → 0 ≤ x1 ∧ x1 < 60)) ∧ ∀ v111 : Int, v111 = (if ¬ (x1 ≠ (-1)) then x103 else (hI h105 123 (Int.toNat x1))) → Q (rV (vI v111)) h105))))
theorem wX4_order {G : Gx} (hg : gF G = true) {d : Nat} {x1 : Int} {h : Hp} {Q : Rs → Hp → Prop} (hm : mX4_order x1 h Q) : Ct G tX4_order (d + 5) [vR 75, vI x1] h Q := by
  refine ct_enter (L0 := [some (vR 75), some (vI x1), none]) rfl rfl ?_
  unfold mX4_order at hm
  obtain ⟨h101, eh101⟩ : ∃ h101 : Hp, h101 = sI h 75 0 0 := ⟨_, rfl⟩
  replace hm := hm h101 eh101
  refine wc_aload_n (pc := 0) (dAt dtX4_order 0 rfl) rfl (wc_iconst (pc := 1) (dAt dtX4_order 1 rfl) ⟨by decide, by decide⟩ (wc_putKI hg (pc := 2) (dAt dtX4_order 2 rfl) flX4_1_4 (Or.inl rfl) rfl ka75 (by decide) (okI_int _) (wc_hp eh101 (wc_aload_n (pc := 5) (dAt dtX4_order 3 rfl) rfl (wc_kf hg fun zk => wc_callV (k := 4) (y' := tX4_orders) (av := []) (st := []) (pc := 6) (dAt dtX4_order 4 rfl) lkX4_518 moX4_orders q2760 qs105 (by decide) (zk.2 _ ka75).1 rfl rfl (Nat.le_of_ble_eq_true rfl) (wX4_orders hg hm) (kr_I (fun x103 h102 hm => ?_)) (kx_I rfl))))))
  obtain ⟨v104, ev104⟩ : ∃ v104 : Int, v104 = (b2i (¬ (x1 < (-1)) ∧ (¬ (x103 ≤ x1)))) := ⟨_, rfl⟩
  replace hm := hm v104 ev104
  refine wc_istore_n (pc := 9) (dAt dtX4_order 5 rfl) (by decide) (wc_L (L' := [some (vR 75), some (vI x1), some (vI x103)]) rfl (wc_aload_n (pc := 10) (dAt dtX4_order 6 rfl) rfl (wc_iload_n (pc := 11) (dAt dtX4_order 7 rfl) rfl (wc_iconst (pc := 12) (dAt dtX4_order 8 rfl) ⟨by decide, by decide⟩ (?_)))))
  have kj122 : Wc G tX4_order (d + 5) h Q 26 [some (vR 75), some (vI x1), some (vI x103)] [vI v104, vR 75] h102 := by
    refine wc_iconst (pc := 26) (dAt dtX4_order 16 rfl) ⟨by decide, by decide⟩ (wc_kf hg fun zk => wc_callV (k := 4) (y' := tX4_right) (av := [vI v104, vI 1]) (st := []) (pc := 27) (dAt dtX4_order 17 rfl) lkX4_10 moX4_right q2152 qs64 (by decide) (zk.2 _ ka75).1 rfl rfl (Nat.le_of_ble_eq_true rfl) (wX4_right hg hm) (kr_I (fun x106 h105 hm => ?_)) (kx_I rfl))
    refine wc_if_ne (pc := 30) (tgt := 35) (dAt dtX4_order 18 rfl) (by decide) (fun c107 => ?_) (fun c107 => ?_)
    · replace hm := ite_f (fun z => z c107) hm
      obtain ⟨o110, hm⟩ := hm
      obtain ⟨v111, ev111⟩ : ∃ v111 : Int, v111 = (if ¬ (x1 ≠ (-1)) then x103 else (hI h105 123 (Int.toNat x1))) := ⟨_, rfl⟩
      replace hm := hm v111 ev111
      refine wc_iload_n (pc := 35) (dAt dtX4_order 21 rfl) rfl (wc_iconst (pc := 36) (dAt dtX4_order 22 rfl) ⟨by decide, by decide⟩ (?_))
      have kj112 : Wc G tX4_order (d + 5) h Q 50 [some (vR 75), none, none] [vI v111] h105 := by
        exact wc_iret (pc := 50) (dAt dtX4_order 30 rfl) rfl (nar_int _) hm
      have p113 := o110
      have k114 : (¬ (x1 ≠ (-1))) → Wc G tX4_order (d + 5) h Q 40 [some (vR 75), some (vI x1), some (vI x103)] [] h105 := fun c116 => by
        have z117 := kj112
        rw [show v111 = x103 from ev111.trans (if_pos c116)] at z117
        exact wc_iload_n (pc := 40) (dAt dtX4_order 24 rfl) rfl (wc_goto (pc := 41) (tgt := 50) (dAt dtX4_order 25 rfl) (by decide) (wc_drp [1, 2] rfl (z117)))
      have k115 : ¬ (¬ (x1 ≠ (-1))) → Wc G tX4_order (d + 5) h Q 44 [some (vR 75), some (vI x1), some (vI x103)] [] h105 := fun c116 => by
        obtain ⟨o108, o109⟩ := (p113 c116)
        have z119 := kj112
        rw [show v111 = (hI h105 123 (Int.toNat x1)) from ev111.trans (if_neg c116)] at z119
        exact wc_aload_n (pc := 44) (dAt dtX4_order 26 rfl) rfl (wc_getKR hg (pc := 45) (dAt dtX4_order 27 rfl) flX4_232_4 rfl ka75 kf75_74 (wc_iload_n (pc := 48) (dAt dtX4_order 28 rfl) rfl (wc_ialdK hg (pc := 49) (dAt dtX4_order 29 rfl) kr123 o108 o109 (wc_drp [1, 2] rfl (z119)))))
      exact wc_icmp_ne (pc := 37) (tgt := 44) (dAt dtX4_order 23 rfl) (by decide) (fun c121 => (k115 (fun z => z c121))) (fun c121 => (k114 c121))
    · replace hm := ite_t c107 hm
      exact wc_iconst (pc := 33) (dAt dtX4_order 19 rfl) ⟨by decide, by decide⟩ (wc_iret (pc := 34) (dAt dtX4_order 20 rfl) rfl (nar_int _) hm)
  have k123 : (¬ (x1 < (-1)) ∧ (¬ (x103 ≤ x1))) → Wc G tX4_order (d + 5) h Q 21 [some (vR 75), some (vI x1), some (vI x103)] [vR 75] h102 := fun c125 => by
    have z126 := kj122
    rw [show v104 = 1 from ev104.trans (b2i_t c125)] at z126
    exact wc_iconst (pc := 21) (dAt dtX4_order 13 rfl) ⟨by decide, by decide⟩ (wc_goto (pc := 22) (tgt := 26) (dAt dtX4_order 14 rfl) (by decide) (z126))
  have k124 : ¬ (¬ (x1 < (-1)) ∧ (¬ (x103 ≤ x1))) → Wc G tX4_order (d + 5) h Q 25 [some (vR 75), some (vI x1), some (vI x103)] [vR 75] h102 := fun c125 => by
    have z128 := kj122
    rw [show v104 = 0 from ev104.trans (b2i_f c125)] at z128
    exact wc_iconst (pc := 25) (dAt dtX4_order 15 rfl) ⟨by decide, by decide⟩ (z128)
  exact wc_icmp_lt (pc := 13) (tgt := 25) (dAt dtX4_order 9 rfl) (by decide) (fun c130 => (k124 (fun z => z.1 c130))) (fun c130 => wc_iload_n (pc := 16) (dAt dtX4_order 10 rfl) rfl (wc_iload_n (pc := 17) (dAt dtX4_order 11 rfl) rfl (wc_icmp_ge (pc := 18) (tgt := 25) (dAt dtX4_order 12 rfl) (by decide) (fun c131 => (k124 (fun z => (fun z => z c131) z.2))) (fun c131 => (k123 ⟨c130, c131⟩)))))
def tX1_find : Mt := (⟨"FlyingDoctors", "find", "(IZ)Z"⟩, prog_1_method_43_code, 4, (Option.some Jvm.ClassFile.FieldType.boolean), [])
def DX1_find : List (Nat × Instr × Nat) := [(0, .aload_n 0, 1), (1, .iload_n 1, 1), (2, .invokevirtual 388, 3), (5, .astore_n 3, 1), (6, .aload_n 3, 1), (7, .invokevirtual 402, 3), (10, .ifCond .eq 18, 3), (13, .aload_n 0, 1), (14, .getfield 278, 3), (17, .invokeinterface 16 1, 5), (22, .sipush 150, 3), (25, .if_icmp .ne 5, 3), (28, .iconst 0, 1), (29, .ireturn, 1), (30, .aload_n 0, 1), (31, .getfield 278, 3), (34, .new 69, 3), (37, .dup, 1), (38, .iload_n 1, 1), (39, .iconst 0, 1), (40, .iload_n 2, 1), (41, .ifCond .eq 7, 3), (44, .iconst 1, 1), (45, .goto 4, 3), (48, .iconst 0, 1), (49, .aload_n 0, 1), (50, .getfield 173, 3), (53, .invokespecial 368, 3), (56, .invokeinterface 262 2, 5), (61, .pop, 1), (62, .iconst 1, 1), (63, .ireturn, 1)]
theorem dtX1_find : chkD (mB tX1_find) DX1_find = true := by decide +kernel
theorem moX1_find : MethOk tX1_find 2 := ⟨Or.inl ⟨rfl, q1789⟩, by decide +kernel, ⟨by decide, by decide⟩, by decide +kernel⟩
def mX1_find (x1 : Int) (x2 : Int) (h : Hp) (Q : Rs → Hp → Prop) : Prop := mX1_callAt x1 h (kR Q (fun r102 h101 => oX19_isHeard r102 h101 ∧ ob h101 r102 19 ∧ ((¬ ((vX19_isHeard r102 h101) = 0) → oJ2_size 60 h101)) ∧ if ((vX19_isHeard r102 h101) = 0) ∨ (¬ ((vJ2_size 60 h101) ≠ 150)) then Q (rV (vI 0)) h101 else hn h101 + 1 ≤ 878547 ∧ hq h101 + 4 ≤ 6460613 ∧ ∀ r111 : Nat, r111 = hn h101 → ∀ h112 : Hp, h112 = nw h101 18 0 4 → ∀ v113 : Int, v113 = (b2i (¬ (x2 = 0))) → mX18_init r111 x1 0 v113 (hI h112 50 20) h112 (kN Q (fun h114 => mJ2_add 60 r111 h114 (kI Q (fun x116 h115 => Q (rV (vI 1)) h115))))))
theorem wX1_find {G : Gx} (hg : gF G = true) {d : Nat} {x1 : Int} {x2 : Int} {h : Hp} {Q : Rs → Hp → Prop} (hm : mX1_find x1 x2 h Q) : Ct G tX1_find (d + 10) [vR 50, vI x1, vI x2] h Q := by
  refine ct_enter (L0 := [some (vR 50), some (vI x1), some (vI x2), none]) rfl rfl ?_
  unfold mX1_find at hm
  refine wc_aload_n (pc := 0) (dAt dtX1_find 0 rfl) rfl (wc_iload_n (pc := 1) (dAt dtX1_find 1 rfl) rfl (wc_kf hg fun zk => wc_callV (k := 1) (y' := tX1_callAt) (av := [vI x1]) (st := []) (pc := 2) (dAt dtX1_find 2 rfl) lkX1_388 moX1_callAt q1707 qs39 (by decide) (zk.2 _ ka50).1 rfl rfl (Nat.le_of_ble_eq_true rfl) (wX1_callAt hg hm) (kr_R (fun r102 h101 hm => ?_)) (kx_R rfl)))
  obtain ⟨o103, o104, o106, hm⟩ := hm
  refine wc_astore_n (pc := 5) (dAt dtX1_find 3 rfl) (by decide) (wc_L (L' := [some (vR 50), some (vI x1), some (vI x2), some (vR r102)]) rfl (wc_aload_n (pc := 6) (dAt dtX1_find 4 rfl) rfl (wc_callV (k := 19) (y' := tX19_isHeard) (P := eI (vX19_isHeard r102 h101) h101) (pc := 7) (dAt dtX1_find 5 rfl) lkX1_402 moX19_isHeard q1731 q1732 (by decide) o104 rfl rfl (Nat.le_of_ble_eq_true rfl) (wX19_isHeard hg o103 ⟨rfl, rfl⟩) (ep_I (?_)) ex_I)))
  have k126 : (((vX19_isHeard r102 h101) = 0) ∨ (¬ ((vJ2_size 60 h101) ≠ 150))) → Wc G tX1_find (d + 10) h Q 28 [some (vR 50), some (vI x1), some (vI x2), some (vR r102)] [] h101 := fun c107 => by
    replace hm := ite_t c107 hm
    exact wc_iconst (pc := 28) (dAt dtX1_find 12 rfl) ⟨by decide, by decide⟩ (wc_iret (pc := 29) (dAt dtX1_find 13 rfl) rfl (nar_bool (Or.inl rfl)) hm)
  have k127 : ¬ (((vX19_isHeard r102 h101) = 0) ∨ (¬ ((vJ2_size 60 h101) ≠ 150))) → Wc G tX1_find (d + 10) h Q 30 [some (vR 50), some (vI x1), some (vI x2), some (vR r102)] [] h101 := fun c107 => by
    replace hm := ite_f c107 hm
    obtain ⟨o108, o109, hm⟩ := hm
    obtain ⟨r111, er111⟩ : ∃ r111 : Nat, r111 = hn h101 := ⟨_, rfl⟩
    replace hm := hm r111 er111
    obtain ⟨h112, eh112⟩ : ∃ h112 : Hp, h112 = nw h101 18 0 4 := ⟨_, rfl⟩
    replace hm := hm h112 eh112
    obtain ⟨v113, ev113⟩ : ∃ v113 : Int, v113 = (b2i (¬ (x2 = 0))) := ⟨_, rfl⟩
    replace hm := hm v113 ev113
    refine wc_aload_n (pc := 30) (dAt dtX1_find 14 rfl) rfl (wc_getKR hg (pc := 31) (dAt dtX1_find 15 rfl) flX1_278_1 rfl ka50 kf50_10 (wc_k0 fun n110 => (wc_new (k := 18) (pc := 34) (dAt dtX1_find 16 rfl) q1502 q1503 q167 (by decide) o108 o109 (wc_hp eh112 (wc_vr er111 (wc_dup (pc := 37) (dAt dtX1_find 17 rfl) rfl (wc_iload_n (pc := 38) (dAt dtX1_find 18 rfl) rfl (wc_iconst (pc := 39) (dAt dtX1_find 19 rfl) ⟨by decide, by decide⟩ (wc_iload_n (pc := 40) (dAt dtX1_find 20 rfl) rfl (?_))))))))))
    have kj117 : Wc G tX1_find (d + 10) h Q 49 [some (vR 50), none, none, none] [vI v113, vI 0, vI x1, vR r111, vR r111, vR 60] h112 := by
      refine wc_aload_n (pc := 49) (dAt dtX1_find 25 rfl) rfl (wc_getKI hg (pc := 50) (dAt dtX1_find 26 rfl) flX1_173_1 rfl ka50 (wc_callI (y' := tX18_init) (av := [vI x1, vI 0, vI v113, vI (hI h112 50 20)]) (st := [vR r111, vR 60]) (pc := 53) (dAt dtX1_find 27 rfl) lkX1_368 moX18_init q1505 rfl q1506 (k0_at er111 n110) rfl rfl (Nat.le_of_ble_eq_true rfl) (wX18_init hg hm) (kr_N (fun h114 hm => ?_)) (kx_N rfl)))
      refine wc_kf hg fun zk => (wc_callF (k := 32) (x := ⟨"java/util/List", "add", "(Ljava/lang/Object;)Z"⟩) (y' := tJ2_add) (av := [vR r111]) (st := []) (pc := 56) (dAt dtX1_find 28 rfl) q422 q424 q423 ⟨by decide, by decide⟩ moJ2_add rfl q427 q428 q426 q367 q425 (by decide) (zk.2 _ ka60).1 rfl rfl (Nat.le_of_ble_eq_true rfl) (wJ2_add hg hm) (kr_I (fun x116 h115 hm => ?_)) (kx_I rfl))
      exact wc_pop (pc := 61) (dAt dtX1_find 29 rfl) rfl (wc_iconst (pc := 62) (dAt dtX1_find 30 rfl) ⟨by decide, by decide⟩ (wc_iret (pc := 63) (dAt dtX1_find 31 rfl) rfl (nar_bool (Or.inr rfl)) hm))
    have k118 : (¬ (x2 = 0)) → Wc G tX1_find (d + 10) h Q 44 [some (vR 50), some (vI x1), some (vI x2), some (vR r102)] [vI 0, vI x1, vR r111, vR r111, vR 60] h112 := fun c120 => by
      have z121 := kj117
      rw [show v113 = 1 from ev113.trans (b2i_t c120)] at z121
      exact wc_iconst (pc := 44) (dAt dtX1_find 22 rfl) ⟨by decide, by decide⟩ (wc_goto (pc := 45) (tgt := 49) (dAt dtX1_find 23 rfl) (by decide) (wc_drp [1, 2, 3] rfl (z121)))
    have k119 : ¬ (¬ (x2 = 0)) → Wc G tX1_find (d + 10) h Q 48 [some (vR 50), some (vI x1), some (vI x2), some (vR r102)] [vI 0, vI x1, vR r111, vR r111, vR 60] h112 := fun c120 => by
      have z123 := kj117
      rw [show v113 = 0 from ev113.trans (b2i_f c120)] at z123
      exact wc_iconst (pc := 48) (dAt dtX1_find 24 rfl) ⟨by decide, by decide⟩ (wc_drp [1, 2, 3] rfl (z123))
    exact wc_if_eq (pc := 41) (tgt := 48) (dAt dtX1_find 21 rfl) (by decide) (fun c125 => (k119 (fun z => z c125))) (fun c125 => (k118 c125))
  exact wc_if_eq (pc := 10) (tgt := 28) (dAt dtX1_find 6 rfl) (by decide) (fun c128 => (k126 (Or.inl c128))) (fun c128 => wc_aload_n (pc := 13) (dAt dtX1_find 7 rfl) rfl (wc_getKR hg (pc := 14) (dAt dtX1_find 8 rfl) flX1_278_1 rfl ka50 kf50_10 (wc_kf hg fun zk => (wc_callF (k := 32) (x := ⟨"java/util/List", "size", "()I"⟩) (y' := tJ2_size) (P := eI (vJ2_size 60 h101) h101) (pc := 17) (dAt dtX1_find 9 rfl) q364 q366 q365 ⟨by decide, by decide⟩ moJ2_size rfl q370 q371 q369 q367 q368 (by decide) (zk.2 _ ka60).1 rfl rfl (Nat.le_of_ble_eq_true rfl) (wJ2_size hg (o106 c128) ⟨rfl, rfl⟩) (ep_I (wc_sipush (pc := 22) (dAt dtX1_find 10 rfl) ⟨by decide, by decide, by decide⟩ (wc_icmp_ne (pc := 25) (tgt := 30) (dAt dtX1_find 11 rfl) (by decide) (fun c129 => (k127 (fun z => z.elim c128 (fun z => z c129)))) (fun c129 => (k126 (Or.inr c129)))))) ex_I))))
def tX0_find : Mt := (⟨"FlyingDoctorsLaw", "find", "(LFlyingDoctors;IZ[J)I"⟩, method_16_code, 5, (Option.some Jvm.ClassFile.FieldType.int), [((0 : Nat), (17 : Nat), (20 : Nat), (13 : Nat))])
def DX0_find : List (Nat × Instr × Nat) := [(0, .aload_n 3, 1), (1, .iconst 0, 1), (2, .aload_n 0, 1), (3, .iload_n 1, 1), (4, .iload_n 2, 1), (5, .invokevirtual 59, 3), (8, .ifCond .eq 7, 3), (11, .lconst 1, 1), (12, .goto 4, 3), (15, .lconst 0, 1), (16, .lastore, 1), (17, .goto 7, 3), (20, .astore 4, 2), (22, .iconst 1, 1), (23, .ireturn, 1), (24, .iconst 0, 1), (25, .ireturn, 1)]
theorem dtX0_find : chkD (mB tX0_find) DX0_find = true := by decide +kernel
theorem moX0_find : MethOk tX0_find 4 := ⟨Or.inr q1785, by decide +kernel, ⟨by decide, by decide⟩, by decide +kernel⟩
def mX0_find (x1 : Int) (x2 : Int) (h : Hp) (Q : Rs → Hp → Prop) : Prop := mX1_find x1 x2 h (kIx (fun a103 h104 => ob h104 a103 41 ∧ (Q (rV (vI 1)) h104)) (fun x102 h101 => ∀ l106 : Int, l106 = (b2i (¬ (x102 = 0))) → ∀ h107 : Hp, h107 = sL h101 158 0 l106 → Q (rV (vI 0)) h107))
theorem wX0_find {G : Gx} (hg : gF G = true) {d : Nat} {x1 : Int} {x2 : Int} {h : Hp} {Q : Rs → Hp → Prop} (hm : mX0_find x1 x2 h Q) : Ct G tX0_find (d + 11) [vR 50, vI x1, vI x2, vR 158] h Q := by
  refine ct_enter (L0 := [some (vR 50), some (vI x1), some (vI x2), some (vR 158), none]) rfl rfl ?_
  unfold mX0_find at hm
  refine wc_aload_n (pc := 0) (dAt dtX0_find 0 rfl) rfl (wc_iconst (pc := 1) (dAt dtX0_find 1 rfl) ⟨by decide, by decide⟩ (wc_aload_n (pc := 2) (dAt dtX0_find 2 rfl) rfl (wc_iload_n (pc := 3) (dAt dtX0_find 3 rfl) rfl (wc_iload_n (pc := 4) (dAt dtX0_find 4 rfl) rfl (wc_kf hg fun zk => wc_callV (k := 1) (y' := tX1_find) (av := [vI x1, vI x2]) (st := [vI 0, vR 158]) (pc := 5) (dAt dtX0_find 5 rfl) lkX0_59 moX1_find q1787 q1788 (by decide) (zk.2 _ ka50).1 rfl rfl (Nat.le_of_ble_eq_true rfl) (wX1_find hg hm) (krx_I (fun x102 h101 hm => ?_)) (kxx_I (fun a103 h104 hm => ?_)))))))
  · obtain ⟨l106, el106⟩ : ∃ l106 : Int, l106 = (b2i (¬ (x102 = 0))) := ⟨_, rfl⟩
    replace hm := hm l106 el106
    have kj108 : Wc G tX0_find (d + 11) h Q 16 [none, none, none, none, none] [vL l106, vI 0, vR 158] h101 := by
      obtain ⟨h107, eh107⟩ : ∃ h107 : Hp, h107 = sL h101 158 0 l106 := ⟨_, rfl⟩
      replace hm := hm h107 eh107
      exact wc_lastK hg (pc := 16) (dAt dtX0_find 10 rfl) kr158 (by decide) (by decide) (by decide) (wc_hp eh107 (wc_goto (pc := 17) (tgt := 24) (dAt dtX0_find 11 rfl) (by decide) (wc_iconst (pc := 24) (dAt dtX0_find 15 rfl) ⟨by decide, by decide⟩ (wc_iret (pc := 25) (dAt dtX0_find 16 rfl) rfl (nar_int _) hm))))
    have k109 : (¬ (x102 = 0)) → Wc G tX0_find (d + 11) h Q 11 [some (vR 50), some (vI x1), some (vI x2), some (vR 158), none] [vI 0, vR 158] h101 := fun c111 => by
      have z112 := kj108
      rw [show l106 = 1 from el106.trans (b2i_t c111)] at z112
      exact wc_lconst (v := 1) (pc := 11) (dAt dtX0_find 7 rfl) ⟨by decide, by decide, by decide⟩ (wc_goto (pc := 12) (tgt := 16) (dAt dtX0_find 8 rfl) (by decide) (wc_drp [0, 1, 2, 3] rfl (z112)))
    have k110 : ¬ (¬ (x102 = 0)) → Wc G tX0_find (d + 11) h Q 15 [some (vR 50), some (vI x1), some (vI x2), some (vR 158), none] [vI 0, vR 158] h101 := fun c111 => by
      have z114 := kj108
      rw [show l106 = 0 from el106.trans (b2i_f c111)] at z114
      exact wc_lconst (v := 0) (pc := 15) (dAt dtX0_find 9 rfl) ⟨by decide, by decide, by decide⟩ (wc_drp [0, 1, 2, 3] rfl (z114))
    exact wc_if_eq (pc := 8) (tgt := 15) (dAt dtX0_find 6 rfl) (by decide) (fun c116 => (k110 (fun z => z c116))) (fun c116 => (k109 c116))
  · obtain ⟨o105, hm⟩ := hm
    refine wx_hit rfl rfl (by decide) q676 (by decide) o105 rfl ?_
    exact wc_astore (pc := 20) (dAt dtX0_find 12 rfl) (by decide) (wc_L (L' := [some (vR 50), some (vI x1), some (vI x2), some (vR 158), some (vR a103)]) rfl (wc_iconst (pc := 22) (dAt dtX0_find 13 rfl) ⟨by decide, by decide⟩ (wc_iret (pc := 23) (dAt dtX0_find 14 rfl) rfl (nar_int _) hm)))
def tX4_find : Mt := (⟨"FlyingDoctorsModel", "find", "(IZ)Z"⟩, prog_24_method_75_code, 3, (Option.some Jvm.ClassFile.FieldType.boolean), [])
def DX4_find : List (Nat × Instr × Nat) := [(0, .aload_n 0, 1), (1, .iload_n 1, 1), (2, .invokevirtual 500, 3), (5, .ifCond .eq 21, 3), (8, .aload_n 0, 1), (9, .iload_n 1, 1), (10, .invokevirtual 509, 3), (13, .ifCond .eq 13, 3), (16, .aload_n 0, 1), (17, .getfield 521, 3), (20, .sipush 150, 3), (23, .if_icmp .ne 5, 3), (26, .iconst 0, 1), (27, .ireturn, 1), (28, .aload_n 0, 1), (29, .getfield 238, 3), (32, .aload_n 0, 1), (33, .getfield 521, 3), (36, .iload_n 1, 1), (37, .iastore, 1), (38, .aload_n 0, 1), (39, .getfield 244, 3), (42, .aload_n 0, 1), (43, .getfield 521, 3), (46, .iload_n 2, 1), (47, .bastore, 1), (48, .aload_n 0, 1), (49, .getfield 241, 3), (52, .aload_n 0, 1), (53, .getfield 521, 3), (56, .aload_n 0, 1), (57, .getfield 81, 3), (60, .iastore, 1), (61, .aload_n 0, 1), (62, .dup, 1), (63, .getfield 521, 3), (66, .iconst 1, 1), (67, .iadd, 1), (68, .putfield 521, 3), (71, .iconst 1, 1), (72, .ireturn, 1)]
theorem dtX4_find : chkD (mB tX4_find) DX4_find = true := by decide +kernel
theorem moX4_find : MethOk tX4_find 2 := ⟨Or.inl ⟨rfl, q2769⟩, by decide +kernel, ⟨by decide, by decide⟩, by decide +kernel⟩
def mX4_find (x1 : Int) (x2 : Int) (h : Hp) (Q : Rs → Hp → Prop) : Prop := mX4_isCall x1 h (kI Q (fun x102 h101 => ((¬ (x102 = 0) → oX4_isHeard x1 h101)) ∧ if (x102 = 0) ∨ (((vX4_isHeard x1 h101) = 0) ∨ (¬ ((hI h101 75 76) ≠ 150))) then Q (rV (vI 0)) h101 else 0 ≤ (hI h101 75 76) ∧ (hI h101 75 76) < 150 ∧ ∀ h108 : Hp, h108 = sI h101 125 (Int.toNat (hI h101 75 76)) x1 → (x2 = 0 ∨ x2 = 1) ∧ 0 ≤ (hI h108 75 76) ∧ (hI h108 75 76) < 150 ∧ ∀ h112 : Hp, h112 = sI h108 127 (Int.toNat (hI h108 75 76)) x2 → 0 ≤ (hI h112 75 76) ∧ (hI h112 75 76) < 150 ∧ ∀ h115 : Hp, h115 = sI h112 126 (Int.toNat (hI h112 75 76)) (hI h112 75 1) → nm ((hI h115 75 76) + 1) ∧ ∀ h117 : Hp, h117 = sI h115 75 76 ((hI h115 75 76) + 1) → Q (rV (vI 1)) h117))
theorem wX4_find {G : Gx} (hg : gF G = true) {d : Nat} {x1 : Int} {x2 : Int} {h : Hp} {Q : Rs → Hp → Prop} (hm : mX4_find x1 x2 h Q) : Ct G tX4_find (d + 2) [vR 75, vI x1, vI x2] h Q := by
  refine ct_enter (L0 := [some (vR 75), some (vI x1), some (vI x2)]) rfl rfl ?_
  unfold mX4_find at hm
  refine wc_aload_n (pc := 0) (dAt dtX4_find 0 rfl) rfl (wc_iload_n (pc := 1) (dAt dtX4_find 1 rfl) rfl (wc_kf hg fun zk => wc_callV (k := 4) (y' := tX4_isCall) (av := [vI x1]) (st := []) (pc := 2) (dAt dtX4_find 2 rfl) lkX4_500 moX4_isCall q2732 qs100 (by decide) (zk.2 _ ka75).1 rfl rfl (Nat.le_of_ble_eq_true rfl) (wX4_isCall hg hm) (kr_I (fun x102 h101 hm => ?_)) (kx_I rfl)))
  obtain ⟨o104, hm⟩ := hm
  have k118 : ((x102 = 0) ∨ (((vX4_isHeard x1 h101) = 0) ∨ (¬ ((hI h101 75 76) ≠ 150)))) → Wc G tX4_find (d + 2) h Q 26 [some (vR 75), some (vI x1), some (vI x2)] [] h101 := fun c105 => by
    replace hm := ite_t c105 hm
    exact wc_iconst (pc := 26) (dAt dtX4_find 12 rfl) ⟨by decide, by decide⟩ (wc_iret (pc := 27) (dAt dtX4_find 13 rfl) rfl (nar_bool (Or.inl rfl)) hm)
  have k119 : ¬ ((x102 = 0) ∨ (((vX4_isHeard x1 h101) = 0) ∨ (¬ ((hI h101 75 76) ≠ 150)))) → Wc G tX4_find (d + 2) h Q 28 [some (vR 75), some (vI x1), some (vI x2)] [] h101 := fun c105 => by
    replace hm := ite_f c105 hm
    obtain ⟨o106, o107, hm⟩ := hm
    obtain ⟨h108, eh108⟩ : ∃ h108 : Hp, h108 = sI h101 125 (Int.toNat (hI h101 75 76)) x1 := ⟨_, rfl⟩
    replace hm := hm h108 eh108
    obtain ⟨o109, o110, o111, hm⟩ := hm
    obtain ⟨h112, eh112⟩ : ∃ h112 : Hp, h112 = sI h108 127 (Int.toNat (hI h108 75 76)) x2 := ⟨_, rfl⟩
    replace hm := hm h112 eh112
    obtain ⟨o113, o114, hm⟩ := hm
    obtain ⟨h115, eh115⟩ : ∃ h115 : Hp, h115 = sI h112 126 (Int.toNat (hI h112 75 76)) (hI h112 75 1) := ⟨_, rfl⟩
    replace hm := hm h115 eh115
    obtain ⟨o116, hm⟩ := hm
    obtain ⟨h117, eh117⟩ : ∃ h117 : Hp, h117 = sI h115 75 76 ((hI h115 75 76) + 1) := ⟨_, rfl⟩
    replace hm := hm h117 eh117
    exact wc_aload_n (pc := 28) (dAt dtX4_find 14 rfl) rfl (wc_getKR hg (pc := 29) (dAt dtX4_find 15 rfl) flX4_238_4 rfl ka75 kf75_77 (wc_aload_n (pc := 32) (dAt dtX4_find 16 rfl) rfl (wc_getKI hg (pc := 33) (dAt dtX4_find 17 rfl) flX4_521_4 rfl ka75 (wc_iload_n (pc := 36) (dAt dtX4_find 18 rfl) rfl (wc_iastK hg (pc := 37) (dAt dtX4_find 19 rfl) kr125 (by decide) o106 o107 (wc_hp eh108 (wc_aload_n (pc := 38) (dAt dtX4_find 20 rfl) rfl (wc_getKR hg (pc := 39) (dAt dtX4_find 21 rfl) flX4_244_4 rfl ka75 kf75_79 (wc_aload_n (pc := 42) (dAt dtX4_find 22 rfl) rfl (wc_getKI hg (pc := 43) (dAt dtX4_find 23 rfl) flX4_521_4 rfl ka75 (wc_iload_n (pc := 46) (dAt dtX4_find 24 rfl) rfl (wc_zastK hg (pc := 47) (dAt dtX4_find 25 rfl) kr127 (by decide) o110 o111 o109 (wc_hp eh112 (wc_aload_n (pc := 48) (dAt dtX4_find 26 rfl) rfl (wc_getKR hg (pc := 49) (dAt dtX4_find 27 rfl) flX4_241_4 rfl ka75 kf75_78 (wc_aload_n (pc := 52) (dAt dtX4_find 28 rfl) rfl (wc_getKI hg (pc := 53) (dAt dtX4_find 29 rfl) flX4_521_4 rfl ka75 (wc_aload_n (pc := 56) (dAt dtX4_find 30 rfl) rfl (wc_getKI hg (pc := 57) (dAt dtX4_find 31 rfl) flX4_81_4 rfl ka75 (wc_iastK hg (pc := 60) (dAt dtX4_find 32 rfl) kr126 (by decide) o113 o114 (wc_hp eh115 (wc_aload_n (pc := 61) (dAt dtX4_find 33 rfl) rfl (wc_dup (pc := 62) (dAt dtX4_find 34 rfl) rfl (wc_getKI hg (pc := 63) (dAt dtX4_find 35 rfl) flX4_521_4 rfl ka75 (wc_iconst (pc := 66) (dAt dtX4_find 36 rfl) ⟨by decide, by decide⟩ (wc_iadd (pc := 67) (dAt dtX4_find 37 rfl) o116 (wc_putKI hg (pc := 68) (dAt dtX4_find 38 rfl) flX4_521_4 (Or.inl rfl) rfl ka75 (by decide) (okI_int _) (wc_hp eh117 (wc_iconst (pc := 71) (dAt dtX4_find 39 rfl) ⟨by decide, by decide⟩ (wc_iret (pc := 72) (dAt dtX4_find 40 rfl) rfl (nar_bool (Or.inr rfl)) hm))))))))))))))))))))))))))))))
  exact wc_if_eq (pc := 5) (tgt := 26) (dAt dtX4_find 3 rfl) (by decide) (fun c120 => (k118 (Or.inl c120))) (fun c120 => wc_aload_n (pc := 8) (dAt dtX4_find 4 rfl) rfl (wc_iload_n (pc := 9) (dAt dtX4_find 5 rfl) rfl (wc_kf hg fun zk => wc_callV (k := 4) (y' := tX4_isHeard) (P := eI (vX4_isHeard x1 h101) h101) (pc := 10) (dAt dtX4_find 6 rfl) lkX4_509 moX4_isHeard q2744 qs102 (by decide) (zk.2 _ ka75).1 rfl rfl (Nat.le_of_ble_eq_true rfl) (wX4_isHeard hg (o104 c120) ⟨rfl, rfl⟩) (ep_I (wc_if_eq (pc := 13) (tgt := 26) (dAt dtX4_find 7 rfl) (by decide) (fun c121 => (k118 (Or.inr (Or.inl c121)))) (fun c121 => wc_aload_n (pc := 16) (dAt dtX4_find 8 rfl) rfl (wc_getKI hg (pc := 17) (dAt dtX4_find 9 rfl) flX4_521_4 rfl ka75 (wc_sipush (pc := 20) (dAt dtX4_find 10 rfl) ⟨by decide, by decide, by decide⟩ (wc_icmp_ne (pc := 23) (tgt := 28) (dAt dtX4_find 11 rfl) (by decide) (fun c122 => (k119 (fun z => z.elim c120 (fun z => z.elim c121 (fun z => z c122))))) (fun c122 => (k118 (Or.inr (Or.inr c122)))))))))) ex_I)))
def tX1_ways : Mt := (⟨"FlyingDoctors", "ways", "(II)J"⟩, prog_1_method_44_code, 5, (Option.some Jvm.ClassFile.FieldType.long), [])
def DX1_ways : List (Nat × Instr × Nat) := [(0, .iload_n 1, 1), (1, .ifCond .lt 8, 3), (4, .iload_n 1, 1), (5, .iload_n 0, 1), (6, .if_icmp .le 5, 3), (9, .lconst 0, 1), (10, .lreturn, 1), (11, .lconst 1, 1), (12, .lstore_n 2, 1), (13, .iconst 1, 1), (14, .istore 4, 2), (16, .iload 4, 2), (18, .iload_n 1, 1), (19, .iload_n 0, 1), (20, .iload_n 1, 1), (21, .isub, 1), (22, .invokestatic 426, 3), (25, .if_icmp .gt 23, 3), (28, .lload_n 2, 1), (29, .iload_n 0, 1), (30, .iload 4, 2), (32, .isub, 1), (33, .iconst 1, 1), (34, .iadd, 1), (35, .i2l, 1), (36, .lmul, 1), (37, .iload 4, 2), (39, .i2l, 1), (40, .ldiv, 1), (41, .lstore_n 2, 1), (42, .iinc 4 1, 3), (45, .goto (-29), 3), (48, .lload_n 2, 1), (49, .lreturn, 1)]
theorem dtX1_ways : chkD (mB tX1_ways) DX1_ways = true := by decide +kernel
theorem moX1_ways : MethOk tX1_ways 2 := ⟨Or.inl ⟨rfl, q1799⟩, by decide +kernel, ⟨by decide, by decide⟩, by decide +kernel⟩
def mX1_ways (x0 : Int) (x1 : Int) (h : Hp) (Q : Rs → Hp → Prop) : Prop := if (x1 < 0) ∨ (¬ (x1 ≤ x0)) then Q (rV (vL 0)) h else wh2 (fun (C104 : Int → Int → Prop) (l102 : Int) (x103 : Int) => nm (x0 - x1) ∧ if ¬ ((vJ4_min x1 (x0 - x1) h) < x103) then nm (x0 - x103) ∧ nm ((x0 - x103) + 1) ∧ nl (l102 * ((x0 - x103) + 1)) ∧ 0 < x103 ∧ ∀ l112 : Int, l112 = (Int.tdiv (l102 * ((x0 - x103) + 1)) x103) → nm (x103 + 1) ∧ ∀ i114 : Int, i114 = (x103 + 1) → C104 l112 i114 else Q (rV (vL l102)) h) 1 1
theorem wX1_ways {G : Gx} (hg : gF G = true) {d : Nat} {x0 : Int} {x1 : Int} {h : Hp} {Q : Rs → Hp → Prop} (hm : mX1_ways x0 x1 h Q) : Ct G tX1_ways (d + 1) [vI x0, vI x1] h Q := by
  refine ct_enter (L0 := [some (vI x0), some (vI x1), none, none, none]) rfl rfl ?_
  unfold mX1_ways at hm
  refine wc_iload_n (pc := 0) (dAt dtX1_ways 0 rfl) rfl (?_)
  have k115 : ((x1 < 0) ∨ (¬ (x1 ≤ x0))) → Wc G tX1_ways (d + 1) h Q 9 [some (vI x0), some (vI x1), none, none, none] [] h := fun c101 => by
    replace hm := ite_t c101 hm
    exact wc_lconst (v := 0) (pc := 9) (dAt dtX1_ways 5 rfl) ⟨by decide, by decide, by decide⟩ (wc_lret (pc := 10) (dAt dtX1_ways 6 rfl) rfl hm)
  have k116 : ¬ ((x1 < 0) ∨ (¬ (x1 ≤ x0))) → Wc G tX1_ways (d + 1) h Q 11 [some (vI x0), some (vI x1), none, none, none] [] h := fun c101 => by
    replace hm := ite_f c101 hm
    refine wc_lconst (v := 1) (pc := 11) (dAt dtX1_ways 7 rfl) ⟨by decide, by decide, by decide⟩ (wc_lstore_n (pc := 12) (dAt dtX1_ways 8 rfl) (by decide) (wc_L (L' := [some (vI x0), some (vI x1), some (vL 1), none, none]) rfl (wc_iconst (pc := 13) (dAt dtX1_ways 9 rfl) ⟨by decide, by decide⟩ (wc_istore (pc := 14) (dAt dtX1_ways 10 rfl) (by decide) (wc_L (L' := [some (vI x0), some (vI x1), some (vL 1), none, some (vI 1)]) rfl (?_))))))
    refine wh2_ind (P := fun (l102 : Int) (x103 : Int) => Wc G tX1_ways (d + 1) h Q 16 [some (vI x0), some (vI x1), some (vL l102), none, some (vI x103)] [] h) (fun C104 ih105 l102 x103 hm => ?_) hm
    obtain ⟨o106, hm⟩ := hm
    refine wc_iload (pc := 16) (dAt dtX1_ways 11 rfl) rfl (wc_iload_n (pc := 18) (dAt dtX1_ways 12 rfl) rfl (wc_iload_n (pc := 19) (dAt dtX1_ways 13 rfl) rfl (wc_iload_n (pc := 20) (dAt dtX1_ways 14 rfl) rfl (wc_isub (pc := 21) (dAt dtX1_ways 15 rfl) o106 (wc_callS (y' := tJ4_min) (P := eI (vJ4_min x1 (x0 - x1) h) h) (pc := 22) (dAt dtX1_ways 16 rfl) lkX1_426 moJ4_min q494 q137 rfl rfl (Nat.le_of_ble_eq_true rfl) (wJ4_min hg ⟨rfl, rfl⟩) (ep_I (wc_icmp_gt (pc := 25) (tgt := 48) (dAt dtX1_ways 17 rfl) (by decide) (fun c107 => ?_) (fun c107 => ?_))) ex_I)))))
    · replace hm := ite_f (fun z => z c107) hm
      exact wc_lload_n (pc := 48) (dAt dtX1_ways 32 rfl) rfl (wc_lret (pc := 49) (dAt dtX1_ways 33 rfl) rfl hm)
    · replace hm := ite_t c107 hm
      obtain ⟨o108, o109, o110, o111, hm⟩ := hm
      obtain ⟨l112, el112⟩ : ∃ l112 : Int, l112 = (Int.tdiv (l102 * ((x0 - x103) + 1)) x103) := ⟨_, rfl⟩
      replace hm := hm l112 el112
      obtain ⟨o113, hm⟩ := hm
      obtain ⟨i114, ei114⟩ : ∃ i114 : Int, i114 = (x103 + 1) := ⟨_, rfl⟩
      replace hm := hm i114 ei114
      exact wc_lload_n (pc := 28) (dAt dtX1_ways 18 rfl) rfl (wc_iload_n (pc := 29) (dAt dtX1_ways 19 rfl) rfl (wc_iload (pc := 30) (dAt dtX1_ways 20 rfl) rfl (wc_isub (pc := 32) (dAt dtX1_ways 21 rfl) o108 (wc_iconst (pc := 33) (dAt dtX1_ways 22 rfl) ⟨by decide, by decide⟩ (wc_iadd (pc := 34) (dAt dtX1_ways 23 rfl) o109 (wc_i2l (pc := 35) (dAt dtX1_ways 24 rfl) (wc_lmul (pc := 36) (dAt dtX1_ways 25 rfl) o110 (wc_iload (pc := 37) (dAt dtX1_ways 26 rfl) rfl (wc_i2l (pc := 39) (dAt dtX1_ways 27 rfl) (wc_ldiv (pc := 40) (dAt dtX1_ways 28 rfl) o111 (wc_vl el112 (wc_lstore_n (pc := 41) (dAt dtX1_ways 29 rfl) (by decide) (wc_L (L' := [some (vI x0), some (vI x1), some (vL l112), none, some (vI x103)]) rfl (wc_iinc (v := i114) (pc := 42) (dAt dtX1_ways 30 rfl) rfl ei114 (ei114 ▸ o113) (by decide) (wc_L (L' := [some (vI x0), some (vI x1), some (vL l112), none, some (vI i114)]) rfl (wc_goto (pc := 45) (tgt := 16) (dAt dtX1_ways 31 rfl) (by decide) (ih105 _ _ hm)))))))))))))))))
  exact wc_if_lt (pc := 1) (tgt := 9) (dAt dtX1_ways 1 rfl) (by decide) (fun c117 => (k115 (Or.inl c117))) (fun c117 => wc_iload_n (pc := 4) (dAt dtX1_ways 2 rfl) rfl (wc_iload_n (pc := 5) (dAt dtX1_ways 3 rfl) rfl (wc_icmp_le (pc := 6) (tgt := 11) (dAt dtX1_ways 4 rfl) (by decide) (fun c118 => (k116 (fun z => z.elim c117 (fun z => z c118)))) (fun c118 => (k115 (Or.inr c118))))))
