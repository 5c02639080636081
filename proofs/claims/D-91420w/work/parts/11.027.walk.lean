set_option maxRecDepth 100000
set_option maxHeartbeats 1000000
/-! what methods do, and their walks, by program -/
def tX0_priority : Mt := (⟨"FlyingDoctorsLaw", "priority", "(LFlyingDoctors;I[J)I"⟩, method_14_code, 4, (Option.some Jvm.ClassFile.FieldType.int), [((0 : Nat), (9 : Nat), (12 : Nat), (13 : Nat)), ((0 : Nat), (9 : Nat), (15 : Nat), (54 : Nat))])
def DX0_priority : List (Nat × Instr × Nat) := [(0, .aload_n 2, 1), (1, .iconst 0, 1), (2, .aload_n 0, 1), (3, .iload_n 1, 1), (4, .invokevirtual 51, 3), (7, .i2l, 1), (8, .lastore, 1), (9, .goto 9, 3), (12, .astore_n 3, 1), (13, .iconst 1, 1), (14, .ireturn, 1), (15, .astore_n 3, 1), (16, .iconst 2, 1), (17, .ireturn, 1), (18, .iconst 0, 1), (19, .ireturn, 1)]
theorem dtX0_priority : chkD (mB tX0_priority) DX0_priority = true := by decide +kernel
theorem moX0_priority : MethOk tX0_priority 3 := ⟨Or.inr q1724, by decide +kernel, ⟨by decide, by decide⟩, by decide +kernel⟩
def mX0_priority (x1 : Int) (h : Hp) (Q : Rs → Hp → Prop) : Prop := mX1_priority x1 h (kIx (fun a103 h104 => if hT h104 a103 = 41 then ob h104 a103 41 ∧ (Q (rV (vI 1)) h104) else ob h104 a103 50 ∧ (Q (rV (vI 2)) h104)) (fun x102 h101 => ∀ h108 : Hp, h108 = sL h101 158 0 x102 → Q (rV (vI 0)) h108))
theorem wX0_priority {G : Gx} (hg : gF G = true) {d : Nat} {x1 : Int} {h : Hp} {Q : Rs → Hp → Prop} (hm : mX0_priority x1 h Q) : Ct G tX0_priority (d + 363) [vR 50, vI x1, vR 158] h Q := by
  refine ct_enter (L0 := [some (vR 50), some (vI x1), some (vR 158), none]) rfl rfl ?_
  unfold mX0_priority at hm
  refine wc_aload_n (pc := 0) (dAt dtX0_priority 0 rfl) rfl (wc_iconst (pc := 1) (dAt dtX0_priority 1 rfl) ⟨by decide, by decide⟩ (wc_aload_n (pc := 2) (dAt dtX0_priority 2 rfl) rfl (wc_iload_n (pc := 3) (dAt dtX0_priority 3 rfl) rfl (wc_kf hg fun zk => wc_callV (k := 1) (y' := tX1_priority) (av := [vI x1]) (st := [vI 0, vR 158]) (pc := 4) (dAt dtX0_priority 4 rfl) lkX0_51 moX1_priority q1727 q1728 (by decide) (zk.2 _ ka50).1 rfl rfl (Nat.le_of_ble_eq_true rfl) (wX1_priority hg hm) (krx_I (fun x102 h101 hm => ?_)) (kxx_I (fun a103 h104 hm => ?_))))))
  · obtain ⟨h108, eh108⟩ : ∃ h108 : Hp, h108 = sL h101 158 0 x102 := ⟨_, rfl⟩
    replace hm := hm h108 eh108
    exact wc_i2l (pc := 7) (dAt dtX0_priority 5 rfl) (wc_lastK hg (pc := 8) (dAt dtX0_priority 6 rfl) kr158 (by decide) (by decide) (by decide) (wc_hp eh108 (wc_goto (pc := 9) (tgt := 18) (dAt dtX0_priority 7 rfl) (by decide) (wc_iconst (pc := 18) (dAt dtX0_priority 14 rfl) ⟨by decide, by decide⟩ (wc_iret (pc := 19) (dAt dtX0_priority 15 rfl) rfl (nar_int _) hm)))))
  · by_cases c107 : hT h104 a103 = 41
    · replace hm := ite_t c107 hm
      obtain ⟨o105, hm⟩ := hm
      refine wx_hit rfl rfl (by decide) q676 (by decide) o105 rfl ?_
      exact wc_astore_n (pc := 12) (dAt dtX0_priority 8 rfl) (by decide) (wc_L (L' := [some (vR 50), some (vI x1), some (vR 158), some (vR a103)]) rfl (wc_iconst (pc := 13) (dAt dtX0_priority 9 rfl) ⟨by decide, by decide⟩ (wc_iret (pc := 14) (dAt dtX0_priority 10 rfl) rfl (nar_int _) hm)))
    · replace hm := ite_f c107 hm
      obtain ⟨o106, hm⟩ := hm
      refine wx_hit2 rfl rfl rfl (by decide) (by decide) q676 q1725 (by decide +kernel) (by decide) o106 rfl ?_
      exact wc_astore_n (pc := 15) (dAt dtX0_priority 11 rfl) (by decide) (wc_L (L' := [some (vR 50), some (vI x1), some (vR 158), some (vR a103)]) rfl (wc_iconst (pc := 16) (dAt dtX0_priority 12 rfl) ⟨by decide, by decide⟩ (wc_iret (pc := 17) (dAt dtX0_priority 13 rfl) rfl (nar_int _) hm)))
def tX4_isHeard : Mt := (⟨"FlyingDoctorsModel", "isHeard", "(I)Z"⟩, prog_24_method_68_code, 2, (Option.some Jvm.ClassFile.FieldType.boolean), [])
def DX4_isHeard : List (Nat × Instr × Nat) := [(0, .aload_n 0, 1), (1, .getfield 229, 3), (4, .iload_n 1, 1), (5, .iaload, 1), (6, .iconst (-1), 1), (7, .if_icmp .eq 20, 3), (10, .aload_n 0, 1), (11, .getfield 229, 3), (14, .iload_n 1, 1), (15, .iaload, 1), (16, .aload_n 0, 1), (17, .getfield 81, 3), (20, .if_icmp .gt 7, 3), (23, .iconst 1, 1), (24, .goto 4, 3), (27, .iconst 0, 1), (28, .ireturn, 1)]
theorem dtX4_isHeard : chkD (mB tX4_isHeard) DX4_isHeard = true := by decide +kernel
theorem moX4_isHeard : MethOk tX4_isHeard 1 := ⟨Or.inl ⟨rfl, q2745⟩, by decide +kernel, ⟨by decide, by decide⟩, by decide +kernel⟩
def vX4_isHeard (x1 : Int) (h : Hp) : Int := (b2i (¬ ((hI h 122 (Int.toNat x1)) = (-1)) ∧ (¬ ((hI h 75 1) < (hI h 122 (Int.toNat x1))))))
def oX4_isHeard (x1 : Int) (h : Hp) : Prop := 0 ≤ x1 ∧ x1 < 60
theorem wX4_isHeard {G : Gx} (hg : gF G = true) {d : Nat} {x1 : Int} {h : Hp} {Q : Rs → Hp → Prop} (hm : oX4_isHeard x1 h) (hq : Q (rV (vI (vX4_isHeard x1 h))) h) : Ct G tX4_isHeard (d + 0) [vR 75, vI x1] h Q := by
  refine ct_enter (L0 := [some (vR 75), some (vI x1)]) rfl rfl ?_
  obtain ⟨o101, o102⟩ := hm
  have k103 : (¬ ((hI h 122 (Int.toNat x1)) = (-1)) ∧ (¬ ((hI h 75 1) < (hI h 122 (Int.toNat x1))))) → Wc G tX4_isHeard (d + 0) h Q 23 [some (vR 75), some (vI x1)] [] h := fun c105 => by
    have z : Q (rV (vI 1)) h := by
      rw [show (vX4_isHeard x1 h) = 1 from (b2i_t c105)] at hq
      exact hq
    exact wc_iconst (pc := 23) (dAt dtX4_isHeard 13 rfl) ⟨by decide, by decide⟩ (wc_goto (pc := 24) (tgt := 28) (dAt dtX4_isHeard 14 rfl) (by decide) (wc_iret (pc := 28) (dAt dtX4_isHeard 16 rfl) rfl (nar_bool (Or.inr rfl)) z))
  have k104 : ¬ (¬ ((hI h 122 (Int.toNat x1)) = (-1)) ∧ (¬ ((hI h 75 1) < (hI h 122 (Int.toNat x1))))) → Wc G tX4_isHeard (d + 0) h Q 27 [some (vR 75), some (vI x1)] [] h := fun c105 => by
    have z : Q (rV (vI 0)) h := by
      rw [show (vX4_isHeard x1 h) = 0 from (b2i_f c105)] at hq
      exact hq
    exact wc_iconst (pc := 27) (dAt dtX4_isHeard 15 rfl) ⟨by decide, by decide⟩ (wc_iret (pc := 28) (dAt dtX4_isHeard 16 rfl) rfl (nar_bool (Or.inl rfl)) z)
  exact wc_aload_n (pc := 0) (dAt dtX4_isHeard 0 rfl) rfl (wc_getKR hg (pc := 1) (dAt dtX4_isHeard 1 rfl) flX4_229_4 rfl ka75 kf75_73 (wc_iload_n (pc := 4) (dAt dtX4_isHeard 2 rfl) rfl (wc_ialdK hg (pc := 5) (dAt dtX4_isHeard 3 rfl) kr122 o101 o102 (wc_iconst (pc := 6) (dAt dtX4_isHeard 4 rfl) ⟨by decide, by decide⟩ (wc_icmp_eq (pc := 7) (tgt := 27) (dAt dtX4_isHeard 5 rfl) (by decide) (fun c106 => (k104 (fun z => z.1 c106))) (fun c106 => wc_aload_n (pc := 10) (dAt dtX4_isHeard 6 rfl) rfl (wc_getKR hg (pc := 11) (dAt dtX4_isHeard 7 rfl) flX4_229_4 rfl ka75 kf75_73 (wc_iload_n (pc := 14) (dAt dtX4_isHeard 8 rfl) rfl (wc_ialdK hg (pc := 15) (dAt dtX4_isHeard 9 rfl) kr122 o101 o102 (wc_aload_n (pc := 16) (dAt dtX4_isHeard 10 rfl) rfl (wc_getKI hg (pc := 17) (dAt dtX4_isHeard 11 rfl) flX4_81_4 rfl ka75 (wc_icmp_gt (pc := 20) (tgt := 27) (dAt dtX4_isHeard 12 rfl) (by decide) (fun c107 => (k104 (fun z => (fun z => z c107) z.2))) (fun c107 => (k103 ⟨c106, c107⟩))))))))))))))
theorem bX4_isHeard (x1 : Int) (h : Hp) : (vX4_isHeard x1 h) = 0 ∨ (vX4_isHeard x1 h) = 1 := (bool_b2i _)
def tX4_toBase : Mt := (⟨"FlyingDoctorsModel", "toBase", "(I)I"⟩, prog_24_method_10_code, 4, (Option.some Jvm.ClassFile.FieldType.int), [])
def DX4_toBase : List (Nat × Instr × Nat) := [(0, .iconst (-1), 1), (1, .istore_n 2, 1), (2, .iconst 0, 1), (3, .istore_n 3, 1), (4, .iload_n 3, 1), (5, .aload_n 0, 1), (6, .getfield 7, 3), (9, .if_icmp .ge 39, 3), (12, .aload_n 0, 1), (13, .iload_n 3, 1), (14, .invokevirtual 38, 3), (17, .ifCond .eq 25, 3), (20, .iload_n 2, 1), (21, .iconst (-1), 1), (22, .if_icmp .eq 13, 3), (25, .aload_n 0, 1), (26, .iload_n 1, 1), (27, .iload_n 3, 1), (28, .invokevirtual 28, 3), (31, .iload_n 2, 1), (32, .if_icmp .ge 10, 3), (35, .aload_n 0, 1), (36, .iload_n 1, 1), (37, .iload_n 3, 1), (38, .invokevirtual 28, 3), (41, .istore_n 2, 1), (42, .iinc 3 1, 3), (45, .goto (-41), 3), (48, .iload_n 2, 1), (49, .iconst (-1), 1), (50, .if_icmp .ne 7, 3), (53, .iconst 0, 1), (54, .goto 4, 3), (57, .iload_n 2, 1), (58, .ireturn, 1)]
theorem dtX4_toBase : chkD (mB tX4_toBase) DX4_toBase = true := by decide +kernel
theorem moX4_toBase : MethOk tX4_toBase 1 := ⟨Or.inl ⟨rfl, q2753⟩, by decide +kernel, ⟨by decide, by decide⟩, by decide +kernel⟩
def mX4_toBase (x1 : Int) (h : Hp) (Q : Rs → Hp → Prop) : Prop := wh2 (fun (C103 : Int → Int → Prop) (x101 : Int) (x102 : Int) => if ¬ ((hI h 75 2) ≤ x102) then oX4_isBase x102 h ∧ (((¬ ((vX4_isBase x102 h) = 0) → (¬ (x101 = (-1)) → oX4_miles x1 x102 h)) ∧ ((¬ ((vX4_isBase x102 h) = 0) ∧ ((x101 = (-1)) ∨ (¬ (x101 ≤ (vX4_miles x1 x102 h))))) → oX4_miles x1 x102 h))) ∧ ∀ v110 : Int, v110 = (if ¬ ((vX4_isBase x102 h) = 0) ∧ ((x101 = (-1)) ∨ (¬ (x101 ≤ (vX4_miles x1 x102 h)))) then (vX4_miles x1 x102 h) else x101) → nm (x102 + 1) ∧ ∀ i112 : Int, i112 = (x102 + 1) → C103 v110 i112 else ∀ v126 : Int, v126 = (if ¬ (x101 ≠ (-1)) then 0 else x101) → Q (rV (vI v126)) h) (-1) 0
theorem wX4_toBase {G : Gx} (hg : gF G = true) {d : Nat} {x1 : Int} {h : Hp} {Q : Rs → Hp → Prop} (hm : mX4_toBase x1 h Q) : Ct G tX4_toBase (d + 2) [vR 75, vI x1] h Q := by
  refine ct_enter (L0 := [some (vR 75), some (vI x1), none, none]) rfl rfl ?_
  unfold mX4_toBase at hm
  refine wc_iconst (pc := 0) (dAt dtX4_toBase 0 rfl) ⟨by decide, by decide⟩ (wc_istore_n (pc := 1) (dAt dtX4_toBase 1 rfl) (by decide) (wc_L (L' := [some (vR 75), some (vI x1), some (vI (-1)), none]) rfl (wc_iconst (pc := 2) (dAt dtX4_toBase 2 rfl) ⟨by decide, by decide⟩ (wc_istore_n (pc := 3) (dAt dtX4_toBase 3 rfl) (by decide) (wc_L (L' := [some (vR 75), some (vI x1), some (vI (-1)), some (vI 0)]) rfl (?_))))))
  refine wh2_ind (P := fun (x101 : Int) (x102 : Int) => Wc G tX4_toBase (d + 2) h Q 4 [some (vR 75), some (vI x1), some (vI x101), some (vI x102)] [] h) (fun C103 ih104 x101 x102 hm => ?_) hm
  refine wc_iload_n (pc := 4) (dAt dtX4_toBase 4 rfl) rfl (wc_aload_n (pc := 5) (dAt dtX4_toBase 5 rfl) rfl (wc_getKI hg (pc := 6) (dAt dtX4_toBase 6 rfl) flX4_7_4 rfl ka75 (wc_icmp_ge (pc := 9) (tgt := 48) (dAt dtX4_toBase 7 rfl) (by decide) (fun c105 => ?_) (fun c105 => ?_))))
  · replace hm := ite_f (fun z => z c105) hm
    obtain ⟨v126, ev126⟩ : ∃ v126 : Int, v126 = (if ¬ (x101 ≠ (-1)) then 0 else x101) := ⟨_, rfl⟩
    replace hm := hm v126 ev126
    refine wc_iload_n (pc := 48) (dAt dtX4_toBase 28 rfl) rfl (wc_iconst (pc := 49) (dAt dtX4_toBase 29 rfl) ⟨by decide, by decide⟩ (?_))
    have kj127 : Wc G tX4_toBase (d + 2) h Q 58 [some (vR 75), none, none, none] [vI v126] h := by
      exact wc_iret (pc := 58) (dAt dtX4_toBase 34 rfl) rfl (nar_int _) hm
    have k128 : (¬ (x101 ≠ (-1))) → Wc G tX4_toBase (d + 2) h Q 53 [some (vR 75), some (vI x1), some (vI x101), some (vI x102)] [] h := fun c130 => by
      have z131 := kj127
      rw [show v126 = 0 from ev126.trans (if_pos c130)] at z131
      exact wc_iconst (pc := 53) (dAt dtX4_toBase 31 rfl) ⟨by decide, by decide⟩ (wc_goto (pc := 54) (tgt := 58) (dAt dtX4_toBase 32 rfl) (by decide) (wc_drp [1, 2, 3] rfl (z131)))
    have k129 : ¬ (¬ (x101 ≠ (-1))) → Wc G tX4_toBase (d + 2) h Q 57 [some (vR 75), some (vI x1), some (vI x101), some (vI x102)] [] h := fun c130 => by
      have z133 := kj127
      rw [show v126 = x101 from ev126.trans (if_neg c130)] at z133
      exact wc_iload_n (pc := 57) (dAt dtX4_toBase 33 rfl) rfl (wc_drp [1, 2, 3] rfl (z133))
    exact wc_icmp_ne (pc := 50) (tgt := 57) (dAt dtX4_toBase 30 rfl) (by decide) (fun c135 => (k129 (fun z => z c135))) (fun c135 => (k128 c135))
  · replace hm := ite_t c105 hm
    obtain ⟨o106, o109, hm⟩ := hm
    obtain ⟨v110, ev110⟩ : ∃ v110 : Int, v110 = (if ¬ ((vX4_isBase x102 h) = 0) ∧ ((x101 = (-1)) ∨ (¬ (x101 ≤ (vX4_miles x1 x102 h)))) then (vX4_miles x1 x102 h) else x101) := ⟨_, rfl⟩
    replace hm := hm v110 ev110
    refine wc_aload_n (pc := 12) (dAt dtX4_toBase 8 rfl) rfl (wc_iload_n (pc := 13) (dAt dtX4_toBase 9 rfl) rfl (wc_kf hg fun zk => wc_callV (k := 4) (y' := tX4_isBase) (P := eI (vX4_isBase x102 h) h) (pc := 14) (dAt dtX4_toBase 10 rfl) lkX4_38 moX4_isBase q2135 qs62 (by decide) (zk.2 _ ka75).1 rfl rfl (Nat.le_of_ble_eq_true rfl) (wX4_isBase hg o106 ⟨rfl, rfl⟩) (ep_I (?_)) ex_I))
    have kj113 : Wc G tX4_toBase (d + 2) h Q 42 [some (vR 75), some (vI x1), some (vI v110), some (vI x102)] [] h := by
      obtain ⟨o111, hm⟩ := hm
      obtain ⟨i112, ei112⟩ : ∃ i112 : Int, i112 = (x102 + 1) := ⟨_, rfl⟩
      replace hm := hm i112 ei112
      exact wc_iinc (v := i112) (pc := 42) (dAt dtX4_toBase 26 rfl) rfl ei112 (ei112 ▸ o111) (by decide) (wc_L (L' := [some (vR 75), some (vI x1), some (vI v110), some (vI i112)]) rfl (wc_goto (pc := 45) (tgt := 4) (dAt dtX4_toBase 27 rfl) (by decide) (ih104 _ _ hm)))
    obtain ⟨p114, p115⟩ := o109
    have k116 : (¬ ((vX4_isBase x102 h) = 0) ∧ ((x101 = (-1)) ∨ (¬ (x101 ≤ (vX4_miles x1 x102 h))))) → Wc G tX4_toBase (d + 2) h Q 35 [some (vR 75), some (vI x1), some (vI x101), some (vI x102)] [] h := fun c118 => by
      have o108 := (p115 c118)
      have z119 := kj113
      rw [show v110 = (vX4_miles x1 x102 h) from ev110.trans (if_pos c118)] at z119
      exact wc_aload_n (pc := 35) (dAt dtX4_toBase 21 rfl) rfl (wc_iload_n (pc := 36) (dAt dtX4_toBase 22 rfl) rfl (wc_iload_n (pc := 37) (dAt dtX4_toBase 23 rfl) rfl (wc_kf hg fun zk => wc_callV (k := 4) (y' := tX4_miles) (P := eI (vX4_miles x1 x102 h) h) (pc := 38) (dAt dtX4_toBase 24 rfl) lkX4_28 moX4_miles q2689 qs95 (by decide) (zk.2 _ ka75).1 rfl rfl (Nat.le_of_ble_eq_true rfl) (wX4_miles hg o108 ⟨rfl, rfl⟩) (ep_I (wc_istore_n (pc := 41) (dAt dtX4_toBase 25 rfl) (by decide) (wc_L (L' := [some (vR 75), some (vI x1), some (vI (vX4_miles x1 x102 h)), some (vI x102)]) rfl (z119)))) ex_I)))
    have k117 : ¬ (¬ ((vX4_isBase x102 h) = 0) ∧ ((x101 = (-1)) ∨ (¬ (x101 ≤ (vX4_miles x1 x102 h))))) → Wc G tX4_toBase (d + 2) h Q 42 [some (vR 75), some (vI x1), some (vI x101), some (vI x102)] [] h := fun c118 => by
      have z121 := kj113
      rw [show v110 = x101 from ev110.trans (if_neg c118)] at z121
      exact z121
    exact wc_if_eq (pc := 17) (tgt := 42) (dAt dtX4_toBase 11 rfl) (by decide) (fun c123 => (k117 (fun z => z.1 c123))) (fun c123 => wc_iload_n (pc := 20) (dAt dtX4_toBase 12 rfl) rfl (wc_iconst (pc := 21) (dAt dtX4_toBase 13 rfl) ⟨by decide, by decide⟩ (wc_icmp_eq (pc := 22) (tgt := 35) (dAt dtX4_toBase 14 rfl) (by decide) (fun c124 => (k116 ⟨c123, (Or.inl c124)⟩)) (fun c124 => wc_aload_n (pc := 25) (dAt dtX4_toBase 15 rfl) rfl (wc_iload_n (pc := 26) (dAt dtX4_toBase 16 rfl) rfl (wc_iload_n (pc := 27) (dAt dtX4_toBase 17 rfl) rfl (wc_kf hg fun zk => wc_callV (k := 4) (y' := tX4_miles) (P := eI (vX4_miles x1 x102 h) h) (pc := 28) (dAt dtX4_toBase 18 rfl) lkX4_28 moX4_miles q2689 qs95 (by decide) (zk.2 _ ka75).1 rfl rfl (Nat.le_of_ble_eq_true rfl) (wX4_miles hg ((p114 c123) c124) ⟨rfl, rfl⟩) (ep_I (wc_iload_n (pc := 31) (dAt dtX4_toBase 19 rfl) rfl (wc_icmp_ge (pc := 32) (tgt := 42) (dAt dtX4_toBase 20 rfl) (by decide) (fun c125 => (k117 (fun z => (fun z => z.elim c124 (fun z => z c125)) z.2))) (fun c125 => (k116 ⟨c123, (Or.inr c125)⟩))))) ex_I)))))))
def tX4_priorityOf : Mt := (⟨"FlyingDoctorsModel", "priorityOf", "(I)I"⟩, prog_24_method_70_code, 4, (Option.some Jvm.ClassFile.FieldType.int), [])
def DX4_priorityOf : List (Nat × Instr × Nat) := [(0, .aload_n 0, 1), (1, .getfield 229, 3), (4, .iload_n 1, 1), (5, .iaload, 1), (6, .istore_n 2, 1), (7, .aload_n 0, 1), (8, .iload_n 2, 1), (9, .invokevirtual 435, 3), (12, .istore_n 3, 1), (13, .iload_n 3, 1), (14, .iconst (-1), 1), (15, .if_icmp .eq 13, 3), (18, .aload_n 0, 1), (19, .getfield 153, 3), (22, .iload_n 3, 1), (23, .iaload, 1), (24, .iconst (-1), 1), (25, .if_icmp .ne 5, 3), (28, .iconst 0, 1), (29, .ireturn, 1), (30, .aload_n 0, 1), (31, .aload_n 0, 1), (32, .getfield 220, 3), (35, .iload_n 1, 1), (36, .iaload, 1), (37, .iload_n 2, 1), (38, .iload_n 2, 1), (39, .invokevirtual 469, 3), (42, .aload_n 0, 1), (43, .getfield 190, 3), (46, .iconst 5, 1), (47, .aload_n 0, 1), (48, .aload_n 0, 1), (49, .getfield 220, 3), (52, .iload_n 1, 1), (53, .iaload, 1), (54, .invokevirtual 506, 3), (57, .iastore, 1), (58, .aload_n 0, 1), (59, .getfield 190, 3), (62, .bipush 8, 2), (64, .aload_n 0, 1), (65, .getfield 81, 3), (68, .iload_n 2, 1), (69, .isub, 1), (70, .iastore, 1), (71, .aload_n 0, 1), (72, .aload_n 0, 1), (73, .getfield 223, 3), (76, .iload_n 1, 1), (77, .iaload, 1), (78, .putfield 441, 3), (81, .aload_n 0, 1), (82, .iload_n 3, 1), (83, .aload_n 0, 1), (84, .getfield 153, 3), (87, .iload_n 3, 1), (88, .iaload, 1), (89, .invokevirtual 472, 3), (92, .ireturn, 1)]
theorem dtX4_priorityOf : chkD (mB tX4_priorityOf) DX4_priorityOf = true := by decide +kernel
theorem moX4_priorityOf : MethOk tX4_priorityOf 1 := ⟨Or.inl ⟨rfl, q2749⟩, by decide +kernel, ⟨by decide, by decide⟩, by decide +kernel⟩
def mX4_priorityOf (x1 : Int) (h : Hp) (Q : Rs → Hp → Prop) : Prop := 0 ≤ x1 ∧ x1 < 60 ∧ ∀ v103 : Int, v103 = (hI h 122 (Int.toNat x1)) → mX4_textBy v103 h (kI Q (fun x105 h104 => ((¬ (x105 = (-1)) → 0 ≤ x105 ∧ x105 < 12)) ∧ if (x105 = (-1)) ∨ (¬ ((hI h104 97 (Int.toNat x105)) ≠ (-1))) then Q (rV (vI 0)) h104 else mX4_place_2 (hI h104 119 (Int.toNat x1)) v103 v103 h104 (kN Q (fun h110 => mX4_toBase (hI h110 119 (Int.toNat x1)) h110 (kI Q (fun x112 h111 => ∀ h113 : Hp, h113 = sI h111 109 5 x112 → nm ((hI h113 75 1) - v103) ∧ ∀ h115 : Hp, h115 = sI h113 109 8 ((hI h113 75 1) - v103) → ∀ h116 : Hp, h116 = sI h115 75 59 (hI h115 120 (Int.toNat x1)) → 0 ≤ x105 ∧ x105 < 12 ∧ mX4_worth x105 (hI h116 97 (Int.toNat x105)) h116 (kI Q (fun x120 h119 => Q (rV (vI x120)) h119))))))))
theorem wX4_priorityOf {G : Gx} (hg : gF G = true) {d : Nat} {x1 : Int} {h : Hp} {Q : Rs → Hp → Prop} (hm : mX4_priorityOf x1 h Q) : Ct G tX4_priorityOf (d + 3) [vR 75, vI x1] h Q := by
  refine ct_enter (L0 := [some (vR 75), some (vI x1), none, none]) rfl rfl ?_
  unfold mX4_priorityOf at hm
  obtain ⟨o101, o102, hm⟩ := hm
  obtain ⟨v103, ev103⟩ : ∃ v103 : Int, v103 = (hI h 122 (Int.toNat x1)) := ⟨_, rfl⟩
  replace hm := hm v103 ev103
  refine wc_aload_n (pc := 0) (dAt dtX4_priorityOf 0 rfl) rfl (wc_getKR hg (pc := 1) (dAt dtX4_priorityOf 1 rfl) flX4_229_4 rfl ka75 kf75_73 (wc_iload_n (pc := 4) (dAt dtX4_priorityOf 2 rfl) rfl (wc_ialdK hg (pc := 5) (dAt dtX4_priorityOf 3 rfl) kr122 o101 o102 (wc_vi ev103 (wc_istore_n (pc := 6) (dAt dtX4_priorityOf 4 rfl) (by decide) (wc_L (L' := [some (vR 75), some (vI x1), some (vI v103), none]) rfl (wc_aload_n (pc := 7) (dAt dtX4_priorityOf 5 rfl) rfl (wc_iload_n (pc := 8) (dAt dtX4_priorityOf 6 rfl) rfl (wc_kf hg fun zk => wc_callV (k := 4) (y' := tX4_textBy) (av := [vI v103]) (st := []) (pc := 9) (dAt dtX4_priorityOf 7 rfl) lkX4_435 moX4_textBy q2632 qs86 (by decide) (zk.2 _ ka75).1 rfl rfl (Nat.le_of_ble_eq_true rfl) (wX4_textBy hg hm) (kr_I (fun x105 h104 hm => ?_)) (kx_I rfl))))))))))
  obtain ⟨o108, hm⟩ := hm
  refine wc_istore_n (pc := 12) (dAt dtX4_priorityOf 8 rfl) (by decide) (wc_L (L' := [some (vR 75), some (vI x1), some (vI v103), some (vI x105)]) rfl (wc_iload_n (pc := 13) (dAt dtX4_priorityOf 9 rfl) rfl (wc_iconst (pc := 14) (dAt dtX4_priorityOf 10 rfl) ⟨by decide, by decide⟩ (?_))))
  have k121 : ((x105 = (-1)) ∨ (¬ ((hI h104 97 (Int.toNat x105)) ≠ (-1)))) → Wc G tX4_priorityOf (d + 3) h Q 28 [some (vR 75), some (vI x1), some (vI v103), some (vI x105)] [] h104 := fun c109 => by
    replace hm := ite_t c109 hm
    exact wc_iconst (pc := 28) (dAt dtX4_priorityOf 18 rfl) ⟨by decide, by decide⟩ (wc_iret (pc := 29) (dAt dtX4_priorityOf 19 rfl) rfl (nar_int _) hm)
  have k122 : ¬ ((x105 = (-1)) ∨ (¬ ((hI h104 97 (Int.toNat x105)) ≠ (-1)))) → Wc G tX4_priorityOf (d + 3) h Q 30 [some (vR 75), some (vI x1), some (vI v103), some (vI x105)] [] h104 := fun c109 => by
    replace hm := ite_f c109 hm
    refine wc_aload_n (pc := 30) (dAt dtX4_priorityOf 20 rfl) rfl (wc_aload_n (pc := 31) (dAt dtX4_priorityOf 21 rfl) rfl (wc_getKR hg (pc := 32) (dAt dtX4_priorityOf 22 rfl) flX4_220_4 rfl ka75 kf75_70 (wc_iload_n (pc := 35) (dAt dtX4_priorityOf 23 rfl) rfl (wc_ialdK hg (pc := 36) (dAt dtX4_priorityOf 24 rfl) kr119 o101 o102 (wc_iload_n (pc := 37) (dAt dtX4_priorityOf 25 rfl) rfl (wc_iload_n (pc := 38) (dAt dtX4_priorityOf 26 rfl) rfl (wc_kf hg fun zk => wc_callV (k := 4) (y' := tX4_place_2) (av := [vI (hI h104 119 (Int.toNat x1)), vI v103, vI v103]) (st := []) (pc := 39) (dAt dtX4_priorityOf 27 rfl) lkX4_469 moX4_place_2 q2678 qs93 (by decide) (zk.2 _ ka75).1 rfl rfl (Nat.le_of_ble_eq_true rfl) (wX4_place_2 hg hm) (kr_N (fun h110 hm => ?_)) (kx_N rfl))))))))
    refine wc_aload_n (pc := 42) (dAt dtX4_priorityOf 28 rfl) rfl (wc_getKR hg (pc := 43) (dAt dtX4_priorityOf 29 rfl) flX4_190_4 rfl ka75 kf75_57 (wc_iconst (pc := 46) (dAt dtX4_priorityOf 30 rfl) ⟨by decide, by decide⟩ (wc_aload_n (pc := 47) (dAt dtX4_priorityOf 31 rfl) rfl (wc_aload_n (pc := 48) (dAt dtX4_priorityOf 32 rfl) rfl (wc_getKR hg (pc := 49) (dAt dtX4_priorityOf 33 rfl) flX4_220_4 rfl ka75 kf75_70 (wc_iload_n (pc := 52) (dAt dtX4_priorityOf 34 rfl) rfl (wc_ialdK hg (pc := 53) (dAt dtX4_priorityOf 35 rfl) kr119 o101 o102 (wc_kf hg fun zk => wc_callV (k := 4) (y' := tX4_toBase) (av := [vI (hI h110 119 (Int.toNat x1))]) (st := [vI 5, vR 109]) (pc := 54) (dAt dtX4_priorityOf 36 rfl) lkX4_506 moX4_toBase q2752 qs104 (by decide) (zk.2 _ ka75).1 rfl rfl (Nat.le_of_ble_eq_true rfl) (wX4_toBase hg hm) (kr_I (fun x112 h111 hm => ?_)) (kx_I rfl)))))))))
    obtain ⟨h113, eh113⟩ : ∃ h113 : Hp, h113 = sI h111 109 5 x112 := ⟨_, rfl⟩
    replace hm := hm h113 eh113
    obtain ⟨o114, hm⟩ := hm
    obtain ⟨h115, eh115⟩ : ∃ h115 : Hp, h115 = sI h113 109 8 ((hI h113 75 1) - v103) := ⟨_, rfl⟩
    replace hm := hm h115 eh115
    obtain ⟨h116, eh116⟩ : ∃ h116 : Hp, h116 = sI h115 75 59 (hI h115 120 (Int.toNat x1)) := ⟨_, rfl⟩
    replace hm := hm h116 eh116
    obtain ⟨o117, o118, hm⟩ := hm
    refine wc_iastK hg (pc := 57) (dAt dtX4_priorityOf 37 rfl) kr109 (by decide) (by decide) (by decide) (wc_hp eh113 (wc_aload_n (pc := 58) (dAt dtX4_priorityOf 38 rfl) rfl (wc_getKR hg (pc := 59) (dAt dtX4_priorityOf 39 rfl) flX4_190_4 rfl ka75 kf75_57 (wc_bipush (pc := 62) (dAt dtX4_priorityOf 40 rfl) ⟨by decide, by decide, by decide⟩ (wc_aload_n (pc := 64) (dAt dtX4_priorityOf 41 rfl) rfl (wc_getKI hg (pc := 65) (dAt dtX4_priorityOf 42 rfl) flX4_81_4 rfl ka75 (wc_iload_n (pc := 68) (dAt dtX4_priorityOf 43 rfl) rfl (wc_isub (pc := 69) (dAt dtX4_priorityOf 44 rfl) o114 (wc_iastK hg (pc := 70) (dAt dtX4_priorityOf 45 rfl) kr109 (by decide) (by decide) (by decide) (wc_hp eh115 (wc_aload_n (pc := 71) (dAt dtX4_priorityOf 46 rfl) rfl (wc_aload_n (pc := 72) (dAt dtX4_priorityOf 47 rfl) rfl (wc_getKR hg (pc := 73) (dAt dtX4_priorityOf 48 rfl) flX4_223_4 rfl ka75 kf75_71 (wc_iload_n (pc := 76) (dAt dtX4_priorityOf 49 rfl) rfl (wc_ialdK hg (pc := 77) (dAt dtX4_priorityOf 50 rfl) kr120 o101 o102 (wc_putKI hg (pc := 78) (dAt dtX4_priorityOf 51 rfl) flX4_441_4 (Or.inl rfl) rfl ka75 (by decide) (okI_int _) (wc_hp eh116 (wc_aload_n (pc := 81) (dAt dtX4_priorityOf 52 rfl) rfl (wc_iload_n (pc := 82) (dAt dtX4_priorityOf 53 rfl) rfl (wc_aload_n (pc := 83) (dAt dtX4_priorityOf 54 rfl) rfl (wc_getKR hg (pc := 84) (dAt dtX4_priorityOf 55 rfl) flX4_153_4 rfl ka75 kf75_42 (wc_iload_n (pc := 87) (dAt dtX4_priorityOf 56 rfl) rfl (wc_ialdK hg (pc := 88) (dAt dtX4_priorityOf 57 rfl) kr97 o117 o118 (wc_kf hg fun zk => wc_callV (k := 4) (y' := tX4_worth) (av := [vI x105, vI (hI h116 97 (Int.toNat x105))]) (st := []) (pc := 89) (dAt dtX4_priorityOf 58 rfl) lkX4_472 moX4_worth q2696 qs96 (by decide) (zk.2 _ ka75).1 rfl rfl (Nat.le_of_ble_eq_true rfl) (wX4_worth hg hm) (kr_I (fun x120 h119 hm => ?_)) (kx_I rfl)))))))))))))))))))))))))
    exact wc_iret (pc := 92) (dAt dtX4_priorityOf 59 rfl) rfl (nar_int _) hm
  exact wc_icmp_eq (pc := 15) (tgt := 28) (dAt dtX4_priorityOf 11 rfl) (by decide) (fun c123 => (k121 (Or.inl c123))) (fun c123 => wc_aload_n (pc := 18) (dAt dtX4_priorityOf 12 rfl) rfl (wc_getKR hg (pc := 19) (dAt dtX4_priorityOf 13 rfl) flX4_153_4 rfl ka75 kf75_42 (wc_iload_n (pc := 22) (dAt dtX4_priorityOf 14 rfl) rfl (wc_ialdK hg (pc := 23) (dAt dtX4_priorityOf 15 rfl) kr97 (o108 c123).1 (o108 c123).2 (wc_iconst (pc := 24) (dAt dtX4_priorityOf 16 rfl) ⟨by decide, by decide⟩ (wc_icmp_ne (pc := 25) (tgt := 30) (dAt dtX4_priorityOf 17 rfl) (by decide) (fun c124 => (k122 (fun z => z.elim c123 (fun z => z c124)))) (fun c124 => (k121 (Or.inr c124)))))))))
def tX4_priority : Mt := (⟨"FlyingDoctorsModel", "priority", "(I)I"⟩, prog_24_method_71_code, 2, (Option.some Jvm.ClassFile.FieldType.int), [])
def DX4_priority : List (Nat × Instr × Nat) := [(0, .aload_n 0, 1), (1, .iload_n 1, 1), (2, .invokevirtual 500, 3), (5, .ifCond .eq 24, 3), (8, .aload_n 0, 1), (9, .aload_n 0, 1), (10, .iload_n 1, 1), (11, .invokevirtual 509, 3), (14, .iconst 2, 1), (15, .invokevirtual 10, 3), (18, .ifCond .eq 11, 3), (21, .aload_n 0, 1), (22, .iload_n 1, 1), (23, .invokevirtual 512, 3), (26, .goto 4, 3), (29, .iconst 0, 1), (30, .ireturn, 1)]
theorem dtX4_priority : chkD (mB tX4_priority) DX4_priority = true := by decide +kernel
theorem moX4_priority : MethOk tX4_priority 1 := ⟨Or.inl ⟨rfl, q2741⟩, by decide +kernel, ⟨by decide, by decide⟩, by decide +kernel⟩
def mX4_priority (x1 : Int) (h : Hp) (Q : Rs → Hp → Prop) : Prop := mX4_isCall x1 h (kI Q (fun x102 h101 => if ¬ (x102 = 0) then oX4_isHeard x1 h101 ∧ mX4_right (vX4_isHeard x1 h101) 2 h101 (kI Q (fun x106 h105 => if ¬ (x106 = 0) then mX4_priorityOf x1 h105 (kI Q (fun x109 h108 => Q (rV (vI x109)) h108)) else Q (rV (vI 0)) h105)) else Q (rV (vI 0)) h101))
theorem wX4_priority {G : Gx} (hg : gF G = true) {d : Nat} {x1 : Int} {h : Hp} {Q : Rs → Hp → Prop} (hm : mX4_priority x1 h Q) : Ct G tX4_priority (d + 4) [vR 75, vI x1] h Q := by
  refine ct_enter (L0 := [some (vR 75), some (vI x1)]) rfl rfl ?_
  unfold mX4_priority at hm
  refine wc_aload_n (pc := 0) (dAt dtX4_priority 0 rfl) rfl (wc_iload_n (pc := 1) (dAt dtX4_priority 1 rfl) rfl (wc_kf hg fun zk => wc_callV (k := 4) (y' := tX4_isCall) (av := [vI x1]) (st := []) (pc := 2) (dAt dtX4_priority 2 rfl) lkX4_500 moX4_isCall q2732 qs100 (by decide) (zk.2 _ ka75).1 rfl rfl (Nat.le_of_ble_eq_true rfl) (wX4_isCall hg hm) (kr_I (fun x102 h101 hm => ?_)) (kx_I rfl)))
  refine wc_if_eq (pc := 5) (tgt := 29) (dAt dtX4_priority 3 rfl) (by decide) (fun c103 => ?_) (fun c103 => ?_)
  · replace hm := ite_f (fun z => z c103) hm
    exact wc_iconst (pc := 29) (dAt dtX4_priority 15 rfl) ⟨by decide, by decide⟩ (wc_iret (pc := 30) (dAt dtX4_priority 16 rfl) rfl (nar_int _) hm)
  · replace hm := ite_t c103 hm
    obtain ⟨o104, hm⟩ := hm
    refine wc_aload_n (pc := 8) (dAt dtX4_priority 4 rfl) rfl (wc_aload_n (pc := 9) (dAt dtX4_priority 5 rfl) rfl (wc_iload_n (pc := 10) (dAt dtX4_priority 6 rfl) rfl (wc_kf hg fun zk => wc_callV (k := 4) (y' := tX4_isHeard) (P := eI (vX4_isHeard x1 h101) h101) (pc := 11) (dAt dtX4_priority 7 rfl) lkX4_509 moX4_isHeard q2744 qs102 (by decide) (zk.2 _ ka75).1 rfl rfl (Nat.le_of_ble_eq_true rfl) (wX4_isHeard hg o104 ⟨rfl, rfl⟩) (ep_I (wc_iconst (pc := 14) (dAt dtX4_priority 8 rfl) ⟨by decide, by decide⟩ (wc_kf hg fun zk => wc_callV (k := 4) (y' := tX4_right) (av := [vI (vX4_isHeard x1 h101), vI 2]) (st := []) (pc := 15) (dAt dtX4_priority 9 rfl) lkX4_10 moX4_right q2152 qs64 (by decide) (zk.2 _ ka75).1 rfl rfl (Nat.le_of_ble_eq_true rfl) (wX4_right hg hm) (kr_I (fun x106 h105 hm => ?_)) (kx_I rfl)))) ex_I)))
    refine wc_if_eq (pc := 18) (tgt := 29) (dAt dtX4_priority 10 rfl) (by decide) (fun c107 => ?_) (fun c107 => ?_)
    · replace hm := ite_f (fun z => z c107) hm
      exact wc_iconst (pc := 29) (dAt dtX4_priority 15 rfl) ⟨by decide, by decide⟩ (wc_iret (pc := 30) (dAt dtX4_priority 16 rfl) rfl (nar_int _) hm)
    · replace hm := ite_t c107 hm
      refine wc_aload_n (pc := 21) (dAt dtX4_priority 11 rfl) rfl (wc_iload_n (pc := 22) (dAt dtX4_priority 12 rfl) rfl (wc_kf hg fun zk => wc_callV (k := 4) (y' := tX4_priorityOf) (av := [vI x1]) (st := []) (pc := 23) (dAt dtX4_priority 13 rfl) lkX4_512 moX4_priorityOf q2748 qs103 (by decide) (zk.2 _ ka75).1 rfl rfl (Nat.le_of_ble_eq_true rfl) (wX4_priorityOf hg hm) (kr_I (fun x109 h108 hm => ?_)) (kx_I rfl)))
      exact wc_goto (pc := 26) (tgt := 30) (dAt dtX4_priority 14 rfl) (by decide) (wc_iret (pc := 30) (dAt dtX4_priority 16 rfl) rfl (nar_int _) hm)
def tX19_isOpen : Mt := (⟨"FlyingDoctors$Call", "isOpen", "()Z"⟩, prog_3_method_4_code, 2, (Option.some Jvm.ClassFile.FieldType.boolean), [])
def DX19_isOpen : List (Nat × Instr × Nat) := [(0, .aload_n 0, 1), (1, .invokevirtual 59, 3), (4, .istore_n 1, 1), (5, .iload_n 1, 1), (6, .iconst (-1), 1), (7, .if_icmp .eq 14, 3), (10, .iload_n 1, 1), (11, .aload_n 0, 1), (12, .getfield 3, 3), (15, .getfield 26, 3), (18, .if_icmp .le 7, 3), (21, .iconst 1, 1), (22, .goto 4, 3), (25, .iconst 0, 1), (26, .ireturn, 1)]
theorem dtX19_isOpen : chkD (mB tX19_isOpen) DX19_isOpen = true := by decide +kernel
theorem moX19_isOpen : MethOk tX19_isOpen 0 := ⟨Or.inl ⟨rfl, q1773⟩, by decide +kernel, ⟨by decide, by decide⟩, by decide +kernel⟩
def mX19_isOpen (r0 : Nat) (h : Hp) (Q : Rs → Hp → Prop) : Prop := ob h r0 19 ∧ mX19_served r0 h (kI Q (fun x103 h102 => ((¬ (x103 = (-1)) → ob h102 r0 19 ∧ hR h102 r0 6 = 50)) ∧ ∀ v107 : Int, v107 = (b2i ((x103 = (-1)) ∨ (¬ (x103 ≤ (hI h102 50 20))))) → Q (rV (vI v107)) h102))
theorem wX19_isOpen {G : Gx} (hg : gF G = true) {d : Nat} {r0 : Nat} {h : Hp} {Q : Rs → Hp → Prop} (hm : mX19_isOpen r0 h Q) : Ct G tX19_isOpen (d + 4) [vR r0] h Q := by
  refine ct_enter (L0 := [some (vR r0), none]) rfl rfl ?_
  unfold mX19_isOpen at hm
  obtain ⟨o101, hm⟩ := hm
  refine wc_aload_n (pc := 0) (dAt dtX19_isOpen 0 rfl) rfl (wc_callV (k := 19) (y' := tX19_served) (av := []) (st := []) (pc := 1) (dAt dtX19_isOpen 1 rfl) lkX19_59 moX19_served q1710 q1711 (by decide) o101 rfl rfl (Nat.le_of_ble_eq_true rfl) (wX19_served hg hm) (kr_I (fun x103 h102 hm => ?_)) (kx_I rfl))
  obtain ⟨o106, hm⟩ := hm
  obtain ⟨v107, ev107⟩ : ∃ v107 : Int, v107 = (b2i ((x103 = (-1)) ∨ (¬ (x103 ≤ (hI h102 50 20))))) := ⟨_, rfl⟩
  replace hm := hm v107 ev107
  refine wc_istore_n (pc := 4) (dAt dtX19_isOpen 2 rfl) (by decide) (wc_L (L' := [some (vR r0), some (vI x103)]) rfl (wc_iload_n (pc := 5) (dAt dtX19_isOpen 3 rfl) rfl (wc_iconst (pc := 6) (dAt dtX19_isOpen 4 rfl) ⟨by decide, by decide⟩ (?_))))
  have kj108 : Wc G tX19_isOpen (d + 4) h Q 26 [some (vR r0), none] [vI v107] h102 := by
    exact wc_iret (pc := 26) (dAt dtX19_isOpen 14 rfl) rfl (nar_bool (bo_tr ev107.symm (bool_b2i _))) hm
  have p109 := o106
  have k110 : ((x103 = (-1)) ∨ (¬ (x103 ≤ (hI h102 50 20)))) → Wc G tX19_isOpen (d + 4) h Q 21 [some (vR r0), some (vI x103)] [] h102 := fun c112 => by
    have z113 := kj108
    rw [show v107 = 1 from ev107.trans (b2i_t c112)] at z113
    exact wc_iconst (pc := 21) (dAt dtX19_isOpen 11 rfl) ⟨by decide, by decide⟩ (wc_goto (pc := 22) (tgt := 26) (dAt dtX19_isOpen 12 rfl) (by decide) (wc_drp [1] rfl (z113)))
  have k111 : ¬ ((x103 = (-1)) ∨ (¬ (x103 ≤ (hI h102 50 20)))) → Wc G tX19_isOpen (d + 4) h Q 25 [some (vR r0), some (vI x103)] [] h102 := fun c112 => by
    have z115 := kj108
    rw [show v107 = 0 from ev107.trans (b2i_f c112)] at z115
    exact wc_iconst (pc := 25) (dAt dtX19_isOpen 13 rfl) ⟨by decide, by decide⟩ (wc_drp [1] rfl (z115))
  exact wc_icmp_eq (pc := 7) (tgt := 21) (dAt dtX19_isOpen 5 rfl) (by decide) (fun c117 => (k110 (Or.inl c117))) (fun c117 => wc_iload_n (pc := 10) (dAt dtX19_isOpen 6 rfl) rfl (wc_aload_n (pc := 11) (dAt dtX19_isOpen 7 rfl) rfl (wc_getR (pc := 12) (dAt dtX19_isOpen 8 rfl) flX19_3_19 rfl (p109 c117).1 (wc_vr (p109 c117).2.symm (wc_getKI hg (pc := 15) (dAt dtX19_isOpen 9 rfl) flX19_26_1 rfl ka50 (wc_icmp_le (pc := 18) (tgt := 25) (dAt dtX19_isOpen 10 rfl) (by decide) (fun c118 => (k111 (fun z => z.elim c117 (fun z => z c118)))) (fun c118 => (k110 (Or.inr c118)))))))))
def tX19_isAhead : Mt := (⟨"FlyingDoctors$Call", "isAhead", "(LFlyingDoctors$Call;)Z"⟩, prog_3_method_6_code, 2, (Option.some Jvm.ClassFile.FieldType.boolean), [])
def DX19_isAhead : List (Nat × Instr × Nat) := [(0, .aload_n 0, 1), (1, .getfield 114, 3), (4, .aload_n 1, 1), (5, .getfield 114, 3), (8, .if_icmp .gt 47, 3), (11, .aload_n 0, 1), (12, .getfield 114, 3), (15, .aload_n 1, 1), (16, .getfield 114, 3), (19, .if_icmp .ne 40, 3), (22, .aload_n 0, 1), (23, .getfield 36, 3), (26, .aload_n 1, 1), (27, .getfield 36, 3), (30, .if_icmp .lt 25, 3), (33, .aload_n 0, 1), (34, .getfield 36, 3), (37, .aload_n 1, 1), (38, .getfield 36, 3), (41, .if_icmp .ne 18, 3), (44, .aload_n 0, 1), (45, .getfield 15, 3), (48, .aload_n 1, 1), (49, .getfield 15, 3), (52, .if_icmp .ge 7, 3), (55, .iconst 1, 1), (56, .goto 4, 3), (59, .iconst 0, 1), (60, .ireturn, 1)]
theorem dtX19_isAhead : chkD (mB tX19_isAhead) DX19_isAhead = true := by decide +kernel
theorem moX19_isAhead : MethOk tX19_isAhead 1 := ⟨Or.inl ⟨rfl, q1782⟩, by decide +kernel, ⟨by decide, by decide⟩, by decide +kernel⟩
def vX19_isAhead (r0 : Nat) (r1 : Nat) (h : Hp) : Int := (b2i (((hI h r1 5) < (hI h r0 5)) ∨ (¬ ((hI h r0 5) ≠ (hI h r1 5)) ∧ (((hI h r0 3) < (hI h r1 3)) ∨ (¬ ((hI h r0 3) ≠ (hI h r1 3)) ∧ (¬ ((hI h r1 0) ≤ (hI h r0 0))))))))
def oX19_isAhead (r0 : Nat) (r1 : Nat) (h : Hp) : Prop := ob h r0 19 ∧ ob h r1 19
theorem wX19_isAhead {G : Gx} (hg : gF G = true) {d : Nat} {r0 : Nat} {r1 : Nat} {h : Hp} {Q : Rs → Hp → Prop} (hm : oX19_isAhead r0 r1 h) (hq : Q (rV (vI (vX19_isAhead r0 r1 h))) h) : Ct G tX19_isAhead (d + 0) [vR r0, vR r1] h Q := by
  refine ct_enter (L0 := [some (vR r0), some (vR r1)]) rfl rfl ?_
  obtain ⟨o101, o102⟩ := hm
  have k103 : (((hI h r1 5) < (hI h r0 5)) ∨ (¬ ((hI h r0 5) ≠ (hI h r1 5)) ∧ (((hI h r0 3) < (hI h r1 3)) ∨ (¬ ((hI h r0 3) ≠ (hI h r1 3)) ∧ (¬ ((hI h r1 0) ≤ (hI h r0 0))))))) → Wc G tX19_isAhead (d + 0) h Q 55 [some (vR r0), some (vR r1)] [] h := fun c105 => by
    have z : Q (rV (vI 1)) h := by
      rw [show (vX19_isAhead r0 r1 h) = 1 from (b2i_t c105)] at hq
      exact hq
    exact wc_iconst (pc := 55) (dAt dtX19_isAhead 25 rfl) ⟨by decide, by decide⟩ (wc_goto (pc := 56) (tgt := 60) (dAt dtX19_isAhead 26 rfl) (by decide) (wc_iret (pc := 60) (dAt dtX19_isAhead 28 rfl) rfl (nar_bool (Or.inr rfl)) z))
  have k104 : ¬ (((hI h r1 5) < (hI h r0 5)) ∨ (¬ ((hI h r0 5) ≠ (hI h r1 5)) ∧ (((hI h r0 3) < (hI h r1 3)) ∨ (¬ ((hI h r0 3) ≠ (hI h r1 3)) ∧ (¬ ((hI h r1 0) ≤ (hI h r0 0))))))) → Wc G tX19_isAhead (d + 0) h Q 59 [some (vR r0), some (vR r1)] [] h := fun c105 => by
    have z : Q (rV (vI 0)) h := by
      rw [show (vX19_isAhead r0 r1 h) = 0 from (b2i_f c105)] at hq
      exact hq
    exact wc_iconst (pc := 59) (dAt dtX19_isAhead 27 rfl) ⟨by decide, by decide⟩ (wc_iret (pc := 60) (dAt dtX19_isAhead 28 rfl) rfl (nar_bool (Or.inl rfl)) z)
  exact wc_aload_n (pc := 0) (dAt dtX19_isAhead 0 rfl) rfl (wc_getI (pc := 1) (dAt dtX19_isAhead 1 rfl) flX19_114_19 rfl o101 (wc_aload_n (pc := 4) (dAt dtX19_isAhead 2 rfl) rfl (wc_getI (pc := 5) (dAt dtX19_isAhead 3 rfl) flX19_114_19 rfl o102 (wc_icmp_gt (pc := 8) (tgt := 55) (dAt dtX19_isAhead 4 rfl) (by decide) (fun c106 => (k103 (Or.inl c106))) (fun c106 => wc_aload_n (pc := 11) (dAt dtX19_isAhead 5 rfl) rfl (wc_getI (pc := 12) (dAt dtX19_isAhead 6 rfl) flX19_114_19 rfl o101 (wc_aload_n (pc := 15) (dAt dtX19_isAhead 7 rfl) rfl (wc_getI (pc := 16) (dAt dtX19_isAhead 8 rfl) flX19_114_19 rfl o102 (wc_icmp_ne (pc := 19) (tgt := 59) (dAt dtX19_isAhead 9 rfl) (by decide) (fun c107 => (k104 (fun z => z.elim c106 (fun z => z.1 c107)))) (fun c107 => wc_aload_n (pc := 22) (dAt dtX19_isAhead 10 rfl) rfl (wc_getI (pc := 23) (dAt dtX19_isAhead 11 rfl) flX19_36_19 rfl o101 (wc_aload_n (pc := 26) (dAt dtX19_isAhead 12 rfl) rfl (wc_getI (pc := 27) (dAt dtX19_isAhead 13 rfl) flX19_36_19 rfl o102 (wc_icmp_lt (pc := 30) (tgt := 55) (dAt dtX19_isAhead 14 rfl) (by decide) (fun c108 => (k103 (Or.inr ⟨c107, (Or.inl c108)⟩))) (fun c108 => wc_aload_n (pc := 33) (dAt dtX19_isAhead 15 rfl) rfl (wc_getI (pc := 34) (dAt dtX19_isAhead 16 rfl) flX19_36_19 rfl o101 (wc_aload_n (pc := 37) (dAt dtX19_isAhead 17 rfl) rfl (wc_getI (pc := 38) (dAt dtX19_isAhead 18 rfl) flX19_36_19 rfl o102 (wc_icmp_ne (pc := 41) (tgt := 59) (dAt dtX19_isAhead 19 rfl) (by decide) (fun c109 => (k104 (fun z => z.elim c106 (fun z => (fun z => z.elim c108 (fun z => z.1 c109)) z.2)))) (fun c109 => wc_aload_n (pc := 44) (dAt dtX19_isAhead 20 rfl) rfl (wc_getI (pc := 45) (dAt dtX19_isAhead 21 rfl) flX19_15_19 rfl o101 (wc_aload_n (pc := 48) (dAt dtX19_isAhead 22 rfl) rfl (wc_getI (pc := 49) (dAt dtX19_isAhead 23 rfl) flX19_15_19 rfl o102 (wc_icmp_ge (pc := 52) (tgt := 59) (dAt dtX19_isAhead 24 rfl) (by decide) (fun c110 => (k104 (fun z => z.elim c106 (fun z => (fun z => z.elim c108 (fun z => (fun z => z c110) z.2)) z.2)))) (fun c110 => (k103 (Or.inr ⟨c107, (Or.inr ⟨c109, c110⟩)⟩)))))))))))))))))))))))))))
theorem bX19_isAhead (r0 : Nat) (r1 : Nat) (h : Hp) : (vX19_isAhead r0 r1 h) = 0 ∨ (vX19_isAhead r0 r1 h) = 1 := (bool_b2i _)
def tX1_ahead : Mt := (⟨"FlyingDoctors", "ahead", "(LFlyingDoctors$Call;I)I"⟩, prog_1_method_42_code, 5, (Option.some Jvm.ClassFile.FieldType.int), [])
def DX1_ahead : List (Nat × Instr × Nat) := [(0, .iconst 0, 1), (1, .istore_n 3, 1), (2, .iconst 0, 1), (3, .istore 4, 2), (5, .iload 4, 2), (7, .iload_n 2, 1), (8, .if_icmp .ge 37, 3), (11, .aload_n 0, 1), (12, .getfield 301, 3), (15, .iload 4, 2), (17, .aaload, 1), (18, .aload_n 1, 1), (19, .if_acmp .eq 20, 3), (22, .aload_n 0, 1), (23, .getfield 301, 3), (26, .iload 4, 2), (28, .aaload, 1), (29, .aload_n 1, 1), (30, .invokevirtual 422, 3), (33, .ifCond .eq 6, 3), (36, .iinc 3 1, 3), (39, .iinc 4 1, 3), (42, .goto (-37), 3), (45, .iload_n 3, 1), (46, .ireturn, 1)]
theorem dtX1_ahead : chkD (mB tX1_ahead) DX1_ahead = true := by decide +kernel
theorem moX1_ahead : MethOk tX1_ahead 2 := ⟨Or.inl ⟨rfl, q1778⟩, by decide +kernel, ⟨by decide, by decide⟩, by decide +kernel⟩
def mX1_ahead (r1 : Nat) (x2 : Int) (h : Hp) (Q : Rs → Hp → Prop) : Prop := wh2 (fun (C103 : Int → Int → Prop) (x101 : Int) (x102 : Int) => if ¬ (x2 ≤ x102) then 0 ≤ x102 ∧ x102 < 60 ∧ acok h (hR h 74 (Int.toNat x102)) r1 ∧ (((¬ ((hR h 74 (Int.toNat x102)) = r1) → oX19_isAhead (hR h 74 (Int.toNat x102)) r1 h ∧ ob h (hR h 74 (Int.toNat x102)) 19) ∧ ((¬ ((hR h 74 (Int.toNat x102)) = r1) ∧ (¬ ((vX19_isAhead (hR h 74 (Int.toNat x102)) r1 h) = 0))) → nm (x101 + 1)))) ∧ ∀ v113 : Int, v113 = (if ¬ ((hR h 74 (Int.toNat x102)) = r1) ∧ (¬ ((vX19_isAhead (hR h 74 (Int.toNat x102)) r1 h) = 0)) then (x101 + 1) else x101) → nm (x102 + 1) ∧ ∀ i115 : Int, i115 = (x102 + 1) → C103 v113 i115 else Q (rV (vI x101)) h) 0 0
theorem wX1_ahead {G : Gx} (hg : gF G = true) {d : Nat} {r1 : Nat} {x2 : Int} {h : Hp} {Q : Rs → Hp → Prop} (hm : mX1_ahead r1 x2 h Q) : Ct G tX1_ahead (d + 1) [vR 50, vR r1, vI x2] h Q := by
  refine ct_enter (L0 := [some (vR 50), some (vR r1), some (vI x2), none, none]) rfl rfl ?_
  unfold mX1_ahead at hm
  refine wc_iconst (pc := 0) (dAt dtX1_ahead 0 rfl) ⟨by decide, by decide⟩ (wc_istore_n (pc := 1) (dAt dtX1_ahead 1 rfl) (by decide) (wc_L (L' := [some (vR 50), some (vR r1), some (vI x2), some (vI 0), none]) rfl (wc_iconst (pc := 2) (dAt dtX1_ahead 2 rfl) ⟨by decide, by decide⟩ (wc_istore (pc := 3) (dAt dtX1_ahead 3 rfl) (by decide) (wc_L (L' := [some (vR 50), some (vR r1), some (vI x2), some (vI 0), some (vI 0)]) rfl (?_))))))
  refine wh2_ind (P := fun (x101 : Int) (x102 : Int) => Wc G tX1_ahead (d + 1) h Q 5 [some (vR 50), some (vR r1), some (vI x2), some (vI x101), some (vI x102)] [] h) (fun C103 ih104 x101 x102 hm => ?_) hm
  refine wc_iload (pc := 5) (dAt dtX1_ahead 4 rfl) rfl (wc_iload_n (pc := 7) (dAt dtX1_ahead 5 rfl) rfl (wc_icmp_ge (pc := 8) (tgt := 45) (dAt dtX1_ahead 6 rfl) (by decide) (fun c105 => ?_) (fun c105 => ?_)))
  · replace hm := ite_f (fun z => z c105) hm
    exact wc_iload_n (pc := 45) (dAt dtX1_ahead 23 rfl) rfl (wc_iret (pc := 46) (dAt dtX1_ahead 24 rfl) rfl (nar_int _) hm)
  · replace hm := ite_t c105 hm
    obtain ⟨o106, o107, o108, o112, hm⟩ := hm
    obtain ⟨v113, ev113⟩ : ∃ v113 : Int, v113 = (if ¬ ((hR h 74 (Int.toNat x102)) = r1) ∧ (¬ ((vX19_isAhead (hR h 74 (Int.toNat x102)) r1 h) = 0)) then (x101 + 1) else x101) := ⟨_, rfl⟩
    replace hm := hm v113 ev113
    refine wc_aload_n (pc := 11) (dAt dtX1_ahead 7 rfl) rfl (wc_getKR hg (pc := 12) (dAt dtX1_ahead 8 rfl) flX1_301_1 rfl ka50 kf50_19 (wc_iload (pc := 15) (dAt dtX1_ahead 9 rfl) rfl (wc_aaldK hg (pc := 17) (dAt dtX1_ahead 10 rfl) ⟨by decide, by decide⟩ kr74 o106 o107 (wc_aload_n (pc := 18) (dAt dtX1_ahead 11 rfl) rfl (?_)))))
    have kj116 : Wc G tX1_ahead (d + 1) h Q 39 [some (vR 50), some (vR r1), some (vI x2), some (vI v113), some (vI x102)] [] h := by
      obtain ⟨o114, hm⟩ := hm
      obtain ⟨i115, ei115⟩ : ∃ i115 : Int, i115 = (x102 + 1) := ⟨_, rfl⟩
      replace hm := hm i115 ei115
      exact wc_iinc (v := i115) (pc := 39) (dAt dtX1_ahead 21 rfl) rfl ei115 (ei115 ▸ o114) (by decide) (wc_L (L' := [some (vR 50), some (vR r1), some (vI x2), some (vI v113), some (vI i115)]) rfl (wc_goto (pc := 42) (tgt := 5) (dAt dtX1_ahead 22 rfl) (by decide) (ih104 _ _ hm)))
    obtain ⟨p117, p118⟩ := o112
    have k119 : (¬ ((hR h 74 (Int.toNat x102)) = r1) ∧ (¬ ((vX19_isAhead (hR h 74 (Int.toNat x102)) r1 h) = 0))) → Wc G tX1_ahead (d + 1) h Q 36 [some (vR 50), some (vR r1), some (vI x2), some (vI x101), some (vI x102)] [] h := fun c121 => by
      have o111 := (p118 c121)
      have z122 := kj116
      rw [show v113 = (x101 + 1) from ev113.trans (if_pos c121)] at z122
      exact wc_iinc (pc := 36) (dAt dtX1_ahead 20 rfl) rfl rfl o111 (by decide) (wc_L (L' := [some (vR 50), some (vR r1), some (vI x2), some (vI (x101 + 1)), some (vI x102)]) rfl (z122))
    have k120 : ¬ (¬ ((hR h 74 (Int.toNat x102)) = r1) ∧ (¬ ((vX19_isAhead (hR h 74 (Int.toNat x102)) r1 h) = 0))) → Wc G tX1_ahead (d + 1) h Q 39 [some (vR 50), some (vR r1), some (vI x2), some (vI x101), some (vI x102)] [] h := fun c121 => by
      have z124 := kj116
      rw [show v113 = x101 from ev113.trans (if_neg c121)] at z124
      exact z124
    exact wc_acmp_eq (pc := 19) (tgt := 39) (dAt dtX1_ahead 12 rfl) (by decide) o108 (fun c126 => (k120 (fun z => z.1 c126))) (fun c126 => wc_aload_n (pc := 22) (dAt dtX1_ahead 13 rfl) rfl (wc_getKR hg (pc := 23) (dAt dtX1_ahead 14 rfl) flX1_301_1 rfl ka50 kf50_19 (wc_iload (pc := 26) (dAt dtX1_ahead 15 rfl) rfl (wc_aaldK hg (pc := 28) (dAt dtX1_ahead 16 rfl) ⟨by decide, by decide⟩ kr74 o106 o107 (wc_aload_n (pc := 29) (dAt dtX1_ahead 17 rfl) rfl (wc_callV (k := 19) (y' := tX19_isAhead) (P := eI (vX19_isAhead (hR h 74 (Int.toNat x102)) r1 h) h) (pc := 30) (dAt dtX1_ahead 18 rfl) lkX1_422 moX19_isAhead q1780 q1781 (by decide) (p117 c126).2 rfl rfl (Nat.le_of_ble_eq_true rfl) (wX19_isAhead hg (p117 c126).1 ⟨rfl, rfl⟩) (ep_I (wc_if_eq (pc := 33) (tgt := 39) (dAt dtX1_ahead 19 rfl) (by decide) (fun c127 => (k120 (fun z => (fun z => z c127) z.2))) (fun c127 => (k119 ⟨c126, c127⟩)))) ex_I))))))
def tX1_order : Mt := (⟨"FlyingDoctors", "order", "(I)I"⟩, prog_1_method_41_code, 5, (Option.some Jvm.ClassFile.FieldType.int), [])
def DX1_order : List (Nat × Instr × Nat) := [(0, .iconst 0, 1), (1, .istore_n 2, 1), (2, .iconst 0, 1), (3, .istore_n 3, 1), (4, .iload_n 3, 1), (5, .aload_n 0, 1), (6, .getfield 281, 3), (9, .invokeinterface 16 1, 5), (14, .if_icmp .ge 64, 3), (17, .aload_n 0, 1), (18, .getfield 281, 3), (21, .iload_n 3, 1), (22, .invokeinterface 22 2, 5), (27, .checkcast 299, 3), (30, .astore 4, 2), (32, .aload 4, 2), (34, .invokevirtual 402, 3), (37, .ifCond .eq 35, 3), (40, .aload 4, 2), (42, .invokevirtual 412, 3), (45, .ifCond .ne 6, 3), (48, .goto 24, 3), (51, .aload 4, 2), (53, .aload 4, 2), (55, .invokevirtual 409, 3), (58, .putfield 415, 3), (61, .aload_n 0, 1), (62, .getfield 301, 3), (65, .iload_n 2, 1), (66, .aload 4, 2), (68, .aastore, 1), (69, .iinc 2 1, 3), (72, .iinc 3 1, 3), (75, .goto (-71), 3), (78, .iload_n 1, 1), (79, .iconst (-1), 1), (80, .iload_n 2, 1), (81, .iconst 1, 1), (82, .isub, 1), (83, .invokestatic 314, 3), (86, .invokestatic 318, 3), (89, .iload_n 1, 1), (90, .iconst (-1), 1), (91, .if_icmp .ne 5, 3), (94, .iload_n 2, 1), (95, .ireturn, 1), (96, .iconst 0, 1), (97, .istore_n 3, 1), (98, .iload_n 3, 1), (99, .iload_n 2, 1), (100, .if_icmp .ge 34, 3), (103, .aload_n 0, 1), (104, .aload_n 0, 1), (105, .getfield 301, 3), (108, .iload_n 3, 1), (109, .aaload, 1), (110, .iload_n 2, 1), (111, .invokevirtual 418, 3), (114, .iload_n 1, 1), (115, .if_icmp .ne 13, 3), (118, .aload_n 0, 1), (119, .getfield 301, 3), (122, .iload_n 3, 1), (123, .aaload, 1), (124, .getfield 421, 3), (127, .ireturn, 1), (128, .iinc 3 1, 3), (131, .goto (-33), 3), (134, .iconst (-1), 1), (135, .ireturn, 1)]
theorem dtX1_order : chkD (mB tX1_order) DX1_order = true := by decide +kernel
theorem moX1_order : MethOk tX1_order 1 := ⟨Or.inl ⟨rfl, q1769⟩, by decide +kernel, ⟨by decide, by decide⟩, by decide +kernel⟩
def mX1_order (x1 : Int) (h : Hp) (Q : Rs → Hp → Prop) : Prop := wh3 (fun (C104 : Int → Int → Hp → Prop) (x101 : Int) (x102 : Int) (h103 : Hp) => oJ2_size 61 h103 ∧ if ¬ ((vJ2_size 61 h103) ≤ x102) then oJ2_get 61 x102 h103 ∧ ob h103 (vJ2_get 61 x102 h103) 19 ∧ ∀ r110 : Nat, r110 = (vJ2_get 61 x102 h103) → oX19_isHeard r110 h103 ∧ ob h103 r110 19 ∧ if ¬ ((vX19_isHeard r110 h103) = 0) then mX19_isOpen r110 h103 (kI Q (fun x115 h114 => if ¬ (x115 ≠ 0) then nm (x102 + 1) ∧ ∀ i118 : Int, i118 = (x102 + 1) → C104 x101 i118 h114 else ob h114 r110 19 ∧ mX19_priority r110 h114 (kI Q (fun x121 h120 => ob h120 r110 19 ∧ ∀ h124 : Hp, h124 = sI h120 r110 5 x121 → 0 ≤ x101 ∧ x101 < 60 ∧ ∀ h127 : Hp, h127 = sR h124 74 (Int.toNat x101) r110 → nm (x101 + 1) ∧ ∀ i129 : Int, i129 = (x101 + 1) → nm (x102 + 1) ∧ ∀ i131 : Int, i131 = (x102 + 1) → C104 i129 i131 h127)))) else nm (x102 + 1) ∧ ∀ i133 : Int, i133 = (x102 + 1) → C104 x101 i133 h103 else nm (x101 - 1) ∧ mX1_found (vX1_in x1 (-1) (x101 - 1) h103) h103 (kN Q (fun h135 => if ¬ (x1 ≠ (-1)) then Q (rV (vI x101)) h135 else wh2 (fun (C139 : Int → Hp → Prop) (x137 : Int) (h138 : Hp) => if ¬ (x101 ≤ x137) then 0 ≤ x137 ∧ x137 < 60 ∧ mX1_ahead (hR h138 74 (Int.toNat x137)) x101 h138 (kI Q (fun x145 h144 => if ¬ (x145 ≠ x1) then ob h144 (hR h144 74 (Int.toNat x137)) 19 ∧ Q (rV (vI (hI h144 (hR h144 74 (Int.toNat x137)) 0))) h144 else nm (x137 + 1) ∧ ∀ i149 : Int, i149 = (x137 + 1) → C139 i149 h144)) else Q (rV (vI (-1))) h138) 0 h135))) 0 0 h
theorem wX1_order {G : Gx} (hg : gF G = true) {d : Nat} {x1 : Int} {h : Hp} {Q : Rs → Hp → Prop} (hm : mX1_order x1 h Q) : Ct G tX1_order (d + 362) [vR 50, vI x1] h Q := by
  refine ct_enter (L0 := [some (vR 50), some (vI x1), none, none, none]) rfl rfl ?_
  unfold mX1_order at hm
  refine wc_iconst (pc := 0) (dAt dtX1_order 0 rfl) ⟨by decide, by decide⟩ (wc_istore_n (pc := 1) (dAt dtX1_order 1 rfl) (by decide) (wc_L (L' := [some (vR 50), some (vI x1), some (vI 0), none, none]) rfl (wc_iconst (pc := 2) (dAt dtX1_order 2 rfl) ⟨by decide, by decide⟩ (wc_istore_n (pc := 3) (dAt dtX1_order 3 rfl) (by decide) (wc_L (L' := [some (vR 50), some (vI x1), some (vI 0), some (vI 0), none]) rfl (?_))))))
  refine wh3_ind (P := fun (x101 : Int) (x102 : Int) (h103 : Hp) => Wc G tX1_order (d + 362) h Q 4 [some (vR 50), some (vI x1), some (vI x101), some (vI x102), none] [] h103) (fun C104 ih105 x101 x102 h103 hm => ?_) hm
  obtain ⟨o106, hm⟩ := hm
  refine wc_iload_n (pc := 4) (dAt dtX1_order 4 rfl) rfl (wc_aload_n (pc := 5) (dAt dtX1_order 5 rfl) rfl (wc_getKR hg (pc := 6) (dAt dtX1_order 6 rfl) flX1_281_1 rfl ka50 kf50_11 (wc_kf hg fun zk => (wc_callF (k := 32) (x := ⟨"java/util/List", "size", "()I"⟩) (y' := tJ2_size) (P := eI (vJ2_size 61 h103) h103) (pc := 9) (dAt dtX1_order 7 rfl) q364 q366 q365 ⟨by decide, by decide⟩ moJ2_size rfl q370 q371 q369 q367 q368 (by decide) (zk.2 _ ka61).1 rfl rfl (Nat.le_of_ble_eq_true rfl) (wJ2_size hg o106 ⟨rfl, rfl⟩) (ep_I (wc_icmp_ge (pc := 14) (tgt := 78) (dAt dtX1_order 8 rfl) (by decide) (fun c107 => ?_) (fun c107 => ?_))) ex_I))))
  · replace hm := ite_f (fun z => z c107) hm
    obtain ⟨o134, hm⟩ := hm
    refine wc_iload_n (pc := 78) (dAt dtX1_order 34 rfl) rfl (wc_iconst (pc := 79) (dAt dtX1_order 35 rfl) ⟨by decide, by decide⟩ (wc_iload_n (pc := 80) (dAt dtX1_order 36 rfl) rfl (wc_iconst (pc := 81) (dAt dtX1_order 37 rfl) ⟨by decide, by decide⟩ (wc_isub (pc := 82) (dAt dtX1_order 38 rfl) o134 (wc_callS (y' := tX1_in) (P := eI (vX1_in x1 (-1) (x101 - 1) h103) h103) (pc := 83) (dAt dtX1_order 39 rfl) lkX1_314 moX1_in q374 q128 rfl rfl (Nat.le_of_ble_eq_true rfl) (wX1_in hg ⟨rfl, rfl⟩) (ep_I (wc_callS (y' := tX1_found) (av := [vI (vX1_in x1 (-1) (x101 - 1) h103)]) (st := []) (pc := 86) (dAt dtX1_order 40 rfl) lkX1_318 moX1_found q687 q128 rfl rfl (Nat.le_of_ble_eq_true rfl) (wX1_found hg hm) (kr_N (fun h135 hm => ?_)) (kx_N rfl))) ex_I)))))
    refine wc_iload_n (pc := 89) (dAt dtX1_order 41 rfl) rfl (wc_iconst (pc := 90) (dAt dtX1_order 42 rfl) ⟨by decide, by decide⟩ (wc_icmp_ne (pc := 91) (tgt := 96) (dAt dtX1_order 43 rfl) (by decide) (fun c136 => ?_) (fun c136 => ?_)))
    · replace hm := ite_f (fun z => z c136) hm
      refine wc_iconst (pc := 96) (dAt dtX1_order 46 rfl) ⟨by decide, by decide⟩ (wc_istore_n (pc := 97) (dAt dtX1_order 47 rfl) (by decide) (wc_L (L' := [some (vR 50), some (vI x1), some (vI x101), some (vI 0), none]) rfl (?_)))
      refine wh2_ind (P := fun (x137 : Int) (h138 : Hp) => Wc G tX1_order (d + 362) h Q 98 [some (vR 50), some (vI x1), some (vI x101), some (vI x137), none] [] h138) (fun C139 ih140 x137 h138 hm => ?_) hm
      refine wc_iload_n (pc := 98) (dAt dtX1_order 48 rfl) rfl (wc_iload_n (pc := 99) (dAt dtX1_order 49 rfl) rfl (wc_icmp_ge (pc := 100) (tgt := 134) (dAt dtX1_order 50 rfl) (by decide) (fun c141 => ?_) (fun c141 => ?_)))
      · replace hm := ite_f (fun z => z c141) hm
        exact wc_iconst (pc := 134) (dAt dtX1_order 68 rfl) ⟨by decide, by decide⟩ (wc_iret (pc := 135) (dAt dtX1_order 69 rfl) rfl (nar_int _) hm)
      · replace hm := ite_t c141 hm
        obtain ⟨o142, o143, hm⟩ := hm
        refine wc_aload_n (pc := 103) (dAt dtX1_order 51 rfl) rfl (wc_aload_n (pc := 104) (dAt dtX1_order 52 rfl) rfl (wc_getKR hg (pc := 105) (dAt dtX1_order 53 rfl) flX1_301_1 rfl ka50 kf50_19 (wc_iload_n (pc := 108) (dAt dtX1_order 54 rfl) rfl (wc_aaldK hg (pc := 109) (dAt dtX1_order 55 rfl) ⟨by decide, by decide⟩ kr74 o142 o143 (wc_iload_n (pc := 110) (dAt dtX1_order 56 rfl) rfl (wc_kf hg fun zk => wc_callV (k := 1) (y' := tX1_ahead) (av := [vR (hR h138 74 (Int.toNat x137)), vI x101]) (st := []) (pc := 111) (dAt dtX1_order 57 rfl) lkX1_418 moX1_ahead q1777 qs41 (by decide) (zk.2 _ ka50).1 rfl rfl (Nat.le_of_ble_eq_true rfl) (wX1_ahead hg hm) (kr_I (fun x145 h144 hm => ?_)) (kx_I rfl)))))))
        refine wc_iload_n (pc := 114) (dAt dtX1_order 58 rfl) rfl (wc_icmp_ne (pc := 115) (tgt := 128) (dAt dtX1_order 59 rfl) (by decide) (fun c146 => ?_) (fun c146 => ?_))
        · replace hm := ite_f (fun z => z c146) hm
          obtain ⟨o148, hm⟩ := hm
          obtain ⟨i149, ei149⟩ : ∃ i149 : Int, i149 = (x137 + 1) := ⟨_, rfl⟩
          replace hm := hm i149 ei149
          exact wc_iinc (v := i149) (pc := 128) (dAt dtX1_order 66 rfl) rfl ei149 (ei149 ▸ o148) (by decide) (wc_L (L' := [some (vR 50), some (vI x1), some (vI x101), some (vI i149), none]) rfl (wc_goto (pc := 131) (tgt := 98) (dAt dtX1_order 67 rfl) (by decide) (ih140 _ _ hm)))
        · replace hm := ite_t c146 hm
          obtain ⟨o147, hm⟩ := hm
          exact wc_aload_n (pc := 118) (dAt dtX1_order 60 rfl) rfl (wc_getKR hg (pc := 119) (dAt dtX1_order 61 rfl) flX1_301_1 rfl ka50 kf50_19 (wc_iload_n (pc := 122) (dAt dtX1_order 62 rfl) rfl (wc_aaldK hg (pc := 123) (dAt dtX1_order 63 rfl) ⟨by decide, by decide⟩ kr74 o142 o143 (wc_getI (pc := 124) (dAt dtX1_order 64 rfl) flX1_421_19 rfl o147 (wc_iret (pc := 127) (dAt dtX1_order 65 rfl) rfl (nar_int _) hm)))))
    · replace hm := ite_t c136 hm
      exact wc_iload_n (pc := 94) (dAt dtX1_order 44 rfl) rfl (wc_iret (pc := 95) (dAt dtX1_order 45 rfl) rfl (nar_int _) hm)
  · replace hm := ite_t c107 hm
    obtain ⟨o108, o109, hm⟩ := hm
    obtain ⟨r110, er110⟩ : ∃ r110 : Nat, r110 = (vJ2_get 61 x102 h103) := ⟨_, rfl⟩
    replace hm := hm r110 er110
    obtain ⟨o111, o112, hm⟩ := hm
    refine wc_aload_n (pc := 17) (dAt dtX1_order 9 rfl) rfl (wc_getKR hg (pc := 18) (dAt dtX1_order 10 rfl) flX1_281_1 rfl ka50 kf50_11 (wc_iload_n (pc := 21) (dAt dtX1_order 11 rfl) rfl (wc_kf hg fun zk => (wc_callF (k := 32) (x := ⟨"java/util/List", "get", "(I)Ljava/lang/Object;"⟩) (y' := tJ2_get) (P := eR (vJ2_get 61 x102 h103) h103) (pc := 22) (dAt dtX1_order 12 rfl) q506 q508 q507 ⟨by decide, by decide⟩ moJ2_get rfl q511 q512 q510 q367 q509 (by decide) (zk.2 _ ka61).1 rfl rfl (Nat.le_of_ble_eq_true rfl) (wJ2_get hg o108 ⟨rfl, rfl⟩) (ep_R (wc_cast (pc := 27) (dAt dtX1_order 13 rfl) q266 (by decide) (Or.inl rfl) o109 (wc_vr er110 (wc_astore (pc := 30) (dAt dtX1_order 14 rfl) (by decide) (wc_L (L' := [some (vR 50), some (vI x1), some (vI x101), some (vI x102), some (vR r110)]) rfl (wc_aload (pc := 32) (dAt dtX1_order 15 rfl) rfl (wc_callV (k := 19) (y' := tX19_isHeard) (P := eI (vX19_isHeard r110 h103) h103) (pc := 34) (dAt dtX1_order 16 rfl) lkX1_402 moX19_isHeard q1731 q1732 (by decide) o112 rfl rfl (Nat.le_of_ble_eq_true rfl) (wX19_isHeard hg o111 ⟨rfl, rfl⟩) (ep_I (wc_if_eq (pc := 37) (tgt := 72) (dAt dtX1_order 17 rfl) (by decide) (fun c113 => ?_) (fun c113 => ?_))) ex_I))))))) ex_R))))
    · replace hm := ite_f (fun z => z c113) hm
      obtain ⟨o132, hm⟩ := hm
      obtain ⟨i133, ei133⟩ : ∃ i133 : Int, i133 = (x102 + 1) := ⟨_, rfl⟩
      replace hm := hm i133 ei133
      exact wc_iinc (v := i133) (pc := 72) (dAt dtX1_order 32 rfl) rfl ei133 (ei133 ▸ o132) (by decide) (wc_L (L' := [some (vR 50), some (vI x1), some (vI x101), some (vI i133), some (vR r110)]) rfl (wc_goto (pc := 75) (tgt := 4) (dAt dtX1_order 33 rfl) (by decide) (wc_drp [4] rfl (ih105 _ _ _ hm))))
    · replace hm := ite_t c113 hm
      refine wc_aload (pc := 40) (dAt dtX1_order 18 rfl) rfl (wc_callV (k := 19) (y' := tX19_isOpen) (av := []) (st := []) (pc := 42) (dAt dtX1_order 19 rfl) lkX1_412 moX19_isOpen q1771 q1772 (by decide) o112 rfl rfl (Nat.le_of_ble_eq_true rfl) (wX19_isOpen hg hm) (kr_I (fun x115 h114 hm => ?_)) (kx_I rfl))
      refine wc_if_ne (pc := 45) (tgt := 51) (dAt dtX1_order 20 rfl) (by decide) (fun c116 => ?_) (fun c116 => ?_)
      · replace hm := ite_f (fun z => z c116) hm
        obtain ⟨o119, hm⟩ := hm
        refine wc_aload (pc := 51) (dAt dtX1_order 22 rfl) rfl (wc_aload (pc := 53) (dAt dtX1_order 23 rfl) rfl (wc_callV (k := 19) (y' := tX19_priority) (av := []) (st := [vR r110]) (pc := 55) (dAt dtX1_order 24 rfl) lkX1_409 moX19_priority q1750 q1751 (by decide) o119 rfl rfl (Nat.le_of_ble_eq_true rfl) (wX19_priority hg hm) (kr_I (fun x121 h120 hm => ?_)) (kx_I rfl)))
        obtain ⟨o122, hm⟩ := hm
        obtain ⟨h124, eh124⟩ : ∃ h124 : Hp, h124 = sI h120 r110 5 x121 := ⟨_, rfl⟩
        replace hm := hm h124 eh124
        obtain ⟨o125, o126, hm⟩ := hm
        obtain ⟨h127, eh127⟩ : ∃ h127 : Hp, h127 = sR h124 74 (Int.toNat x101) r110 := ⟨_, rfl⟩
        replace hm := hm h127 eh127
        obtain ⟨o128, hm⟩ := hm
        obtain ⟨i129, ei129⟩ : ∃ i129 : Int, i129 = (x101 + 1) := ⟨_, rfl⟩
        replace hm := hm i129 ei129
        obtain ⟨o130, hm⟩ := hm
        obtain ⟨i131, ei131⟩ : ∃ i131 : Int, i131 = (x102 + 1) := ⟨_, rfl⟩
        replace hm := hm i131 ei131
        exact wc_newer o122 (by decide) fun n123 => (wc_putI (pc := 58) (dAt dtX1_order 25 rfl) flX1_415_19 (Or.inl rfl) rfl o122 n123 (okI_int _) (wc_hp eh124 (wc_aload_n (pc := 61) (dAt dtX1_order 26 rfl) rfl (wc_getKR hg (pc := 62) (dAt dtX1_order 27 rfl) flX1_301_1 rfl ka50 kf50_19 (wc_iload_n (pc := 65) (dAt dtX1_order 28 rfl) rfl (wc_aload (pc := 66) (dAt dtX1_order 29 rfl) rfl (wc_aastK hg (pc := 68) (dAt dtX1_order 30 rfl) ⟨by decide, by decide⟩ kr74 (by decide) (ob_sI eh124 o122) (by decide) (Or.inl rfl) o125 o126 (wc_hp eh127 (wc_iinc (v := i129) (pc := 69) (dAt dtX1_order 31 rfl) rfl ei129 (ei129 ▸ o128) (by decide) (wc_L (L' := [some (vR 50), some (vI x1), some (vI i129), some (vI x102), some (vR r110)]) rfl (wc_iinc (v := i131) (pc := 72) (dAt dtX1_order 32 rfl) rfl ei131 (ei131 ▸ o130) (by decide) (wc_L (L' := [some (vR 50), some (vI x1), some (vI i129), some (vI i131), some (vR r110)]) rfl (wc_goto (pc := 75) (tgt := 4) (dAt dtX1_order 33 rfl) (by decide) (wc_drp [4] rfl (ih105 _ _ _ hm)))))))))))))))
      · replace hm := ite_t c116 hm
        obtain ⟨o117, hm⟩ := hm
        obtain ⟨i118, ei118⟩ : ∃ i118 : Int, i118 = (x102 + 1) := ⟨_, rfl⟩
        replace hm := hm i118 ei118
        exact wc_goto (pc := 48) (tgt := 72) (dAt dtX1_order 21 rfl) (by decide) (wc_iinc (v := i118) (pc := 72) (dAt dtX1_order 32 rfl) rfl ei118 (ei118 ▸ o117) (by decide) (wc_L (L' := [some (vR 50), some (vI x1), some (vI x101), some (vI i118), some (vR r110)]) rfl (wc_goto (pc := 75) (tgt := 4) (dAt dtX1_order 33 rfl) (by decide) (wc_drp [4] rfl (ih105 _ _ _ hm)))))
def tX0_order : Mt := (⟨"FlyingDoctorsLaw", "order", "(LFlyingDoctors;I[J)I"⟩, method_15_code, 4, (Option.some Jvm.ClassFile.FieldType.int), [((0 : Nat), (9 : Nat), (12 : Nat), (13 : Nat))])
def DX0_order : List (Nat × Instr × Nat) := [(0, .aload_n 2, 1), (1, .iconst 0, 1), (2, .aload_n 0, 1), (3, .iload_n 1, 1), (4, .invokevirtual 56, 3), (7, .i2l, 1), (8, .lastore, 1), (9, .goto 6, 3), (12, .astore_n 3, 1), (13, .iconst 1, 1), (14, .ireturn, 1), (15, .iconst 0, 1), (16, .ireturn, 1)]
theorem dtX0_order : chkD (mB tX0_order) DX0_order = true := by decide +kernel
theorem moX0_order : MethOk tX0_order 3 := ⟨Or.inr q1765, by decide +kernel, ⟨by decide, by decide⟩, by decide +kernel⟩
def mX0_order (x1 : Int) (h : Hp) (Q : Rs → Hp → Prop) : Prop := mX1_order x1 h (kIx (fun a103 h104 => ob h104 a103 41 ∧ (Q (rV (vI 1)) h104)) (fun x102 h101 => ∀ h106 : Hp, h106 = sL h101 158 0 x102 → Q (rV (vI 0)) h106))
theorem wX0_order {G : Gx} (hg : gF G = true) {d : Nat} {x1 : Int} {h : Hp} {Q : Rs → Hp → Prop} (hm : mX0_order x1 h Q) : Ct G tX0_order (d + 363) [vR 50, vI x1, vR 158] h Q := by
  refine ct_enter (L0 := [some (vR 50), some (vI x1), some (vR 158), none]) rfl rfl ?_
  unfold mX0_order at hm
  refine wc_aload_n (pc := 0) (dAt dtX0_order 0 rfl) rfl (wc_iconst (pc := 1) (dAt dtX0_order 1 rfl) ⟨by decide, by decide⟩ (wc_aload_n (pc := 2) (dAt dtX0_order 2 rfl) rfl (wc_iload_n (pc := 3) (dAt dtX0_order 3 rfl) rfl (wc_kf hg fun zk => wc_callV (k := 1) (y' := tX1_order) (av := [vI x1]) (st := [vI 0, vR 158]) (pc := 4) (dAt dtX0_order 4 rfl) lkX0_56 moX1_order q1767 q1768 (by decide) (zk.2 _ ka50).1 rfl rfl (Nat.le_of_ble_eq_true rfl) (wX1_order hg hm) (krx_I (fun x102 h101 hm => ?_)) (kxx_I (fun a103 h104 hm => ?_))))))
  · obtain ⟨h106, eh106⟩ : ∃ h106 : Hp, h106 = sL h101 158 0 x102 := ⟨_, rfl⟩
    replace hm := hm h106 eh106
    exact wc_i2l (pc := 7) (dAt dtX0_order 5 rfl) (wc_lastK hg (pc := 8) (dAt dtX0_order 6 rfl) kr158 (by decide) (by decide) (by decide) (wc_hp eh106 (wc_goto (pc := 9) (tgt := 15) (dAt dtX0_order 7 rfl) (by decide) (wc_iconst (pc := 15) (dAt dtX0_order 11 rfl) ⟨by decide, by decide⟩ (wc_iret (pc := 16) (dAt dtX0_order 12 rfl) rfl (nar_int _) hm)))))
  · obtain ⟨o105, hm⟩ := hm
    refine wx_hit rfl rfl (by decide) q676 (by decide) o105 rfl ?_
    exact wc_astore_n (pc := 12) (dAt dtX0_order 8 rfl) (by decide) (wc_L (L' := [some (vR 50), some (vI x1), some (vR 158), some (vR a103)]) rfl (wc_iconst (pc := 13) (dAt dtX0_order 9 rfl) ⟨by decide, by decide⟩ (wc_iret (pc := 14) (dAt dtX0_order 10 rfl) rfl (nar_int _) hm)))
