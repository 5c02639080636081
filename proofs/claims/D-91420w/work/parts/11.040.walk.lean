set_option maxRecDepth 100000
set_option maxHeartbeats 1000000
/-! what methods do, and their walks, by program -/
def tX1_wherePerson : Mt := (⟨"FlyingDoctors", "wherePerson", "(LFlyingDoctors$Person;I)I"⟩, prog_1_method_54_code, 7, (Option.some Jvm.ClassFile.FieldType.int), [])
def DX1_wherePerson : List (Nat × Instr × Nat) := [(0, .aload_n 1, 1), (1, .getfield 474, 3), (4, .getfield 84, 3), (7, .istore_n 3, 1), (8, .iconst 0, 1), (9, .istore 4, 2), (11, .iload 4, 2), (13, .aload_n 0, 1), (14, .getfield 179, 3), (17, .invokeinterface 16 1, 5), (22, .if_icmp .ge 100, 3), (25, .aload_n 0, 1), (26, .getfield 179, 3), (29, .iload 4, 2), (31, .invokeinterface 22 2, 5), (36, .checkcast 141, 3), (39, .astore 5, 2), (41, .iconst 0, 1), (42, .istore 6, 2), (44, .iload 6, 2), (46, .aload 5, 2), (48, .getfield 182, 3), (51, .if_icmp .ge 65, 3), (54, .aload 5, 2), (56, .getfield 208, 3), (59, .iload 6, 2), (61, .iaload, 1), (62, .aload_n 1, 1), (63, .invokevirtual 161, 3), (66, .iand, 1), (67, .ifCond .eq 43, 3), (70, .iload_n 2, 1), (71, .aload 5, 2), (73, .getfield 468, 3), (76, .iload 6, 2), (78, .iaload, 1), (79, .if_icmp .lt 31, 3), (82, .iload_n 2, 1), (83, .aload 5, 2), (85, .getfield 228, 3), (88, .iload 6, 2), (90, .iaload, 1), (91, .if_icmp .ge 7, 3), (94, .iconst (-1), 1), (95, .goto 14, 3), (98, .aload 5, 2), (100, .getfield 189, 3), (103, .iload 6, 2), (105, .aaload, 1), (106, .getfield 84, 3), (109, .istore_n 3, 1), (110, .iinc 6 1, 3), (113, .goto (-69), 3), (116, .iinc 4 1, 3), (119, .goto (-108), 3), (122, .iload_n 3, 1), (123, .ireturn, 1)]
theorem dtX1_wherePerson : chkD (mB tX1_wherePerson) DX1_wherePerson = true := by decide +kernel
theorem moX1_wherePerson : MethOk tX1_wherePerson 2 := ⟨Or.inl ⟨rfl, q1961⟩, by decide +kernel, ⟨by decide, by decide⟩, by decide +kernel⟩
def mX1_wherePerson (r1 : Nat) (x2 : Int) (h : Hp) (Q : Rs → Hp → Prop) : Prop := ob h r1 7 ∧ ob h (hR h r1 2) 5 ∧ ∀ v103 : Int, v103 = (hI h (hR h r1 2) 0) → wh2 (fun (C106 : Int → Int → Prop) (x104 : Int) (x105 : Int) => oJ2_size 62 h ∧ if ¬ ((vJ2_size 62 h) ≤ x105) then oJ2_get 62 x105 h ∧ ob h (vJ2_get 62 x105 h) 20 ∧ ∀ r112 : Nat, r112 = (vJ2_get 62 x105 h) → wh2 (fun (C115 : Int → Int → Prop) (x113 : Int) (x114 : Int) => ob h r112 20 ∧ if ¬ ((hI h r112 2) ≤ x114) then ob h (hR h r112 9) 70 ∧ 0 ≤ x114 ∧ x114 < (hN h (hR h r112 9)) ∧ oX7_bit r1 h ∧ (((¬ ((iand (hI h (hR h r112 9) (Int.toNat x114)) (vX7_bit r1 h)) = 0) → ob h (hR h r112 4) 70 ∧ x114 < (hN h (hR h r112 4))) ∧ ((¬ ((iand (hI h (hR h r112 9) (Int.toNat x114)) (vX7_bit r1 h)) = 0) ∧ (¬ (x2 < (hI h (hR h r112 4) (Int.toNat x114))))) → ob h (hR h r112 5) 70 ∧ x114 < (hN h (hR h r112 5)) ∧ (¬ (¬ ((hI h (hR h r112 5) (Int.toNat x114)) ≤ x2)) → ob h (hR h r112 3) 75 ∧ x114 < (hN h (hR h r112 3)) ∧ ob h (hR h (hR h r112 3) (Int.toNat x114)) 5)))) ∧ ∀ v131 : Int, v131 = (if ¬ ((iand (hI h (hR h r112 9) (Int.toNat x114)) (vX7_bit r1 h)) = 0) ∧ (¬ (x2 < (hI h (hR h r112 4) (Int.toNat x114)))) then (if ¬ ((hI h (hR h r112 5) (Int.toNat x114)) ≤ x2) then (-1) else (hI h (hR h (hR h r112 3) (Int.toNat x114)) 0)) else x113) → nm (x114 + 1) ∧ ∀ i133 : Int, i133 = (x114 + 1) → C115 v131 i133 else nm (x105 + 1) ∧ ∀ i154 : Int, i154 = (x105 + 1) → C106 x113 i154) x104 0 else Q (rV (vI x104)) h) v103 0
theorem wX1_wherePerson {G : Gx} (hg : gF G = true) {d : Nat} {r1 : Nat} {x2 : Int} {h : Hp} {Q : Rs → Hp → Prop} (hm : mX1_wherePerson r1 x2 h Q) : Ct G tX1_wherePerson (d + 3) [vR 50, vR r1, vI x2] h Q := by
  refine ct_enter (L0 := [some (vR 50), some (vR r1), some (vI x2), none, none, none, none]) rfl rfl ?_
  unfold mX1_wherePerson at hm
  obtain ⟨o101, o102, hm⟩ := hm
  obtain ⟨v103, ev103⟩ : ∃ v103 : Int, v103 = (hI h (hR h r1 2) 0) := ⟨_, rfl⟩
  replace hm := hm v103 ev103
  refine wc_aload_n (pc := 0) (dAt dtX1_wherePerson 0 rfl) rfl (wc_getR (pc := 1) (dAt dtX1_wherePerson 1 rfl) flX1_474_7 rfl o101 (wc_getI (pc := 4) (dAt dtX1_wherePerson 2 rfl) flX1_84_5 rfl o102 (wc_vi ev103 (wc_istore_n (pc := 7) (dAt dtX1_wherePerson 3 rfl) (by decide) (wc_L (L' := [some (vR 50), some (vR r1), some (vI x2), some (vI v103), none, none, none]) rfl (wc_iconst (pc := 8) (dAt dtX1_wherePerson 4 rfl) ⟨by decide, by decide⟩ (wc_istore (pc := 9) (dAt dtX1_wherePerson 5 rfl) (by decide) (wc_L (L' := [some (vR 50), some (vR r1), some (vI x2), some (vI v103), some (vI 0), none, none]) rfl (?_)))))))))
  refine wh2_ind (P := fun (x104 : Int) (x105 : Int) => Wc G tX1_wherePerson (d + 3) h Q 11 [some (vR 50), some (vR r1), some (vI x2), some (vI x104), some (vI x105), none, none] [] h) (fun C106 ih107 x104 x105 hm => ?_) hm
  obtain ⟨o108, hm⟩ := hm
  refine wc_iload (pc := 11) (dAt dtX1_wherePerson 6 rfl) rfl (wc_aload_n (pc := 13) (dAt dtX1_wherePerson 7 rfl) rfl (wc_getKR hg (pc := 14) (dAt dtX1_wherePerson 8 rfl) flX1_179_1 rfl ka50 kf50_12 (wc_kf hg fun zk => (wc_callF (k := 32) (x := ⟨"java/util/List", "size", "()I"⟩) (y' := tJ2_size) (P := eI (vJ2_size 62 h) h) (pc := 17) (dAt dtX1_wherePerson 9 rfl) q364 q366 q365 ⟨by decide, by decide⟩ moJ2_size rfl q370 q371 q369 q367 q368 (by decide) (zk.2 _ ka62).1 rfl rfl (Nat.le_of_ble_eq_true rfl) (wJ2_size hg o108 ⟨rfl, rfl⟩) (ep_I (wc_icmp_ge (pc := 22) (tgt := 122) (dAt dtX1_wherePerson 10 rfl) (by decide) (fun c109 => ?_) (fun c109 => ?_))) ex_I))))
  · replace hm := ite_f (fun z => z c109) hm
    exact wc_iload_n (pc := 122) (dAt dtX1_wherePerson 55 rfl) rfl (wc_iret (pc := 123) (dAt dtX1_wherePerson 56 rfl) rfl (nar_int _) hm)
  · replace hm := ite_t c109 hm
    obtain ⟨o110, o111, hm⟩ := hm
    obtain ⟨r112, er112⟩ : ∃ r112 : Nat, r112 = (vJ2_get 62 x105 h) := ⟨_, rfl⟩
    replace hm := hm r112 er112
    refine wc_aload_n (pc := 25) (dAt dtX1_wherePerson 11 rfl) rfl (wc_getKR hg (pc := 26) (dAt dtX1_wherePerson 12 rfl) flX1_179_1 rfl ka50 kf50_12 (wc_iload (pc := 29) (dAt dtX1_wherePerson 13 rfl) rfl (wc_kf hg fun zk => (wc_callF (k := 32) (x := ⟨"java/util/List", "get", "(I)Ljava/lang/Object;"⟩) (y' := tJ2_get) (P := eR (vJ2_get 62 x105 h) h) (pc := 31) (dAt dtX1_wherePerson 14 rfl) q506 q508 q507 ⟨by decide, by decide⟩ moJ2_get rfl q511 q512 q510 q367 q509 (by decide) (zk.2 _ ka62).1 rfl rfl (Nat.le_of_ble_eq_true rfl) (wJ2_get hg o110 ⟨rfl, rfl⟩) (ep_R (wc_cast (pc := 36) (dAt dtX1_wherePerson 15 rfl) q1820 (by decide) (Or.inl rfl) o111 (wc_vr er112 (wc_astore (pc := 39) (dAt dtX1_wherePerson 16 rfl) (by decide) (wc_L (L' := [some (vR 50), some (vR r1), some (vI x2), some (vI x104), some (vI x105), some (vR r112), none]) rfl (wc_iconst (pc := 41) (dAt dtX1_wherePerson 17 rfl) ⟨by decide, by decide⟩ (wc_istore (pc := 42) (dAt dtX1_wherePerson 18 rfl) (by decide) (wc_L (L' := [some (vR 50), some (vR r1), some (vI x2), some (vI x104), some (vI x105), some (vR r112), some (vI 0)]) rfl (?_))))))))) ex_R))))
    refine wh2_ind (P := fun (x113 : Int) (x114 : Int) => Wc G tX1_wherePerson (d + 3) h Q 44 [some (vR 50), some (vR r1), some (vI x2), some (vI x113), some (vI x105), some (vR r112), some (vI x114)] [] h) (fun C115 ih116 x113 x114 hm => ?_) hm
    obtain ⟨o117, hm⟩ := hm
    refine wc_iload (pc := 44) (dAt dtX1_wherePerson 19 rfl) rfl (wc_aload (pc := 46) (dAt dtX1_wherePerson 20 rfl) rfl (wc_getI (pc := 48) (dAt dtX1_wherePerson 21 rfl) flX1_182_20 rfl o117 (wc_icmp_ge (pc := 51) (tgt := 116) (dAt dtX1_wherePerson 22 rfl) (by decide) (fun c118 => ?_) (fun c118 => ?_))))
    · replace hm := ite_f (fun z => z c118) hm
      obtain ⟨o153, hm⟩ := hm
      obtain ⟨i154, ei154⟩ : ∃ i154 : Int, i154 = (x105 + 1) := ⟨_, rfl⟩
      replace hm := hm i154 ei154
      exact wc_iinc (v := i154) (pc := 116) (dAt dtX1_wherePerson 53 rfl) rfl ei154 (ei154 ▸ o153) (by decide) (wc_L (L' := [some (vR 50), some (vR r1), some (vI x2), some (vI x113), some (vI i154), some (vR r112), some (vI x114)]) rfl (wc_goto (pc := 119) (tgt := 11) (dAt dtX1_wherePerson 54 rfl) (by decide) (wc_drp [5, 6] rfl (ih107 _ _ hm))))
    · replace hm := ite_t c118 hm
      obtain ⟨o119, o120, o121, o122, o130, hm⟩ := hm
      obtain ⟨v131, ev131⟩ : ∃ v131 : Int, v131 = (if ¬ ((iand (hI h (hR h r112 9) (Int.toNat x114)) (vX7_bit r1 h)) = 0) ∧ (¬ (x2 < (hI h (hR h r112 4) (Int.toNat x114)))) then (if ¬ ((hI h (hR h r112 5) (Int.toNat x114)) ≤ x2) then (-1) else (hI h (hR h (hR h r112 3) (Int.toNat x114)) 0)) else x113) := ⟨_, rfl⟩
      replace hm := hm v131 ev131
      refine wc_aload (pc := 54) (dAt dtX1_wherePerson 23 rfl) rfl (wc_getR (pc := 56) (dAt dtX1_wherePerson 24 rfl) flX1_208_20 rfl o117 (wc_iload (pc := 59) (dAt dtX1_wherePerson 25 rfl) rfl (wc_iald (pc := 61) (dAt dtX1_wherePerson 26 rfl) o119 o120 o121 (wc_aload_n (pc := 62) (dAt dtX1_wherePerson 27 rfl) rfl (wc_callV (k := 7) (y' := tX7_bit) (P := eI (vX7_bit r1 h) h) (pc := 63) (dAt dtX1_wherePerson 28 rfl) lkX1_161 moX7_bit q597 q598 (by decide) o101 rfl rfl (Nat.le_of_ble_eq_true rfl) (wX7_bit hg o122 ⟨rfl, rfl⟩) (ep_I (wc_iand (pc := 66) (dAt dtX1_wherePerson 29 rfl) (?_))) ex_I)))))
      have kj134 : Wc G tX1_wherePerson (d + 3) h Q 110 [some (vR 50), some (vR r1), some (vI x2), some (vI v131), some (vI x105), some (vR r112), some (vI x114)] [] h := by
        obtain ⟨o132, hm⟩ := hm
        obtain ⟨i133, ei133⟩ : ∃ i133 : Int, i133 = (x114 + 1) := ⟨_, rfl⟩
        replace hm := hm i133 ei133
        exact wc_iinc (v := i133) (pc := 110) (dAt dtX1_wherePerson 51 rfl) rfl ei133 (ei133 ▸ o132) (by decide) (wc_L (L' := [some (vR 50), some (vR r1), some (vI x2), some (vI v131), some (vI x105), some (vR r112), some (vI i133)]) rfl (wc_goto (pc := 113) (tgt := 44) (dAt dtX1_wherePerson 52 rfl) (by decide) (ih116 _ _ hm)))
      obtain ⟨p135, p136⟩ := o130
      have k137 : (¬ ((iand (hI h (hR h r112 9) (Int.toNat x114)) (vX7_bit r1 h)) = 0) ∧ (¬ (x2 < (hI h (hR h r112 4) (Int.toNat x114))))) → Wc G tX1_wherePerson (d + 3) h Q 82 [some (vR 50), some (vR r1), some (vI x2), some (vI x113), some (vI x105), some (vR r112), some (vI x114)] [] h := fun c139 => by
        obtain ⟨o125, o126, p140⟩ := (p136 c139)
        have k141 : (¬ ((hI h (hR h r112 5) (Int.toNat x114)) ≤ x2)) → Wc G tX1_wherePerson (d + 3) h Q 94 [some (vR 50), some (vR r1), some (vI x2), some (vI x113), some (vI x105), some (vR r112), some (vI x114)] [] h := fun c143 => by
          have z144 := kj134
          rw [show v131 = (-1) from ev131.trans ((if_pos c139).trans (if_pos c143))] at z144
          exact wc_iconst (pc := 94) (dAt dtX1_wherePerson 43 rfl) ⟨by decide, by decide⟩ (wc_goto (pc := 95) (tgt := 109) (dAt dtX1_wherePerson 44 rfl) (by decide) (wc_istore_n (pc := 109) (dAt dtX1_wherePerson 50 rfl) (by decide) (wc_L (L' := [some (vR 50), some (vR r1), some (vI x2), some (vI (-1)), some (vI x105), some (vR r112), some (vI x114)]) rfl (z144))))
        have k142 : ¬ (¬ ((hI h (hR h r112 5) (Int.toNat x114)) ≤ x2)) → Wc G tX1_wherePerson (d + 3) h Q 98 [some (vR 50), some (vR r1), some (vI x2), some (vI x113), some (vI x105), some (vR r112), some (vI x114)] [] h := fun c143 => by
          obtain ⟨o127, o128, o129⟩ := (p140 c143)
          have z146 := kj134
          rw [show v131 = (hI h (hR h (hR h r112 3) (Int.toNat x114)) 0) from ev131.trans ((if_pos c139).trans (if_neg c143))] at z146
          exact wc_aload (pc := 98) (dAt dtX1_wherePerson 45 rfl) rfl (wc_getR (pc := 100) (dAt dtX1_wherePerson 46 rfl) flX1_189_20 rfl o117 (wc_iload (pc := 103) (dAt dtX1_wherePerson 47 rfl) rfl (wc_aald (pc := 105) (dAt dtX1_wherePerson 48 rfl) ⟨by decide, by decide⟩ o127 o120 o128 (wc_getI (pc := 106) (dAt dtX1_wherePerson 49 rfl) flX1_84_5 rfl o129 (wc_istore_n (pc := 109) (dAt dtX1_wherePerson 50 rfl) (by decide) (wc_L (L' := [some (vR 50), some (vR r1), some (vI x2), some (vI (hI h (hR h (hR h r112 3) (Int.toNat x114)) 0)), some (vI x105), some (vR r112), some (vI x114)]) rfl (z146)))))))
        exact wc_iload_n (pc := 82) (dAt dtX1_wherePerson 37 rfl) rfl (wc_aload (pc := 83) (dAt dtX1_wherePerson 38 rfl) rfl (wc_getR (pc := 85) (dAt dtX1_wherePerson 39 rfl) flX1_228_20 rfl o117 (wc_iload (pc := 88) (dAt dtX1_wherePerson 40 rfl) rfl (wc_iald (pc := 90) (dAt dtX1_wherePerson 41 rfl) o125 o120 o126 (wc_icmp_ge (pc := 91) (tgt := 98) (dAt dtX1_wherePerson 42 rfl) (by decide) (fun c148 => (k142 (fun z => z c148))) (fun c148 => (k141 c148)))))))
      have k138 : ¬ (¬ ((iand (hI h (hR h r112 9) (Int.toNat x114)) (vX7_bit r1 h)) = 0) ∧ (¬ (x2 < (hI h (hR h r112 4) (Int.toNat x114))))) → Wc G tX1_wherePerson (d + 3) h Q 110 [some (vR 50), some (vR r1), some (vI x2), some (vI x113), some (vI x105), some (vR r112), some (vI x114)] [] h := fun c139 => by
        have z149 := kj134
        rw [show v131 = x113 from ev131.trans (if_neg c139)] at z149
        exact z149
      exact wc_if_eq (pc := 67) (tgt := 110) (dAt dtX1_wherePerson 30 rfl) (by decide) (fun c151 => (k138 (fun z => z.1 c151))) (fun c151 => wc_iload_n (pc := 70) (dAt dtX1_wherePerson 31 rfl) rfl (wc_aload (pc := 71) (dAt dtX1_wherePerson 32 rfl) rfl (wc_getR (pc := 73) (dAt dtX1_wherePerson 33 rfl) flX1_468_20 rfl o117 (wc_iload (pc := 76) (dAt dtX1_wherePerson 34 rfl) rfl (wc_iald (pc := 78) (dAt dtX1_wherePerson 35 rfl) (p135 c151).1 o120 (p135 c151).2 (wc_icmp_lt (pc := 79) (tgt := 110) (dAt dtX1_wherePerson 36 rfl) (by decide) (fun c152 => (k138 (fun z => (fun z => z c152) z.2))) (fun c152 => (k137 ⟨c151, c152⟩))))))))
def tX1_where : Mt := (⟨"FlyingDoctors", "where", "(III)I"⟩, prog_1_method_55_code, 6, (Option.some Jvm.ClassFile.FieldType.int), [])
def DX1_where : List (Nat × Instr × Nat) := [(0, .iload_n 1, 1), (1, .ifCond .eq 8, 3), (4, .iload_n 1, 1), (5, .iconst 1, 1), (6, .if_icmp .ne 7, 3), (9, .iconst 1, 1), (10, .goto 4, 3), (13, .iconst 0, 1), (14, .invokestatic 318, 3), (17, .iload_n 1, 1), (18, .ifCond .ne 11, 3), (21, .aload_n 0, 1), (22, .iload_n 2, 1), (23, .invokevirtual 370, 3), (26, .goto 4, 3), (29, .aconst_null, 1), (30, .astore 4, 2), (32, .iload_n 1, 1), (33, .iconst 1, 1), (34, .if_icmp .ne 11, 3), (37, .aload_n 0, 1), (38, .iload_n 2, 1), (39, .invokevirtual 439, 3), (42, .goto 4, 3), (45, .aconst_null, 1), (46, .astore 5, 2), (48, .iload_n 3, 1), (49, .iconst 0, 1), (50, .sipush 2975, 3), (53, .invokestatic 314, 3), (56, .invokestatic 337, 3), (59, .iload_n 1, 1), (60, .ifCond .ne 13, 3), (63, .aload_n 0, 1), (64, .aload 4, 2), (66, .iload_n 3, 1), (67, .invokevirtual 475, 3), (70, .goto 10, 3), (73, .aload_n 0, 1), (74, .aload 5, 2), (76, .iload_n 3, 1), (77, .invokevirtual 479, 3), (80, .ireturn, 1)]
theorem dtX1_where : chkD (mB tX1_where) DX1_where = true := by decide +kernel
theorem moX1_where : MethOk tX1_where 3 := ⟨Or.inl ⟨rfl, q1953⟩, by decide +kernel, ⟨by decide, by decide⟩, by decide +kernel⟩
def mX1_where (x1 : Int) (x2 : Int) (x3 : Int) (h : Hp) (Q : Rs → Hp → Prop) : Prop := ∀ v101 : Int, v101 = (b2i ((x1 = 0) ∨ (¬ (x1 ≠ 1)))) → mX1_found v101 h (kN Q (fun h102 => jn (fun (r109 : Nat) (h105 : Hp) => jn (fun (r116 : Nat) (h112 : Hp) => mX1_right (vX1_in x3 0 2975 h112) h112 (kN Q (fun h117 => if ¬ (x1 ≠ 0) then mX1_wherePlane r109 x3 h117 (kI Q (fun x120 h119 => Q (rV (vI x120)) h119)) else mX1_wherePerson r116 x3 h117 (kI Q (fun x122 h121 => Q (rV (vI x122)) h121))))) (fun K110 => if ¬ (x1 ≠ 1) then mX1_personAt x2 h105 (kR Q (fun r115 h114 => K110 r115 h114)) else K110 0 h105)) (fun K103 => if ¬ (x1 ≠ 0) then mX1_planeAt x2 h102 (kR Q (fun r108 h107 => K103 r108 h107)) else K103 0 h102)))
theorem wX1_where {G : Gx} (hg : gF G = true) {d : Nat} {x1 : Int} {x2 : Int} {x3 : Int} {h : Hp} {Q : Rs → Hp → Prop} (hm : mX1_where x1 x2 x3 h Q) : Ct G tX1_where (d + 10) [vR 50, vI x1, vI x2, vI x3] h Q := by
  refine ct_enter (L0 := [some (vR 50), some (vI x1), some (vI x2), some (vI x3), none, none]) rfl rfl ?_
  unfold mX1_where at hm
  obtain ⟨v101, ev101⟩ : ∃ v101 : Int, v101 = (b2i ((x1 = 0) ∨ (¬ (x1 ≠ 1)))) := ⟨_, rfl⟩
  replace hm := hm v101 ev101
  refine wc_iload_n (pc := 0) (dAt dtX1_where 0 rfl) rfl (?_)
  have kj123 : Wc G tX1_where (d + 10) h Q 14 [some (vR 50), some (vI x1), some (vI x2), some (vI x3), none, none] [vI v101] h := by
    refine wc_callS (y' := tX1_found) (av := [vI v101]) (st := []) (pc := 14) (dAt dtX1_where 8 rfl) lkX1_318 moX1_found q687 q128 rfl rfl (Nat.le_of_ble_eq_true rfl) (wX1_found hg hm) (kr_N (fun h102 hm => ?_)) (kx_N rfl)
    refine wc_iload_n (pc := 17) (dAt dtX1_where 9 rfl) rfl (?_)
    refine jn2_ind (P := fun (r109 : Nat) (h105 : Hp) => Wc G tX1_where (d + 10) h Q 30 [some (vR 50), some (vI x1), some (vI x2), some (vI x3), none, none] [vR r109] h105) (fun r109 h105 hm => ?_) (fun K103 kj104 hm => ?_) hm
    · refine wc_astore (pc := 30) (dAt dtX1_where 16 rfl) (by decide) (wc_L (L' := [some (vR 50), some (vI x1), some (vI x2), some (vI x3), some (vR r109), none]) rfl (wc_iload_n (pc := 32) (dAt dtX1_where 17 rfl) rfl (wc_iconst (pc := 33) (dAt dtX1_where 18 rfl) ⟨by decide, by decide⟩ (?_))))
      refine jn2_ind (P := fun (r116 : Nat) (h112 : Hp) => Wc G tX1_where (d + 10) h Q 46 [some (vR 50), some (vI x1), none, some (vI x3), some (vR r109), none] [vR r116] h112) (fun r116 h112 hm => ?_) (fun K110 kj111 hm => ?_) hm
      · refine wc_astore (pc := 46) (dAt dtX1_where 25 rfl) (by decide) (wc_L (L' := [some (vR 50), some (vI x1), none, some (vI x3), some (vR r109), some (vR r116)]) rfl (wc_iload_n (pc := 48) (dAt dtX1_where 26 rfl) rfl (wc_iconst (pc := 49) (dAt dtX1_where 27 rfl) ⟨by decide, by decide⟩ (wc_sipush (pc := 50) (dAt dtX1_where 28 rfl) ⟨by decide, by decide, by decide⟩ (wc_callS (y' := tX1_in) (P := eI (vX1_in x3 0 2975 h112) h112) (pc := 53) (dAt dtX1_where 29 rfl) lkX1_314 moX1_in q374 q128 rfl rfl (Nat.le_of_ble_eq_true rfl) (wX1_in hg ⟨rfl, rfl⟩) (ep_I (wc_callS (y' := tX1_right) (av := [vI (vX1_in x3 0 2975 h112)]) (st := []) (pc := 56) (dAt dtX1_where 30 rfl) lkX1_337 moX1_right q755 q128 rfl rfl (Nat.le_of_ble_eq_true rfl) (wX1_right hg hm) (kr_N (fun h117 hm => ?_)) (kx_N rfl))) ex_I)))))
        refine wc_iload_n (pc := 59) (dAt dtX1_where 31 rfl) rfl (wc_if_ne (pc := 60) (tgt := 73) (dAt dtX1_where 32 rfl) (by decide) (fun c118 => ?_) (fun c118 => ?_))
        · replace hm := ite_f (fun z => z c118) hm
          refine wc_aload_n (pc := 73) (dAt dtX1_where 38 rfl) rfl (wc_aload (pc := 74) (dAt dtX1_where 39 rfl) rfl (wc_iload_n (pc := 76) (dAt dtX1_where 40 rfl) rfl (wc_kf hg fun zk => wc_callV (k := 1) (y' := tX1_wherePerson) (av := [vR r116, vI x3]) (st := []) (pc := 77) (dAt dtX1_where 41 rfl) lkX1_479 moX1_wherePerson q1960 qs54 (by decide) (zk.2 _ ka50).1 rfl rfl (Nat.le_of_ble_eq_true rfl) (wX1_wherePerson hg hm) (kr_I (fun x122 h121 hm => ?_)) (kx_I rfl))))
          exact wc_iret (pc := 80) (dAt dtX1_where 42 rfl) rfl (nar_int _) hm
        · replace hm := ite_t c118 hm
          refine wc_aload_n (pc := 63) (dAt dtX1_where 33 rfl) rfl (wc_aload (pc := 64) (dAt dtX1_where 34 rfl) rfl (wc_iload_n (pc := 66) (dAt dtX1_where 35 rfl) rfl (wc_kf hg fun zk => wc_callV (k := 1) (y' := tX1_wherePlane) (av := [vR r109, vI x3]) (st := []) (pc := 67) (dAt dtX1_where 36 rfl) lkX1_475 moX1_wherePlane q1956 qs53 (by decide) (zk.2 _ ka50).1 rfl rfl (Nat.le_of_ble_eq_true rfl) (wX1_wherePlane hg hm) (kr_I (fun x120 h119 hm => ?_)) (kx_I rfl))))
          exact wc_goto (pc := 70) (tgt := 80) (dAt dtX1_where 37 rfl) (by decide) (wc_iret (pc := 80) (dAt dtX1_where 42 rfl) rfl (nar_int _) hm)
      · refine wc_icmp_ne (pc := 34) (tgt := 45) (dAt dtX1_where 19 rfl) (by decide) (fun c113 => ?_) (fun c113 => ?_)
        · replace hm := ite_f (fun z => z c113) hm
          exact wc_null (pc := 45) (dAt dtX1_where 24 rfl) (wc_drp [2] rfl (kj111 _ _ hm))
        · replace hm := ite_t c113 hm
          refine wc_aload_n (pc := 37) (dAt dtX1_where 20 rfl) rfl (wc_iload_n (pc := 38) (dAt dtX1_where 21 rfl) rfl (wc_kf hg fun zk => wc_callV (k := 1) (y' := tX1_personAt) (av := [vI x2]) (st := []) (pc := 39) (dAt dtX1_where 22 rfl) lkX1_439 moX1_personAt q1810 qs42 (by decide) (zk.2 _ ka50).1 rfl rfl (Nat.le_of_ble_eq_true rfl) (wX1_personAt hg hm) (kr_R (fun r115 h114 hm => ?_)) (kx_R rfl)))
          exact wc_goto (pc := 42) (tgt := 46) (dAt dtX1_where 23 rfl) (by decide) (wc_drp [2] rfl (kj111 _ _ hm))
    · refine wc_if_ne (pc := 18) (tgt := 29) (dAt dtX1_where 10 rfl) (by decide) (fun c106 => ?_) (fun c106 => ?_)
      · replace hm := ite_f (fun z => z c106) hm
        exact wc_null (pc := 29) (dAt dtX1_where 15 rfl) (kj104 _ _ hm)
      · replace hm := ite_t c106 hm
        refine wc_aload_n (pc := 21) (dAt dtX1_where 11 rfl) rfl (wc_iload_n (pc := 22) (dAt dtX1_where 12 rfl) rfl (wc_kf hg fun zk => wc_callV (k := 1) (y' := tX1_planeAt) (av := [vI x2]) (st := []) (pc := 23) (dAt dtX1_where 13 rfl) lkX1_370 moX1_planeAt q1549 qs35 (by decide) (zk.2 _ ka50).1 rfl rfl (Nat.le_of_ble_eq_true rfl) (wX1_planeAt hg hm) (kr_R (fun r108 h107 hm => ?_)) (kx_R rfl)))
        exact wc_goto (pc := 26) (tgt := 30) (dAt dtX1_where 14 rfl) (by decide) (kj104 _ _ hm)
  have k124 : ((x1 = 0) ∨ (¬ (x1 ≠ 1))) → Wc G tX1_where (d + 10) h Q 9 [some (vR 50), some (vI x1), some (vI x2), some (vI x3), none, none] [] h := fun c126 => by
    have z127 := kj123
    rw [show v101 = 1 from ev101.trans (b2i_t c126)] at z127
    exact wc_iconst (pc := 9) (dAt dtX1_where 5 rfl) ⟨by decide, by decide⟩ (wc_goto (pc := 10) (tgt := 14) (dAt dtX1_where 6 rfl) (by decide) (z127))
  have k125 : ¬ ((x1 = 0) ∨ (¬ (x1 ≠ 1))) → Wc G tX1_where (d + 10) h Q 13 [some (vR 50), some (vI x1), some (vI x2), some (vI x3), none, none] [] h := fun c126 => by
    have z129 := kj123
    rw [show v101 = 0 from ev101.trans (b2i_f c126)] at z129
    exact wc_iconst (pc := 13) (dAt dtX1_where 7 rfl) ⟨by decide, by decide⟩ (z129)
  exact wc_if_eq (pc := 1) (tgt := 9) (dAt dtX1_where 1 rfl) (by decide) (fun c131 => (k124 (Or.inl c131))) (fun c131 => wc_iload_n (pc := 4) (dAt dtX1_where 2 rfl) rfl (wc_iconst (pc := 5) (dAt dtX1_where 3 rfl) ⟨by decide, by decide⟩ (wc_icmp_ne (pc := 6) (tgt := 13) (dAt dtX1_where 4 rfl) (by decide) (fun c132 => (k125 (fun z => z.elim c131 (fun z => z c132)))) (fun c132 => (k124 (Or.inr c132))))))
def tX0_where : Mt := (⟨"FlyingDoctorsLaw", "where", "(LFlyingDoctors;III[J)I"⟩, method_21_code, 6, (Option.some Jvm.ClassFile.FieldType.int), [((0 : Nat), (12 : Nat), (15 : Nat), (13 : Nat)), ((0 : Nat), (12 : Nat), (19 : Nat), (15 : Nat))])
def DX0_where : List (Nat × Instr × Nat) := [(0, .aload 4, 2), (2, .iconst 0, 1), (3, .aload_n 0, 1), (4, .iload_n 1, 1), (5, .iload_n 2, 1), (6, .iload_n 3, 1), (7, .invokevirtual 76, 3), (10, .i2l, 1), (11, .lastore, 1), (12, .goto 11, 3), (15, .astore 5, 2), (17, .iconst 1, 1), (18, .ireturn, 1), (19, .astore 5, 2), (21, .iconst 2, 1), (22, .ireturn, 1), (23, .iconst 0, 1), (24, .ireturn, 1)]
theorem dtX0_where : chkD (mB tX0_where) DX0_where = true := by decide +kernel
theorem moX0_where : MethOk tX0_where 5 := ⟨Or.inr q1949, by decide +kernel, ⟨by decide, by decide⟩, by decide +kernel⟩
def mX0_where (x1 : Int) (x2 : Int) (x3 : Int) (h : Hp) (Q : Rs → Hp → Prop) : Prop := mX1_where x1 x2 x3 h (kIx (fun a103 h104 => if hT h104 a103 = 41 then ob h104 a103 41 ∧ (Q (rV (vI 1)) h104) else ob h104 a103 42 ∧ (Q (rV (vI 2)) h104)) (fun x102 h101 => ∀ h108 : Hp, h108 = sL h101 158 0 x102 → Q (rV (vI 0)) h108))
theorem wX0_where {G : Gx} (hg : gF G = true) {d : Nat} {x1 : Int} {x2 : Int} {x3 : Int} {h : Hp} {Q : Rs → Hp → Prop} (hm : mX0_where x1 x2 x3 h Q) : Ct G tX0_where (d + 11) [vR 50, vI x1, vI x2, vI x3, vR 158] h Q := by
  refine ct_enter (L0 := [some (vR 50), some (vI x1), some (vI x2), some (vI x3), some (vR 158), none]) rfl rfl ?_
  unfold mX0_where at hm
  refine wc_aload (pc := 0) (dAt dtX0_where 0 rfl) rfl (wc_iconst (pc := 2) (dAt dtX0_where 1 rfl) ⟨by decide, by decide⟩ (wc_aload_n (pc := 3) (dAt dtX0_where 2 rfl) rfl (wc_iload_n (pc := 4) (dAt dtX0_where 3 rfl) rfl (wc_iload_n (pc := 5) (dAt dtX0_where 4 rfl) rfl (wc_iload_n (pc := 6) (dAt dtX0_where 5 rfl) rfl (wc_kf hg fun zk => wc_callV (k := 1) (y' := tX1_where) (av := [vI x1, vI x2, vI x3]) (st := [vI 0, vR 158]) (pc := 7) (dAt dtX0_where 6 rfl) lkX0_76 moX1_where q1951 q1952 (by decide) (zk.2 _ ka50).1 rfl rfl (Nat.le_of_ble_eq_true rfl) (wX1_where hg hm) (krx_I (fun x102 h101 hm => ?_)) (kxx_I (fun a103 h104 hm => ?_))))))))
  · obtain ⟨h108, eh108⟩ : ∃ h108 : Hp, h108 = sL h101 158 0 x102 := ⟨_, rfl⟩
    replace hm := hm h108 eh108
    exact wc_i2l (pc := 10) (dAt dtX0_where 7 rfl) (wc_lastK hg (pc := 11) (dAt dtX0_where 8 rfl) kr158 (by decide) (by decide) (by decide) (wc_hp eh108 (wc_goto (pc := 12) (tgt := 23) (dAt dtX0_where 9 rfl) (by decide) (wc_iconst (pc := 23) (dAt dtX0_where 16 rfl) ⟨by decide, by decide⟩ (wc_iret (pc := 24) (dAt dtX0_where 17 rfl) rfl (nar_int _) hm)))))
  · by_cases c107 : hT h104 a103 = 41
    · replace hm := ite_t c107 hm
      obtain ⟨o105, hm⟩ := hm
      refine wx_hit rfl rfl (by decide) q676 (by decide) o105 rfl ?_
      exact wc_astore (pc := 15) (dAt dtX0_where 10 rfl) (by decide) (wc_L (L' := [some (vR 50), some (vI x1), some (vI x2), some (vI x3), some (vR 158), some (vR a103)]) rfl (wc_iconst (pc := 17) (dAt dtX0_where 11 rfl) ⟨by decide, by decide⟩ (wc_iret (pc := 18) (dAt dtX0_where 12 rfl) rfl (nar_int _) hm)))
    · replace hm := ite_f c107 hm
      obtain ⟨o106, hm⟩ := hm
      refine wx_hit2 rfl rfl rfl (by decide) (by decide) q676 q677 (by decide +kernel) (by decide) o106 rfl ?_
      exact wc_astore (pc := 19) (dAt dtX0_where 13 rfl) (by decide) (wc_L (L' := [some (vR 50), some (vI x1), some (vI x2), some (vI x3), some (vR 158), some (vR a103)]) rfl (wc_iconst (pc := 21) (dAt dtX0_where 14 rfl) ⟨by decide, by decide⟩ (wc_iret (pc := 22) (dAt dtX0_where 15 rfl) rfl (nar_int _) hm)))
def tX4_where : Mt := (⟨"FlyingDoctorsModel", "where", "(III)I"⟩, prog_24_method_94_code, 10, (Option.some Jvm.ClassFile.FieldType.int), [])
def DX4_where : List (Nat × Instr × Nat) := [(0, .aload_n 0, 1), (1, .iconst 0, 1), (2, .putfield 1, 3), (5, .aload_n 0, 1), (6, .iload_n 1, 1), (7, .ifCond .eq 8, 3), (10, .iload_n 1, 1), (11, .iconst 1, 1), (12, .if_icmp .ne 30, 3), (15, .iload_n 2, 1), (16, .ifCond .lt 26, 3), (19, .iload_n 2, 1), (20, .iload_n 1, 1), (21, .ifCond .ne 10, 3), (24, .aload_n 0, 1), (25, .getfield 14, 3), (28, .goto 7, 3), (31, .aload_n 0, 1), (32, .getfield 60, 3), (35, .if_icmp .ge 7, 3), (38, .iconst 1, 1), (39, .goto 4, 3), (42, .iconst 0, 1), (43, .iconst 1, 1), (44, .invokevirtual 10, 3), (47, .ifCond .eq 15, 3), (50, .aload_n 0, 1), (51, .iload_n 3, 1), (52, .invokestatic 478, 3), (55, .iconst 2, 1), (56, .invokevirtual 10, 3), (59, .ifCond .ne 5, 3), (62, .iconst 0, 1), (63, .ireturn, 1), (64, .iconst (-1), 1), (65, .istore 4, 2), (67, .iconst 0, 1), (68, .istore 5, 2), (70, .iconst 0, 1), (71, .istore 6, 2), (73, .iload 6, 2), (75, .aload_n 0, 1), (76, .getfield 550, 3), (79, .if_icmp .ge 162, 3), (82, .iconst 0, 1), (83, .istore 7, 2), (85, .iload 7, 2), (87, .aload_n 0, 1), (88, .getfield 256, 3), (91, .iload 6, 2), (93, .iaload, 1), (94, .if_icmp .ge 141, 3), (97, .bipush 7, 2), (99, .iload 6, 2), (101, .imul, 1), (102, .iload 7, 2), (104, .iadd, 1), (105, .istore 8, 2), (107, .iload_n 1, 1), (108, .ifCond .ne 22, 3), (111, .aload_n 0, 1), (112, .getfield 250, 3), (115, .iload 6, 2), (117, .iaload, 1), (118, .iload_n 2, 1), (119, .if_icmp .ne 7, 3), (122, .iconst 1, 1), (123, .goto 27, 3), (126, .iconst 0, 1), (127, .goto 23, 3), (130, .aload_n 0, 1), (131, .getfield 292, 3), (134, .iload 8, 2), (136, .iaload, 1), (137, .iload_n 2, 1), (138, .ishr, 1), (139, .iconst 1, 1), (140, .iand, 1), (141, .iconst 1, 1), (142, .if_icmp .ne 7, 3), (145, .iconst 1, 1), (146, .goto 4, 3), (149, .iconst 0, 1), (150, .istore 9, 2), (152, .iload 9, 2), (154, .ifCond .ne 6, 3), (157, .goto 72, 3), (160, .iload 5, 2), (162, .ifCond .ne 29, 3), (165, .iload 7, 2), (167, .ifCond .ne 13, 3), (170, .aload_n 0, 1), (171, .getfield 259, 3), (174, .iload 6, 2), (176, .iaload, 1), (177, .goto 12, 3), (180, .aload_n 0, 1), (181, .getfield 274, 3), (184, .iload 8, 2), (186, .iconst 1, 1), (187, .isub, 1), (188, .iaload, 1), (189, .istore 4, 2), (191, .iconst 1, 1), (192, .istore 5, 2), (194, .iload_n 3, 1), (195, .aload_n 0, 1), (196, .getfield 277, 3), (199, .iload 8, 2), (201, .iaload, 1), (202, .if_icmp .lt 27, 3), (205, .iload_n 3, 1), (206, .aload_n 0, 1), (207, .getfield 280, 3), (210, .iload 8, 2), (212, .iaload, 1), (213, .if_icmp .ge 7, 3), (216, .iconst (-1), 1), (217, .goto 10, 3), (220, .aload_n 0, 1), (221, .getfield 274, 3), (224, .iload 8, 2), (226, .iaload, 1), (227, .istore 4, 2), (229, .iinc 7 1, 3), (232, .goto (-147), 3), (235, .iinc 6 1, 3), (238, .goto (-165), 3), (241, .iload 5, 2), (243, .ifCond .eq 6, 3), (246, .iload 4, 2), (248, .ireturn, 1), (249, .iload_n 1, 1), (250, .ifCond .ne 12, 3), (253, .aload_n 0, 1), (254, .getfield 54, 3), (257, .iload_n 2, 1), (258, .iaload, 1), (259, .goto 9, 3), (262, .aload_n 0, 1), (263, .getfield 66, 3), (266, .iload_n 2, 1), (267, .iaload, 1), (268, .ireturn, 1)]
theorem dtX4_where : chkD (mB tX4_where) DX4_where = true := by decide +kernel
theorem moX4_where : MethOk tX4_where 3 := ⟨Or.inl ⟨rfl, q2845⟩, by decide +kernel, ⟨by decide, by decide⟩, by decide +kernel⟩
def mX4_where (x1 : Int) (x2 : Int) (x3 : Int) (h : Hp) (Q : Rs → Hp → Prop) : Prop := ∀ h101 : Hp, h101 = sI h 75 0 0 → ∀ v102 : Int, v102 = (if ((x1 = 0) ∧ (¬ (x2 < 0))) ∨ (¬ (x1 = 0) ∧ (¬ (x1 ≠ 1) ∧ (¬ (x2 < 0)))) then (if ¬ (x1 ≠ 0) then (b2i (¬ ((hI h101 75 3) ≤ x2))) else (b2i (¬ ((hI h101 75 4) ≤ x2)))) else 0) → mX4_right v102 1 h101 (kI Q (fun x104 h103 => if ¬ (x104 = 0) then mX4_right (vX4_isFar x3 h103) 2 h103 (kI Q (fun x107 h106 => if ¬ (x107 ≠ 0) then Q (rV (vI 0)) h106 else wh3 (fun (C112 : Int → Int → Int → Prop) (x109 : Int) (x110 : Int) (x111 : Int) => if ¬ ((hI h106 75 80) ≤ x111) then wh3 (fun (C118 : Int → Int → Int → Prop) (x115 : Int) (x116 : Int) (x117 : Int) => 0 ≤ x111 ∧ x111 < 60 ∧ if ¬ ((hI h106 130 (Int.toNat x111)) ≤ x117) then nm (7 * x111) ∧ nm ((7 * x111) + x117) ∧ ∀ v125 : Int, v125 = ((7 * x111) + x117) → ((¬ (¬ (x1 ≠ 0)) → 0 ≤ v125 ∧ v125 < 420)) ∧ ∀ v129 : Int, v129 = (if ¬ (x1 ≠ 0) then (b2i (¬ ((hI h106 128 (Int.toNat x111)) ≠ x2))) else (b2i (¬ ((iand (ishr (hI h106 142 (Int.toNat v125)) x2) 1) ≠ 1)))) → if ¬ (v129 ≠ 0) then nm (x117 + 1) ∧ ∀ i132 : Int, i132 = (x117 + 1) → C118 x115 x116 i132 else (((¬ (x116 ≠ 0)) → (¬ (¬ (x117 ≠ 0)) → nm (v125 - 1) ∧ 0 ≤ (v125 - 1) ∧ (v125 - 1) < 420))) ∧ ∀ v137 : Int, v137 = (if ¬ (x116 ≠ 0) then (if ¬ (x117 ≠ 0) then (hI h106 131 (Int.toNat x111)) else (hI h106 136 (Int.toNat (v125 - 1)))) else x115) → 0 ≤ v125 ∧ v125 < 420 ∧ ∀ v140 : Int, v140 = (if ¬ (x3 < (hI h106 137 (Int.toNat v125))) then (if ¬ ((hI h106 138 (Int.toNat v125)) ≤ x3) then (-1) else (hI h106 136 (Int.toNat v125))) else v137) → nm (x117 + 1) ∧ ∀ i142 : Int, i142 = (x117 + 1) → C118 v140 1 i142 else nm (x111 + 1) ∧ ∀ i198 : Int, i198 = (x111 + 1) → C112 x115 x116 i198) x109 x110 0 else if ¬ (x110 = 0) then Q (rV (vI x109)) h106 else ((((¬ (x1 ≠ 0)) → 0 ≤ x2 ∧ x2 < 6) ∧ (¬ (¬ (x1 ≠ 0)) → 0 ≤ x2 ∧ x2 < 12))) ∧ ∀ v205 : Int, v205 = (if ¬ (x1 ≠ 0) then (hI h106 85 (Int.toNat x2)) else (hI h106 89 (Int.toNat x2))) → Q (rV (vI v205)) h106) (-1) 0 0)) else Q (rV (vI 0)) h103))
theorem wX4_where {G : Gx} (hg : gF G = true) {d : Nat} {x1 : Int} {x2 : Int} {x3 : Int} {h : Hp} {Q : Rs → Hp → Prop} (hm : mX4_where x1 x2 x3 h Q) : Ct G tX4_where (d + 1) [vR 75, vI x1, vI x2, vI x3] h Q := by
  refine ct_enter (L0 := [some (vR 75), some (vI x1), some (vI x2), some (vI x3), none, none, none, none, none, none]) rfl rfl ?_
  unfold mX4_where at hm
  obtain ⟨h101, eh101⟩ : ∃ h101 : Hp, h101 = sI h 75 0 0 := ⟨_, rfl⟩
  replace hm := hm h101 eh101
  obtain ⟨v102, ev102⟩ : ∃ v102 : Int, v102 = (if ((x1 = 0) ∧ (¬ (x2 < 0))) ∨ (¬ (x1 = 0) ∧ (¬ (x1 ≠ 1) ∧ (¬ (x2 < 0)))) then (if ¬ (x1 ≠ 0) then (b2i (¬ ((hI h101 75 3) ≤ x2))) else (b2i (¬ ((hI h101 75 4) ≤ x2)))) else 0) := ⟨_, rfl⟩
  replace hm := hm v102 ev102
  refine wc_aload_n (pc := 0) (dAt dtX4_where 0 rfl) rfl (wc_iconst (pc := 1) (dAt dtX4_where 1 rfl) ⟨by decide, by decide⟩ (wc_putKI hg (pc := 2) (dAt dtX4_where 2 rfl) flX4_1_4 (Or.inl rfl) rfl ka75 (by decide) (okI_int _) (wc_hp eh101 (wc_aload_n (pc := 5) (dAt dtX4_where 3 rfl) rfl (wc_iload_n (pc := 6) (dAt dtX4_where 4 rfl) rfl (?_))))))
  have kj217 : Wc G tX4_where (d + 1) h Q 43 [some (vR 75), some (vI x1), some (vI x2), some (vI x3), none, none, none, none, none, none] [vI v102, vR 75] h101 := by
    refine wc_iconst (pc := 43) (dAt dtX4_where 23 rfl) ⟨by decide, by decide⟩ (wc_kf hg fun zk => wc_callV (k := 4) (y' := tX4_right) (av := [vI v102, vI 1]) (st := []) (pc := 44) (dAt dtX4_where 24 rfl) lkX4_10 moX4_right q2152 qs64 (by decide) (zk.2 _ ka75).1 rfl rfl (Nat.le_of_ble_eq_true rfl) (wX4_right hg hm) (kr_I (fun x104 h103 hm => ?_)) (kx_I rfl))
    refine wc_if_eq (pc := 47) (tgt := 62) (dAt dtX4_where 25 rfl) (by decide) (fun c105 => ?_) (fun c105 => ?_)
    · replace hm := ite_f (fun z => z c105) hm
      exact wc_iconst (pc := 62) (dAt dtX4_where 32 rfl) ⟨by decide, by decide⟩ (wc_iret (pc := 63) (dAt dtX4_where 33 rfl) rfl (nar_int _) hm)
    · replace hm := ite_t c105 hm
      refine wc_aload_n (pc := 50) (dAt dtX4_where 26 rfl) rfl (wc_iload_n (pc := 51) (dAt dtX4_where 27 rfl) rfl (wc_callS (y' := tX4_isFar) (P := eI (vX4_isFar x3 h103) h103) (pc := 52) (dAt dtX4_where 28 rfl) lkX4_478 moX4_isFar q2670 q134 rfl rfl (Nat.le_of_ble_eq_true rfl) (wX4_isFar hg ⟨rfl, rfl⟩) (ep_I (wc_iconst (pc := 55) (dAt dtX4_where 29 rfl) ⟨by decide, by decide⟩ (wc_kf hg fun zk => wc_callV (k := 4) (y' := tX4_right) (av := [vI (vX4_isFar x3 h103), vI 2]) (st := []) (pc := 56) (dAt dtX4_where 30 rfl) lkX4_10 moX4_right q2152 qs64 (by decide) (zk.2 _ ka75).1 rfl rfl (Nat.le_of_ble_eq_true rfl) (wX4_right hg hm) (kr_I (fun x107 h106 hm => ?_)) (kx_I rfl)))) ex_I))
      refine wc_if_ne (pc := 59) (tgt := 64) (dAt dtX4_where 31 rfl) (by decide) (fun c108 => ?_) (fun c108 => ?_)
      · replace hm := ite_f (fun z => z c108) hm
        refine wc_iconst (pc := 64) (dAt dtX4_where 34 rfl) ⟨by decide, by decide⟩ (wc_istore (pc := 65) (dAt dtX4_where 35 rfl) (by decide) (wc_L (L' := [some (vR 75), some (vI x1), some (vI x2), some (vI x3), some (vI (-1)), none, none, none, none, none]) rfl (wc_iconst (pc := 67) (dAt dtX4_where 36 rfl) ⟨by decide, by decide⟩ (wc_istore (pc := 68) (dAt dtX4_where 37 rfl) (by decide) (wc_L (L' := [some (vR 75), some (vI x1), some (vI x2), some (vI x3), some (vI (-1)), some (vI 0), none, none, none, none]) rfl (wc_iconst (pc := 70) (dAt dtX4_where 38 rfl) ⟨by decide, by decide⟩ (wc_istore (pc := 71) (dAt dtX4_where 39 rfl) (by decide) (wc_L (L' := [some (vR 75), some (vI x1), some (vI x2), some (vI x3), some (vI (-1)), some (vI 0), some (vI 0), none, none, none]) rfl (?_)))))))))
        refine wh3_ind (P := fun (x109 : Int) (x110 : Int) (x111 : Int) => Wc G tX4_where (d + 1) h Q 73 [some (vR 75), some (vI x1), some (vI x2), some (vI x3), some (vI x109), some (vI x110), some (vI x111), none, none, none] [] h106) (fun C112 ih113 x109 x110 x111 hm => ?_) hm
        refine wc_iload (pc := 73) (dAt dtX4_where 40 rfl) rfl (wc_aload_n (pc := 75) (dAt dtX4_where 41 rfl) rfl (wc_getKI hg (pc := 76) (dAt dtX4_where 42 rfl) flX4_550_4 rfl ka75 (wc_icmp_ge (pc := 79) (tgt := 241) (dAt dtX4_where 43 rfl) (by decide) (fun c114 => ?_) (fun c114 => ?_))))
        · replace hm := ite_f (fun z => z c114) hm
          refine wc_iload (pc := 241) (dAt dtX4_where 128 rfl) rfl (wc_if_eq (pc := 243) (tgt := 249) (dAt dtX4_where 129 rfl) (by decide) (fun c199 => ?_) (fun c199 => ?_))
          · replace hm := ite_f (fun z => z c199) hm
            obtain ⟨o204, hm⟩ := hm
            obtain ⟨v205, ev205⟩ : ∃ v205 : Int, v205 = (if ¬ (x1 ≠ 0) then (hI h106 85 (Int.toNat x2)) else (hI h106 89 (Int.toNat x2))) := ⟨_, rfl⟩
            replace hm := hm v205 ev205
            refine wc_iload_n (pc := 249) (dAt dtX4_where 132 rfl) rfl (?_)
            have kj206 : Wc G tX4_where (d + 1) h Q 268 [some (vR 75), none, none, none, none, none, none, none, none, none] [vI v205] h106 := by
              exact wc_iret (pc := 268) (dAt dtX4_where 143 rfl) rfl (nar_int _) hm
            obtain ⟨p207, p208⟩ := o204
            have k209 : (¬ (x1 ≠ 0)) → Wc G tX4_where (d + 1) h Q 253 [some (vR 75), some (vI x1), some (vI x2), some (vI x3), some (vI x109), some (vI x110), some (vI x111), none, none, none] [] h106 := fun c211 => by
              obtain ⟨o200, o201⟩ := (p207 c211)
              have z212 := kj206
              rw [show v205 = (hI h106 85 (Int.toNat x2)) from ev205.trans (if_pos c211)] at z212
              exact wc_aload_n (pc := 253) (dAt dtX4_where 134 rfl) rfl (wc_getKR hg (pc := 254) (dAt dtX4_where 135 rfl) flX4_54_4 rfl ka75 kf75_14 (wc_iload_n (pc := 257) (dAt dtX4_where 136 rfl) rfl (wc_ialdK hg (pc := 258) (dAt dtX4_where 137 rfl) kr85 o200 o201 (wc_goto (pc := 259) (tgt := 268) (dAt dtX4_where 138 rfl) (by decide) (wc_drp [1, 2, 3, 4, 5, 6] rfl (z212))))))
            have k210 : ¬ (¬ (x1 ≠ 0)) → Wc G tX4_where (d + 1) h Q 262 [some (vR 75), some (vI x1), some (vI x2), some (vI x3), some (vI x109), some (vI x110), some (vI x111), none, none, none] [] h106 := fun c211 => by
              obtain ⟨o202, o203⟩ := (p208 c211)
              have z214 := kj206
              rw [show v205 = (hI h106 89 (Int.toNat x2)) from ev205.trans (if_neg c211)] at z214
              exact wc_aload_n (pc := 262) (dAt dtX4_where 139 rfl) rfl (wc_getKR hg (pc := 263) (dAt dtX4_where 140 rfl) flX4_66_4 rfl ka75 kf75_18 (wc_iload_n (pc := 266) (dAt dtX4_where 141 rfl) rfl (wc_ialdK hg (pc := 267) (dAt dtX4_where 142 rfl) kr89 o202 o203 (wc_drp [1, 2, 3, 4, 5, 6] rfl (z214)))))
            exact wc_if_ne (pc := 250) (tgt := 262) (dAt dtX4_where 133 rfl) (by decide) (fun c216 => (k210 (fun z => z c216))) (fun c216 => (k209 c216))
          · replace hm := ite_t c199 hm
            exact wc_iload (pc := 246) (dAt dtX4_where 130 rfl) rfl (wc_iret (pc := 248) (dAt dtX4_where 131 rfl) rfl (nar_int _) hm)
        · replace hm := ite_t c114 hm
          refine wc_iconst (pc := 82) (dAt dtX4_where 44 rfl) ⟨by decide, by decide⟩ (wc_istore (pc := 83) (dAt dtX4_where 45 rfl) (by decide) (wc_L (L' := [some (vR 75), some (vI x1), some (vI x2), some (vI x3), some (vI x109), some (vI x110), some (vI x111), some (vI 0), none, none]) rfl (?_)))
          refine wh3_ind (P := fun (x115 : Int) (x116 : Int) (x117 : Int) => Wc G tX4_where (d + 1) h Q 85 [some (vR 75), some (vI x1), some (vI x2), some (vI x3), some (vI x115), some (vI x116), some (vI x111), some (vI x117), none, none] [] h106) (fun C118 ih119 x115 x116 x117 hm => ?_) hm
          obtain ⟨o120, o121, hm⟩ := hm
          refine wc_iload (pc := 85) (dAt dtX4_where 46 rfl) rfl (wc_aload_n (pc := 87) (dAt dtX4_where 47 rfl) rfl (wc_getKR hg (pc := 88) (dAt dtX4_where 48 rfl) flX4_256_4 rfl ka75 kf75_84 (wc_iload (pc := 91) (dAt dtX4_where 49 rfl) rfl (wc_ialdK hg (pc := 93) (dAt dtX4_where 50 rfl) kr130 o120 o121 (wc_icmp_ge (pc := 94) (tgt := 235) (dAt dtX4_where 51 rfl) (by decide) (fun c122 => ?_) (fun c122 => ?_))))))
          · replace hm := ite_f (fun z => z c122) hm
            obtain ⟨o197, hm⟩ := hm
            obtain ⟨i198, ei198⟩ : ∃ i198 : Int, i198 = (x111 + 1) := ⟨_, rfl⟩
            replace hm := hm i198 ei198
            exact wc_iinc (v := i198) (pc := 235) (dAt dtX4_where 126 rfl) rfl ei198 (ei198 ▸ o197) (by decide) (wc_L (L' := [some (vR 75), some (vI x1), some (vI x2), some (vI x3), some (vI x115), some (vI x116), some (vI i198), some (vI x117), none, none]) rfl (wc_goto (pc := 238) (tgt := 73) (dAt dtX4_where 127 rfl) (by decide) (wc_drp [7] rfl (ih113 _ _ _ hm))))
          · replace hm := ite_t c122 hm
            obtain ⟨o123, o124, hm⟩ := hm
            obtain ⟨v125, ev125⟩ : ∃ v125 : Int, v125 = ((7 * x111) + x117) := ⟨_, rfl⟩
            replace hm := hm v125 ev125
            obtain ⟨o128, hm⟩ := hm
            obtain ⟨v129, ev129⟩ : ∃ v129 : Int, v129 = (if ¬ (x1 ≠ 0) then (b2i (¬ ((hI h106 128 (Int.toNat x111)) ≠ x2))) else (b2i (¬ ((iand (ishr (hI h106 142 (Int.toNat v125)) x2) 1) ≠ 1)))) := ⟨_, rfl⟩
            replace hm := hm v129 ev129
            refine wc_bipush (pc := 97) (dAt dtX4_where 52 rfl) ⟨by decide, by decide, by decide⟩ (wc_iload (pc := 99) (dAt dtX4_where 53 rfl) rfl (wc_imul (pc := 101) (dAt dtX4_where 54 rfl) o123 (wc_iload (pc := 102) (dAt dtX4_where 55 rfl) rfl (wc_iadd (pc := 104) (dAt dtX4_where 56 rfl) o124 (wc_vi ev125 (wc_istore (pc := 105) (dAt dtX4_where 57 rfl) (by decide) (wc_L (L' := [some (vR 75), some (vI x1), some (vI x2), some (vI x3), some (vI x115), some (vI x116), some (vI x111), some (vI x117), some (vI v125), none]) rfl (wc_iload_n (pc := 107) (dAt dtX4_where 58 rfl) rfl (?_)))))))))
            have kj175 : Wc G tX4_where (d + 1) h Q 150 [some (vR 75), some (vI x1), some (vI x2), some (vI x3), some (vI x115), some (vI x116), some (vI x111), some (vI x117), some (vI v125), none] [vI v129] h106 := by
              refine wc_istore (pc := 150) (dAt dtX4_where 83 rfl) (by decide) (wc_L (L' := [some (vR 75), some (vI x1), some (vI x2), some (vI x3), some (vI x115), some (vI x116), some (vI x111), some (vI x117), some (vI v125), some (vI v129)]) rfl (wc_iload (pc := 152) (dAt dtX4_where 84 rfl) rfl (wc_if_ne (pc := 154) (tgt := 160) (dAt dtX4_where 85 rfl) (by decide) (fun c130 => ?_) (fun c130 => ?_))))
              · replace hm := ite_f (fun z => z c130) hm
                obtain ⟨o136, hm⟩ := hm
                obtain ⟨v137, ev137⟩ : ∃ v137 : Int, v137 = (if ¬ (x116 ≠ 0) then (if ¬ (x117 ≠ 0) then (hI h106 131 (Int.toNat x111)) else (hI h106 136 (Int.toNat (v125 - 1)))) else x115) := ⟨_, rfl⟩
                replace hm := hm v137 ev137
                refine wc_iload (pc := 160) (dAt dtX4_where 87 rfl) rfl (?_)
                have kj158 : Wc G tX4_where (d + 1) h Q 191 [some (vR 75), some (vI x1), some (vI x2), some (vI x3), some (vI v137), none, some (vI x111), some (vI x117), some (vI v125), none] [] h106 := by
                  obtain ⟨o138, o139, hm⟩ := hm
                  obtain ⟨v140, ev140⟩ : ∃ v140 : Int, v140 = (if ¬ (x3 < (hI h106 137 (Int.toNat v125))) then (if ¬ ((hI h106 138 (Int.toNat v125)) ≤ x3) then (-1) else (hI h106 136 (Int.toNat v125))) else v137) := ⟨_, rfl⟩
                  replace hm := hm v140 ev140
                  refine wc_iconst (pc := 191) (dAt dtX4_where 103 rfl) ⟨by decide, by decide⟩ (wc_istore (pc := 192) (dAt dtX4_where 104 rfl) (by decide) (wc_L (L' := [some (vR 75), some (vI x1), some (vI x2), some (vI x3), some (vI v137), some (vI 1), some (vI x111), some (vI x117), some (vI v125), none]) rfl (wc_iload_n (pc := 194) (dAt dtX4_where 105 rfl) rfl (wc_aload_n (pc := 195) (dAt dtX4_where 106 rfl) rfl (wc_getKR hg (pc := 196) (dAt dtX4_where 107 rfl) flX4_277_4 rfl ka75 kf75_91 (wc_iload (pc := 199) (dAt dtX4_where 108 rfl) rfl (wc_ialdK hg (pc := 201) (dAt dtX4_where 109 rfl) kr137 o138 o139 (?_))))))))
                  have kj143 : Wc G tX4_where (d + 1) h Q 229 [some (vR 75), some (vI x1), some (vI x2), some (vI x3), some (vI v140), some (vI 1), some (vI x111), some (vI x117), none, none] [] h106 := by
                    obtain ⟨o141, hm⟩ := hm
                    obtain ⟨i142, ei142⟩ : ∃ i142 : Int, i142 = (x117 + 1) := ⟨_, rfl⟩
                    replace hm := hm i142 ei142
                    exact wc_iinc (v := i142) (pc := 229) (dAt dtX4_where 124 rfl) rfl ei142 (ei142 ▸ o141) (by decide) (wc_L (L' := [some (vR 75), some (vI x1), some (vI x2), some (vI x3), some (vI v140), some (vI 1), some (vI x111), some (vI i142), none, none]) rfl (wc_goto (pc := 232) (tgt := 85) (dAt dtX4_where 125 rfl) (by decide) (ih119 _ _ _ hm)))
                  have k144 : (¬ (x3 < (hI h106 137 (Int.toNat v125)))) → Wc G tX4_where (d + 1) h Q 205 [some (vR 75), some (vI x1), some (vI x2), some (vI x3), some (vI v137), some (vI 1), some (vI x111), some (vI x117), some (vI v125), none] [] h106 := fun c146 => by
                    have k147 : (¬ ((hI h106 138 (Int.toNat v125)) ≤ x3)) → Wc G tX4_where (d + 1) h Q 216 [some (vR 75), some (vI x1), some (vI x2), some (vI x3), some (vI v137), some (vI 1), some (vI x111), some (vI x117), some (vI v125), none] [] h106 := fun c149 => by
                      have z150 := kj143
                      rw [show v140 = (-1) from ev140.trans ((if_pos c146).trans (if_pos c149))] at z150
                      exact wc_iconst (pc := 216) (dAt dtX4_where 117 rfl) ⟨by decide, by decide⟩ (wc_goto (pc := 217) (tgt := 227) (dAt dtX4_where 118 rfl) (by decide) (wc_istore (pc := 227) (dAt dtX4_where 123 rfl) (by decide) (wc_L (L' := [some (vR 75), some (vI x1), some (vI x2), some (vI x3), some (vI (-1)), some (vI 1), some (vI x111), some (vI x117), some (vI v125), none]) rfl (wc_drp [8] rfl (z150)))))
                    have k148 : ¬ (¬ ((hI h106 138 (Int.toNat v125)) ≤ x3)) → Wc G tX4_where (d + 1) h Q 220 [some (vR 75), some (vI x1), some (vI x2), some (vI x3), some (vI v137), some (vI 1), some (vI x111), some (vI x117), some (vI v125), none] [] h106 := fun c149 => by
                      have z152 := kj143
                      rw [show v140 = (hI h106 136 (Int.toNat v125)) from ev140.trans ((if_pos c146).trans (if_neg c149))] at z152
                      exact wc_aload_n (pc := 220) (dAt dtX4_where 119 rfl) rfl (wc_getKR hg (pc := 221) (dAt dtX4_where 120 rfl) flX4_274_4 rfl ka75 kf75_90 (wc_iload (pc := 224) (dAt dtX4_where 121 rfl) rfl (wc_ialdK hg (pc := 226) (dAt dtX4_where 122 rfl) kr136 o138 o139 (wc_istore (pc := 227) (dAt dtX4_where 123 rfl) (by decide) (wc_L (L' := [some (vR 75), some (vI x1), some (vI x2), some (vI x3), some (vI (hI h106 136 (Int.toNat v125))), some (vI 1), some (vI x111), some (vI x117), some (vI v125), none]) rfl (wc_drp [8] rfl (z152)))))))
                    exact wc_iload_n (pc := 205) (dAt dtX4_where 111 rfl) rfl (wc_aload_n (pc := 206) (dAt dtX4_where 112 rfl) rfl (wc_getKR hg (pc := 207) (dAt dtX4_where 113 rfl) flX4_280_4 rfl ka75 kf75_92 (wc_iload (pc := 210) (dAt dtX4_where 114 rfl) rfl (wc_ialdK hg (pc := 212) (dAt dtX4_where 115 rfl) kr138 o138 o139 (wc_icmp_ge (pc := 213) (tgt := 220) (dAt dtX4_where 116 rfl) (by decide) (fun c154 => (k148 (fun z => z c154))) (fun c154 => (k147 c154)))))))
                  have k145 : ¬ (¬ (x3 < (hI h106 137 (Int.toNat v125)))) → Wc G tX4_where (d + 1) h Q 229 [some (vR 75), some (vI x1), some (vI x2), some (vI x3), some (vI v137), some (vI 1), some (vI x111), some (vI x117), some (vI v125), none] [] h106 := fun c146 => by
                    have z155 := kj143
                    rw [show v140 = v137 from ev140.trans (if_neg c146)] at z155
                    exact wc_drp [8] rfl (z155)
                  exact wc_icmp_lt (pc := 202) (tgt := 229) (dAt dtX4_where 110 rfl) (by decide) (fun c157 => (k145 (fun z => z c157))) (fun c157 => (k144 c157))
                have p159 := o136
                have k160 : (¬ (x116 ≠ 0)) → Wc G tX4_where (d + 1) h Q 165 [some (vR 75), some (vI x1), some (vI x2), some (vI x3), some (vI x115), some (vI x116), some (vI x111), some (vI x117), some (vI v125), some (vI v129)] [] h106 := fun c162 => by
                  have p163 := (p159 c162)
                  have k164 : (¬ (x117 ≠ 0)) → Wc G tX4_where (d + 1) h Q 170 [some (vR 75), some (vI x1), some (vI x2), some (vI x3), some (vI x115), some (vI x116), some (vI x111), some (vI x117), some (vI v125), some (vI v129)] [] h106 := fun c166 => by
                    have z167 := kj158
                    rw [show v137 = (hI h106 131 (Int.toNat x111)) from ev137.trans ((if_pos c162).trans (if_pos c166))] at z167
                    exact wc_aload_n (pc := 170) (dAt dtX4_where 91 rfl) rfl (wc_getKR hg (pc := 171) (dAt dtX4_where 92 rfl) flX4_259_4 rfl ka75 kf75_85 (wc_iload (pc := 174) (dAt dtX4_where 93 rfl) rfl (wc_ialdK hg (pc := 176) (dAt dtX4_where 94 rfl) kr131 o120 o121 (wc_goto (pc := 177) (tgt := 189) (dAt dtX4_where 95 rfl) (by decide) (wc_istore (pc := 189) (dAt dtX4_where 102 rfl) (by decide) (wc_L (L' := [some (vR 75), some (vI x1), some (vI x2), some (vI x3), some (vI (hI h106 131 (Int.toNat x111))), some (vI x116), some (vI x111), some (vI x117), some (vI v125), some (vI v129)]) rfl (wc_drp [5, 9] rfl (z167))))))))
                  have k165 : ¬ (¬ (x117 ≠ 0)) → Wc G tX4_where (d + 1) h Q 180 [some (vR 75), some (vI x1), some (vI x2), some (vI x3), some (vI x115), some (vI x116), some (vI x111), some (vI x117), some (vI v125), some (vI v129)] [] h106 := fun c166 => by
                    obtain ⟨o133, o134, o135⟩ := (p163 c166)
                    have z169 := kj158
                    rw [show v137 = (hI h106 136 (Int.toNat (v125 - 1))) from ev137.trans ((if_pos c162).trans (if_neg c166))] at z169
                    exact wc_aload_n (pc := 180) (dAt dtX4_where 96 rfl) rfl (wc_getKR hg (pc := 181) (dAt dtX4_where 97 rfl) flX4_274_4 rfl ka75 kf75_90 (wc_iload (pc := 184) (dAt dtX4_where 98 rfl) rfl (wc_iconst (pc := 186) (dAt dtX4_where 99 rfl) ⟨by decide, by decide⟩ (wc_isub (pc := 187) (dAt dtX4_where 100 rfl) o133 (wc_ialdK hg (pc := 188) (dAt dtX4_where 101 rfl) kr136 o134 o135 (wc_istore (pc := 189) (dAt dtX4_where 102 rfl) (by decide) (wc_L (L' := [some (vR 75), some (vI x1), some (vI x2), some (vI x3), some (vI (hI h106 136 (Int.toNat (v125 - 1)))), some (vI x116), some (vI x111), some (vI x117), some (vI v125), some (vI v129)]) rfl (wc_drp [5, 9] rfl (z169)))))))))
                  exact wc_iload (pc := 165) (dAt dtX4_where 89 rfl) rfl (wc_if_ne (pc := 167) (tgt := 180) (dAt dtX4_where 90 rfl) (by decide) (fun c171 => (k165 (fun z => z c171))) (fun c171 => (k164 c171)))
                have k161 : ¬ (¬ (x116 ≠ 0)) → Wc G tX4_where (d + 1) h Q 191 [some (vR 75), some (vI x1), some (vI x2), some (vI x3), some (vI x115), some (vI x116), some (vI x111), some (vI x117), some (vI v125), some (vI v129)] [] h106 := fun c162 => by
                  have z172 := kj158
                  rw [show v137 = x115 from ev137.trans (if_neg c162)] at z172
                  exact wc_drp [5, 9] rfl (z172)
                exact wc_if_ne (pc := 162) (tgt := 191) (dAt dtX4_where 88 rfl) (by decide) (fun c174 => (k161 (fun z => z c174))) (fun c174 => (k160 c174))
              · replace hm := ite_t c130 hm
                obtain ⟨o131, hm⟩ := hm
                obtain ⟨i132, ei132⟩ : ∃ i132 : Int, i132 = (x117 + 1) := ⟨_, rfl⟩
                replace hm := hm i132 ei132
                exact wc_goto (pc := 157) (tgt := 229) (dAt dtX4_where 86 rfl) (by decide) (wc_iinc (v := i132) (pc := 229) (dAt dtX4_where 124 rfl) rfl ei132 (ei132 ▸ o131) (by decide) (wc_L (L' := [some (vR 75), some (vI x1), some (vI x2), some (vI x3), some (vI x115), some (vI x116), some (vI x111), some (vI i132), some (vI v125), some (vI v129)]) rfl (wc_goto (pc := 232) (tgt := 85) (dAt dtX4_where 125 rfl) (by decide) (wc_drp [8, 9] rfl (ih119 _ _ _ hm)))))
            have p176 := o128
            have k177 : (¬ (x1 ≠ 0)) → Wc G tX4_where (d + 1) h Q 111 [some (vR 75), some (vI x1), some (vI x2), some (vI x3), some (vI x115), some (vI x116), some (vI x111), some (vI x117), some (vI v125), none] [] h106 := fun c179 => by
              have k180 : (¬ ((hI h106 128 (Int.toNat x111)) ≠ x2)) → Wc G tX4_where (d + 1) h Q 122 [some (vR 75), some (vI x1), some (vI x2), some (vI x3), some (vI x115), some (vI x116), some (vI x111), some (vI x117), some (vI v125), none] [] h106 := fun c182 => by
                have z183 := kj175
                rw [show v129 = 1 from ev129.trans ((if_pos c179).trans (b2i_t c182))] at z183
                exact wc_iconst (pc := 122) (dAt dtX4_where 66 rfl) ⟨by decide, by decide⟩ (wc_goto (pc := 123) (tgt := 150) (dAt dtX4_where 67 rfl) (by decide) (z183))
              have k181 : ¬ (¬ ((hI h106 128 (Int.toNat x111)) ≠ x2)) → Wc G tX4_where (d + 1) h Q 126 [some (vR 75), some (vI x1), some (vI x2), some (vI x3), some (vI x115), some (vI x116), some (vI x111), some (vI x117), some (vI v125), none] [] h106 := fun c182 => by
                have z185 := kj175
                rw [show v129 = 0 from ev129.trans ((if_pos c179).trans (b2i_f c182))] at z185
                exact wc_iconst (pc := 126) (dAt dtX4_where 68 rfl) ⟨by decide, by decide⟩ (wc_goto (pc := 127) (tgt := 150) (dAt dtX4_where 69 rfl) (by decide) (z185))
              exact wc_aload_n (pc := 111) (dAt dtX4_where 60 rfl) rfl (wc_getKR hg (pc := 112) (dAt dtX4_where 61 rfl) flX4_250_4 rfl ka75 kf75_82 (wc_iload (pc := 115) (dAt dtX4_where 62 rfl) rfl (wc_ialdK hg (pc := 117) (dAt dtX4_where 63 rfl) kr128 o120 o121 (wc_iload_n (pc := 118) (dAt dtX4_where 64 rfl) rfl (wc_icmp_ne (pc := 119) (tgt := 126) (dAt dtX4_where 65 rfl) (by decide) (fun c187 => (k181 (fun z => z c187))) (fun c187 => (k180 c187)))))))
            have k178 : ¬ (¬ (x1 ≠ 0)) → Wc G tX4_where (d + 1) h Q 130 [some (vR 75), some (vI x1), some (vI x2), some (vI x3), some (vI x115), some (vI x116), some (vI x111), some (vI x117), some (vI v125), none] [] h106 := fun c179 => by
              obtain ⟨o126, o127⟩ := (p176 c179)
              have k188 : (¬ ((iand (ishr (hI h106 142 (Int.toNat v125)) x2) 1) ≠ 1)) → Wc G tX4_where (d + 1) h Q 145 [some (vR 75), some (vI x1), some (vI x2), some (vI x3), some (vI x115), some (vI x116), some (vI x111), some (vI x117), some (vI v125), none] [] h106 := fun c190 => by
                have z191 := kj175
                rw [show v129 = 1 from ev129.trans ((if_neg c179).trans (b2i_t c190))] at z191
                exact wc_iconst (pc := 145) (dAt dtX4_where 80 rfl) ⟨by decide, by decide⟩ (wc_goto (pc := 146) (tgt := 150) (dAt dtX4_where 81 rfl) (by decide) (z191))
              have k189 : ¬ (¬ ((iand (ishr (hI h106 142 (Int.toNat v125)) x2) 1) ≠ 1)) → Wc G tX4_where (d + 1) h Q 149 [some (vR 75), some (vI x1), some (vI x2), some (vI x3), some (vI x115), some (vI x116), some (vI x111), some (vI x117), some (vI v125), none] [] h106 := fun c190 => by
                have z193 := kj175
                rw [show v129 = 0 from ev129.trans ((if_neg c179).trans (b2i_f c190))] at z193
                exact wc_iconst (pc := 149) (dAt dtX4_where 82 rfl) ⟨by decide, by decide⟩ (z193)
              exact wc_aload_n (pc := 130) (dAt dtX4_where 70 rfl) rfl (wc_getKR hg (pc := 131) (dAt dtX4_where 71 rfl) flX4_292_4 rfl ka75 kf75_96 (wc_iload (pc := 134) (dAt dtX4_where 72 rfl) rfl (wc_ialdK hg (pc := 136) (dAt dtX4_where 73 rfl) kr142 o126 o127 (wc_iload_n (pc := 137) (dAt dtX4_where 74 rfl) rfl (wc_ishr (pc := 138) (dAt dtX4_where 75 rfl) (wc_iconst (pc := 139) (dAt dtX4_where 76 rfl) ⟨by decide, by decide⟩ (wc_iand (pc := 140) (dAt dtX4_where 77 rfl) (wc_iconst (pc := 141) (dAt dtX4_where 78 rfl) ⟨by decide, by decide⟩ (wc_icmp_ne (pc := 142) (tgt := 149) (dAt dtX4_where 79 rfl) (by decide) (fun c195 => (k189 (fun z => z c195))) (fun c195 => (k188 c195)))))))))))
            exact wc_if_ne (pc := 108) (tgt := 130) (dAt dtX4_where 59 rfl) (by decide) (fun c196 => (k178 (fun z => z c196))) (fun c196 => (k177 c196))
      · replace hm := ite_t c108 hm
        exact wc_iconst (pc := 62) (dAt dtX4_where 32 rfl) ⟨by decide, by decide⟩ (wc_iret (pc := 63) (dAt dtX4_where 33 rfl) rfl (nar_int _) hm)
  have k218 : (((x1 = 0) ∧ (¬ (x2 < 0))) ∨ (¬ (x1 = 0) ∧ (¬ (x1 ≠ 1) ∧ (¬ (x2 < 0))))) → Wc G tX4_where (d + 1) h Q 19 [some (vR 75), some (vI x1), some (vI x2), some (vI x3), none, none, none, none, none, none] [vR 75] h101 := fun c220 => by
    have k221 : (¬ (x1 ≠ 0)) → Wc G tX4_where (d + 1) h Q 24 [some (vR 75), some (vI x1), some (vI x2), some (vI x3), none, none, none, none, none, none] [vI x2, vR 75] h101 := fun c223 => by
      have k224 : (¬ ((hI h101 75 3) ≤ x2)) → Wc G tX4_where (d + 1) h Q 38 [some (vR 75), some (vI x1), some (vI x2), some (vI x3), none, none, none, none, none, none] [vR 75] h101 := fun c226 => by
        have z227 := kj217
        rw [show v102 = 1 from ev102.trans ((if_pos c220).trans ((if_pos c223).trans (b2i_t c226)))] at z227
        exact wc_iconst (pc := 38) (dAt dtX4_where 20 rfl) ⟨by decide, by decide⟩ (wc_goto (pc := 39) (tgt := 43) (dAt dtX4_where 21 rfl) (by decide) (z227))
      have k225 : ¬ (¬ ((hI h101 75 3) ≤ x2)) → Wc G tX4_where (d + 1) h Q 42 [some (vR 75), some (vI x1), some (vI x2), some (vI x3), none, none, none, none, none, none] [vR 75] h101 := fun c226 => by
        have z229 := kj217
        rw [show v102 = 0 from ev102.trans ((if_pos c220).trans ((if_pos c223).trans (b2i_f c226)))] at z229
        exact wc_iconst (pc := 42) (dAt dtX4_where 22 rfl) ⟨by decide, by decide⟩ (z229)
      exact wc_aload_n (pc := 24) (dAt dtX4_where 14 rfl) rfl (wc_getKI hg (pc := 25) (dAt dtX4_where 15 rfl) flX4_14_4 rfl ka75 (wc_goto (pc := 28) (tgt := 35) (dAt dtX4_where 16 rfl) (by decide) (wc_icmp_ge (pc := 35) (tgt := 42) (dAt dtX4_where 19 rfl) (by decide) (fun c231 => (k225 (fun z => z c231))) (fun c231 => (k224 c231)))))
    have k222 : ¬ (¬ (x1 ≠ 0)) → Wc G tX4_where (d + 1) h Q 31 [some (vR 75), some (vI x1), some (vI x2), some (vI x3), none, none, none, none, none, none] [vI x2, vR 75] h101 := fun c223 => by
      have k232 : (¬ ((hI h101 75 4) ≤ x2)) → Wc G tX4_where (d + 1) h Q 38 [some (vR 75), some (vI x1), some (vI x2), some (vI x3), none, none, none, none, none, none] [vR 75] h101 := fun c234 => by
        have z235 := kj217
        rw [show v102 = 1 from ev102.trans ((if_pos c220).trans ((if_neg c223).trans (b2i_t c234)))] at z235
        exact wc_iconst (pc := 38) (dAt dtX4_where 20 rfl) ⟨by decide, by decide⟩ (wc_goto (pc := 39) (tgt := 43) (dAt dtX4_where 21 rfl) (by decide) (z235))
      have k233 : ¬ (¬ ((hI h101 75 4) ≤ x2)) → Wc G tX4_where (d + 1) h Q 42 [some (vR 75), some (vI x1), some (vI x2), some (vI x3), none, none, none, none, none, none] [vR 75] h101 := fun c234 => by
        have z237 := kj217
        rw [show v102 = 0 from ev102.trans ((if_pos c220).trans ((if_neg c223).trans (b2i_f c234)))] at z237
        exact wc_iconst (pc := 42) (dAt dtX4_where 22 rfl) ⟨by decide, by decide⟩ (z237)
      exact wc_aload_n (pc := 31) (dAt dtX4_where 17 rfl) rfl (wc_getKI hg (pc := 32) (dAt dtX4_where 18 rfl) flX4_60_4 rfl ka75 (wc_icmp_ge (pc := 35) (tgt := 42) (dAt dtX4_where 19 rfl) (by decide) (fun c239 => (k233 (fun z => z c239))) (fun c239 => (k232 c239))))
    exact wc_iload_n (pc := 19) (dAt dtX4_where 11 rfl) rfl (wc_iload_n (pc := 20) (dAt dtX4_where 12 rfl) rfl (wc_if_ne (pc := 21) (tgt := 31) (dAt dtX4_where 13 rfl) (by decide) (fun c240 => (k222 (fun z => z c240))) (fun c240 => (k221 c240))))
  have k219 : ¬ (((x1 = 0) ∧ (¬ (x2 < 0))) ∨ (¬ (x1 = 0) ∧ (¬ (x1 ≠ 1) ∧ (¬ (x2 < 0))))) → Wc G tX4_where (d + 1) h Q 42 [some (vR 75), some (vI x1), some (vI x2), some (vI x3), none, none, none, none, none, none] [vR 75] h101 := fun c220 => by
    have z241 := kj217
    rw [show v102 = 0 from ev102.trans (if_neg c220)] at z241
    exact wc_iconst (pc := 42) (dAt dtX4_where 22 rfl) ⟨by decide, by decide⟩ (z241)
  exact wc_if_eq (pc := 7) (tgt := 15) (dAt dtX4_where 5 rfl) (by decide) (fun c243 => wc_iload_n (pc := 15) (dAt dtX4_where 9 rfl) rfl (wc_if_lt (pc := 16) (tgt := 42) (dAt dtX4_where 10 rfl) (by decide) (fun c244 => (k219 (fun z => z.elim (fun w => (fun z => z c244) w.2) (fun w => w.1 c243)))) (fun c244 => (k218 (Or.inl ⟨c243, c244⟩))))) (fun c243 => wc_iload_n (pc := 10) (dAt dtX4_where 6 rfl) rfl (wc_iconst (pc := 11) (dAt dtX4_where 7 rfl) ⟨by decide, by decide⟩ (wc_icmp_ne (pc := 12) (tgt := 42) (dAt dtX4_where 8 rfl) (by decide) (fun c245 => (k219 (fun z => z.elim (fun w => c243 w.1) (fun w => (fun z => z.1 c245) w.2)))) (fun c245 => wc_iload_n (pc := 15) (dAt dtX4_where 9 rfl) rfl (wc_if_lt (pc := 16) (tgt := 42) (dAt dtX4_where 10 rfl) (by decide) (fun c246 => (k219 (fun z => z.elim (fun w => c243 w.1) (fun w => (fun z => (fun z => z c246) z.2) w.2)))) (fun c246 => (k218 (Or.inr ⟨c243, ⟨c245, c246⟩⟩))))))))
