set_option maxRecDepth 100000
set_option maxHeartbeats 1000000
/-! what methods do, and their walks, by program -/
def tX1_giftLeft : Mt := (⟨"FlyingDoctors", "giftLeft", "(I)I"⟩, prog_1_method_73_code, 2, (Option.some Jvm.ClassFile.FieldType.int), [])
def DX1_giftLeft : List (Nat × Instr × Nat) := [(0, .iload_n 1, 1), (1, .iconst 0, 1), (2, .aload_n 0, 1), (3, .getfield 287, 3), (6, .invokeinterface 16 1, 5), (11, .iconst 1, 1), (12, .isub, 1), (13, .invokestatic 314, 3), (16, .invokestatic 318, 3), (19, .aload_n 0, 1), (20, .getfield 287, 3), (23, .iload_n 1, 1), (24, .invokeinterface 22 2, 5), (29, .checkcast 550, 3), (32, .getfield 561, 3), (35, .ireturn, 1)]
theorem dtX1_giftLeft : chkD (mB tX1_giftLeft) DX1_giftLeft = true := by decide +kernel
theorem moX1_giftLeft : MethOk tX1_giftLeft 1 := ⟨Or.inl ⟨rfl, q2113⟩, by decide +kernel, ⟨by decide, by decide⟩, by decide +kernel⟩
def mX1_giftLeft (x1 : Int) (h : Hp) (Q : Rs → Hp → Prop) : Prop := oJ2_size 64 h ∧ nm ((vJ2_size 64 h) - 1) ∧ mX1_found (vX1_in x1 0 ((vJ2_size 64 h) - 1) h) h (kN Q (fun h103 => oJ2_get 64 x1 h103 ∧ ob h103 (vJ2_get 64 x1 h103) 23 ∧ Q (rV (vI (hI h103 (vJ2_get 64 x1 h103) 2))) h103))
theorem wX1_giftLeft {G : Gx} (hg : gF G = true) {d : Nat} {x1 : Int} {h : Hp} {Q : Rs → Hp → Prop} (hm : mX1_giftLeft x1 h Q) : Ct G tX1_giftLeft (d + 9) [vR 50, vI x1] h Q := by
  refine ct_enter (L0 := [some (vR 50), some (vI x1)]) rfl rfl ?_
  unfold mX1_giftLeft at hm
  obtain ⟨o101, o102, hm⟩ := hm
  refine wc_iload_n (pc := 0) (dAt dtX1_giftLeft 0 rfl) rfl (wc_iconst (pc := 1) (dAt dtX1_giftLeft 1 rfl) ⟨by decide, by decide⟩ (wc_aload_n (pc := 2) (dAt dtX1_giftLeft 2 rfl) rfl (wc_getKR hg (pc := 3) (dAt dtX1_giftLeft 3 rfl) flX1_287_1 rfl ka50 kf50_14 (wc_kf hg fun zk => (wc_callF (k := 32) (x := ⟨"java/util/List", "size", "()I"⟩) (y' := tJ2_size) (P := eI (vJ2_size 64 h) h) (pc := 6) (dAt dtX1_giftLeft 4 rfl) q364 q366 q365 ⟨by decide, by decide⟩ moJ2_size rfl q370 q371 q369 q367 q368 (by decide) (zk.2 _ ka64).1 rfl rfl (Nat.le_of_ble_eq_true rfl) (wJ2_size hg o101 ⟨rfl, rfl⟩) (ep_I (wc_iconst (pc := 11) (dAt dtX1_giftLeft 5 rfl) ⟨by decide, by decide⟩ (wc_isub (pc := 12) (dAt dtX1_giftLeft 6 rfl) o102 (wc_callS (y' := tX1_in) (P := eI (vX1_in x1 0 ((vJ2_size 64 h) - 1) h) h) (pc := 13) (dAt dtX1_giftLeft 7 rfl) lkX1_314 moX1_in q374 q128 rfl rfl (Nat.le_of_ble_eq_true rfl) (wX1_in hg ⟨rfl, rfl⟩) (ep_I (wc_callS (y' := tX1_found) (av := [vI (vX1_in x1 0 ((vJ2_size 64 h) - 1) h)]) (st := []) (pc := 16) (dAt dtX1_giftLeft 8 rfl) lkX1_318 moX1_found q687 q128 rfl rfl (Nat.le_of_ble_eq_true rfl) (wX1_found hg hm) (kr_N (fun h103 hm => ?_)) (kx_N rfl))) ex_I)))) ex_I)))))
  obtain ⟨o104, o105, hm⟩ := hm
  exact wc_aload_n (pc := 19) (dAt dtX1_giftLeft 9 rfl) rfl (wc_getKR hg (pc := 20) (dAt dtX1_giftLeft 10 rfl) flX1_287_1 rfl ka50 kf50_14 (wc_iload_n (pc := 23) (dAt dtX1_giftLeft 11 rfl) rfl (wc_kf hg fun zk => (wc_callF (k := 32) (x := ⟨"java/util/List", "get", "(I)Ljava/lang/Object;"⟩) (y' := tJ2_get) (P := eR (vJ2_get 64 x1 h103) h103) (pc := 24) (dAt dtX1_giftLeft 12 rfl) q506 q508 q507 ⟨by decide, by decide⟩ moJ2_get rfl q511 q512 q510 q367 q509 (by decide) (zk.2 _ ka64).1 rfl rfl (Nat.le_of_ble_eq_true rfl) (wJ2_get hg o104 ⟨rfl, rfl⟩) (ep_R (wc_cast (pc := 29) (dAt dtX1_giftLeft 13 rfl) q641 (by decide) (Or.inl rfl) o105 (wc_getI (pc := 32) (dAt dtX1_giftLeft 14 rfl) flX1_561_23 rfl o105 (wc_iret (pc := 35) (dAt dtX1_giftLeft 15 rfl) rfl (nar_int _) hm)))) ex_R))))
def tX0_giftLeft : Mt := (⟨"FlyingDoctorsLaw", "giftLeft", "(LFlyingDoctors;I[J)I"⟩, method_30_code, 4, (Option.some Jvm.ClassFile.FieldType.int), [((0 : Nat), (9 : Nat), (12 : Nat), (13 : Nat))])
def DX0_giftLeft : List (Nat × Instr × Nat) := [(0, .aload_n 2, 1), (1, .iconst 0, 1), (2, .aload_n 0, 1), (3, .iload_n 1, 1), (4, .invokevirtual 104, 3), (7, .i2l, 1), (8, .lastore, 1), (9, .goto 6, 3), (12, .astore_n 3, 1), (13, .iconst 1, 1), (14, .ireturn, 1), (15, .iconst 0, 1), (16, .ireturn, 1)]
theorem dtX0_giftLeft : chkD (mB tX0_giftLeft) DX0_giftLeft = true := by decide +kernel
theorem moX0_giftLeft : MethOk tX0_giftLeft 3 := ⟨Or.inr q2109, by decide +kernel, ⟨by decide, by decide⟩, by decide +kernel⟩
def mX0_giftLeft (x1 : Int) (h : Hp) (Q : Rs → Hp → Prop) : Prop := mX1_giftLeft x1 h (kIx (fun a103 h104 => ob h104 a103 41 ∧ (Q (rV (vI 1)) h104)) (fun x102 h101 => ∀ h106 : Hp, h106 = sL h101 158 0 x102 → Q (rV (vI 0)) h106))
theorem wX0_giftLeft {G : Gx} (hg : gF G = true) {d : Nat} {x1 : Int} {h : Hp} {Q : Rs → Hp → Prop} (hm : mX0_giftLeft x1 h Q) : Ct G tX0_giftLeft (d + 10) [vR 50, vI x1, vR 158] h Q := by
  refine ct_enter (L0 := [some (vR 50), some (vI x1), some (vR 158), none]) rfl rfl ?_
  unfold mX0_giftLeft at hm
  refine wc_aload_n (pc := 0) (dAt dtX0_giftLeft 0 rfl) rfl (wc_iconst (pc := 1) (dAt dtX0_giftLeft 1 rfl) ⟨by decide, by decide⟩ (wc_aload_n (pc := 2) (dAt dtX0_giftLeft 2 rfl) rfl (wc_iload_n (pc := 3) (dAt dtX0_giftLeft 3 rfl) rfl (wc_kf hg fun zk => wc_callV (k := 1) (y' := tX1_giftLeft) (av := [vI x1]) (st := [vI 0, vR 158]) (pc := 4) (dAt dtX0_giftLeft 4 rfl) lkX0_104 moX1_giftLeft q2111 q2112 (by decide) (zk.2 _ ka50).1 rfl rfl (Nat.le_of_ble_eq_true rfl) (wX1_giftLeft hg hm) (krx_I (fun x102 h101 hm => ?_)) (kxx_I (fun a103 h104 hm => ?_))))))
  · obtain ⟨h106, eh106⟩ : ∃ h106 : Hp, h106 = sL h101 158 0 x102 := ⟨_, rfl⟩
    replace hm := hm h106 eh106
    exact wc_i2l (pc := 7) (dAt dtX0_giftLeft 5 rfl) (wc_lastK hg (pc := 8) (dAt dtX0_giftLeft 6 rfl) kr158 (by decide) (by decide) (by decide) (wc_hp eh106 (wc_goto (pc := 9) (tgt := 15) (dAt dtX0_giftLeft 7 rfl) (by decide) (wc_iconst (pc := 15) (dAt dtX0_giftLeft 11 rfl) ⟨by decide, by decide⟩ (wc_iret (pc := 16) (dAt dtX0_giftLeft 12 rfl) rfl (nar_int _) hm)))))
  · obtain ⟨o105, hm⟩ := hm
    refine wx_hit rfl rfl (by decide) q676 (by decide) o105 rfl ?_
    exact wc_astore_n (pc := 12) (dAt dtX0_giftLeft 8 rfl) (by decide) (wc_L (L' := [some (vR 50), some (vI x1), some (vR 158), some (vR a103)]) rfl (wc_iconst (pc := 13) (dAt dtX0_giftLeft 9 rfl) ⟨by decide, by decide⟩ (wc_iret (pc := 14) (dAt dtX0_giftLeft 10 rfl) rfl (nar_int _) hm)))
def tX4_giftLeft : Mt := (⟨"FlyingDoctorsModel", "giftLeft", "(I)I"⟩, prog_24_method_115_code, 2, (Option.some Jvm.ClassFile.FieldType.int), [])
def DX4_giftLeft : List (Nat × Instr × Nat) := [(0, .aload_n 0, 1), (1, .iconst 0, 1), (2, .putfield 1, 3), (5, .aload_n 0, 1), (6, .iload_n 1, 1), (7, .ifCond .lt 15, 3), (10, .iload_n 1, 1), (11, .aload_n 0, 1), (12, .getfield 611, 3), (15, .if_icmp .ge 7, 3), (18, .iconst 1, 1), (19, .goto 4, 3), (22, .iconst 0, 1), (23, .iconst 1, 1), (24, .invokevirtual 10, 3), (27, .ifCond .eq 12, 3), (30, .aload_n 0, 1), (31, .getfield 331, 3), (34, .iload_n 1, 1), (35, .iaload, 1), (36, .goto 4, 3), (39, .iconst 0, 1), (40, .ireturn, 1)]
theorem dtX4_giftLeft : chkD (mB tX4_giftLeft) DX4_giftLeft = true := by decide +kernel
theorem moX4_giftLeft : MethOk tX4_giftLeft 1 := ⟨Or.inl ⟨rfl, q2930⟩, by decide +kernel, ⟨by decide, by decide⟩, by decide +kernel⟩
def mX4_giftLeft (x1 : Int) (h : Hp) (Q : Rs → Hp → Prop) : Prop := ∀ h101 : Hp, h101 = sI h 75 0 0 → ∀ v102 : Int, v102 = (b2i (¬ (x1 < 0) ∧ (¬ ((hI h101 75 113) ≤ x1)))) → mX4_right v102 1 h101 (kI Q (fun x104 h103 => (((¬ (x104 = 0)) → 0 ≤ x1 ∧ x1 < 12)) ∧ ∀ v108 : Int, v108 = (if ¬ (x104 = 0) then (hI h103 155 (Int.toNat x1)) else 0) → Q (rV (vI v108)) h103))
theorem wX4_giftLeft {G : Gx} (hg : gF G = true) {d : Nat} {x1 : Int} {h : Hp} {Q : Rs → Hp → Prop} (hm : mX4_giftLeft x1 h Q) : Ct G tX4_giftLeft (d + 1) [vR 75, vI x1] h Q := by
  refine ct_enter (L0 := [some (vR 75), some (vI x1)]) rfl rfl ?_
  unfold mX4_giftLeft at hm
  obtain ⟨h101, eh101⟩ : ∃ h101 : Hp, h101 = sI h 75 0 0 := ⟨_, rfl⟩
  replace hm := hm h101 eh101
  obtain ⟨v102, ev102⟩ : ∃ v102 : Int, v102 = (b2i (¬ (x1 < 0) ∧ (¬ ((hI h101 75 113) ≤ x1)))) := ⟨_, rfl⟩
  replace hm := hm v102 ev102
  refine wc_aload_n (pc := 0) (dAt dtX4_giftLeft 0 rfl) rfl (wc_iconst (pc := 1) (dAt dtX4_giftLeft 1 rfl) ⟨by decide, by decide⟩ (wc_putKI hg (pc := 2) (dAt dtX4_giftLeft 2 rfl) flX4_1_4 (Or.inl rfl) rfl ka75 (by decide) (okI_int _) (wc_hp eh101 (wc_aload_n (pc := 5) (dAt dtX4_giftLeft 3 rfl) rfl (wc_iload_n (pc := 6) (dAt dtX4_giftLeft 4 rfl) rfl (?_))))))
  have kj119 : Wc G tX4_giftLeft (d + 1) h Q 23 [some (vR 75), some (vI x1)] [vI v102, vR 75] h101 := by
    refine wc_iconst (pc := 23) (dAt dtX4_giftLeft 13 rfl) ⟨by decide, by decide⟩ (wc_kf hg fun zk => wc_callV (k := 4) (y' := tX4_right) (av := [vI v102, vI 1]) (st := []) (pc := 24) (dAt dtX4_giftLeft 14 rfl) lkX4_10 moX4_right q2152 qs64 (by decide) (zk.2 _ ka75).1 rfl rfl (Nat.le_of_ble_eq_true rfl) (wX4_right hg hm) (kr_I (fun x104 h103 hm => ?_)) (kx_I rfl))
    obtain ⟨o107, hm⟩ := hm
    obtain ⟨v108, ev108⟩ : ∃ v108 : Int, v108 = (if ¬ (x104 = 0) then (hI h103 155 (Int.toNat x1)) else 0) := ⟨_, rfl⟩
    replace hm := hm v108 ev108
    have kj109 : Wc G tX4_giftLeft (d + 1) h Q 40 [some (vR 75), none] [vI v108] h103 := by
      exact wc_iret (pc := 40) (dAt dtX4_giftLeft 22 rfl) rfl (nar_int _) hm
    have p110 := o107
    have k111 : (¬ (x104 = 0)) → Wc G tX4_giftLeft (d + 1) h Q 30 [some (vR 75), some (vI x1)] [] h103 := fun c113 => by
      obtain ⟨o105, o106⟩ := (p110 c113)
      have z114 := kj109
      rw [show v108 = (hI h103 155 (Int.toNat x1)) from ev108.trans (if_pos c113)] at z114
      exact wc_aload_n (pc := 30) (dAt dtX4_giftLeft 16 rfl) rfl (wc_getKR hg (pc := 31) (dAt dtX4_giftLeft 17 rfl) flX4_331_4 rfl ka75 kf75_114 (wc_iload_n (pc := 34) (dAt dtX4_giftLeft 18 rfl) rfl (wc_ialdK hg (pc := 35) (dAt dtX4_giftLeft 19 rfl) kr155 o105 o106 (wc_goto (pc := 36) (tgt := 40) (dAt dtX4_giftLeft 20 rfl) (by decide) (wc_drp [1] rfl (z114))))))
    have k112 : ¬ (¬ (x104 = 0)) → Wc G tX4_giftLeft (d + 1) h Q 39 [some (vR 75), some (vI x1)] [] h103 := fun c113 => by
      have z116 := kj109
      rw [show v108 = 0 from ev108.trans (if_neg c113)] at z116
      exact wc_iconst (pc := 39) (dAt dtX4_giftLeft 21 rfl) ⟨by decide, by decide⟩ (wc_drp [1] rfl (z116))
    exact wc_if_eq (pc := 27) (tgt := 39) (dAt dtX4_giftLeft 15 rfl) (by decide) (fun c118 => (k112 (fun z => z c118))) (fun c118 => (k111 c118))
  have k120 : (¬ (x1 < 0) ∧ (¬ ((hI h101 75 113) ≤ x1))) → Wc G tX4_giftLeft (d + 1) h Q 18 [some (vR 75), some (vI x1)] [vR 75] h101 := fun c122 => by
    have z123 := kj119
    rw [show v102 = 1 from ev102.trans (b2i_t c122)] at z123
    exact wc_iconst (pc := 18) (dAt dtX4_giftLeft 10 rfl) ⟨by decide, by decide⟩ (wc_goto (pc := 19) (tgt := 23) (dAt dtX4_giftLeft 11 rfl) (by decide) (z123))
  have k121 : ¬ (¬ (x1 < 0) ∧ (¬ ((hI h101 75 113) ≤ x1))) → Wc G tX4_giftLeft (d + 1) h Q 22 [some (vR 75), some (vI x1)] [vR 75] h101 := fun c122 => by
    have z125 := kj119
    rw [show v102 = 0 from ev102.trans (b2i_f c122)] at z125
    exact wc_iconst (pc := 22) (dAt dtX4_giftLeft 12 rfl) ⟨by decide, by decide⟩ (z125)
  exact wc_if_lt (pc := 7) (tgt := 22) (dAt dtX4_giftLeft 5 rfl) (by decide) (fun c127 => (k121 (fun z => z.1 c127))) (fun c127 => wc_iload_n (pc := 10) (dAt dtX4_giftLeft 6 rfl) rfl (wc_aload_n (pc := 11) (dAt dtX4_giftLeft 7 rfl) rfl (wc_getKI hg (pc := 12) (dAt dtX4_giftLeft 8 rfl) flX4_611_4 rfl ka75 (wc_icmp_ge (pc := 15) (tgt := 22) (dAt dtX4_giftLeft 9 rfl) (by decide) (fun c128 => (k121 (fun z => (fun z => z c128) z.2))) (fun c128 => (k120 ⟨c127, c128⟩))))))
def tX1_count : Mt := (⟨"FlyingDoctors", "count", "(I)I"⟩, prog_1_method_74_code, 2, (Option.some Jvm.ClassFile.FieldType.int), [])
def DX1_count : List (Nat × Instr × Nat) := [(0, .iload_n 1, 1), (1, .tableswitch 140 0 9 #[55, 60, 70, 80, 90, 100, 110, 120, 130, 135], 55), (56, .aload_n 0, 1), (57, .getfield 173, 3), (60, .ireturn, 1), (61, .aload_n 0, 1), (62, .getfield 12, 3), (65, .invokeinterface 16 1, 5), (70, .ireturn, 1), (71, .aload_n 0, 1), (72, .getfield 272, 3), (75, .invokeinterface 16 1, 5), (80, .ireturn, 1), (81, .aload_n 0, 1), (82, .getfield 158, 3), (85, .invokeinterface 16 1, 5), (90, .ireturn, 1), (91, .aload_n 0, 1), (92, .getfield 281, 3), (95, .invokeinterface 16 1, 5), (100, .ireturn, 1), (101, .aload_n 0, 1), (102, .getfield 179, 3), (105, .invokeinterface 16 1, 5), (110, .ireturn, 1), (111, .aload_n 0, 1), (112, .getfield 284, 3), (115, .invokeinterface 16 1, 5), (120, .ireturn, 1), (121, .aload_n 0, 1), (122, .getfield 287, 3), (125, .invokeinterface 16 1, 5), (130, .ireturn, 1), (131, .aload_n 0, 1), (132, .getfield 340, 3), (135, .ireturn, 1), (136, .aload_n 0, 1), (137, .getfield 546, 3), (140, .ireturn, 1), (141, .new 1, 3), (144, .dup, 1), (145, .invokespecial 3, 3), (148, .athrow, 1)]
theorem dtX1_count : chkD (mB tX1_count) DX1_count = true := by decide +kernel
theorem moX1_count : MethOk tX1_count 1 := ⟨Or.inl ⟨rfl, q2120⟩, by decide +kernel, ⟨by decide, by decide⟩, by decide +kernel⟩
def mX1_count (x1 : Int) (h : Hp) (Q : Rs → Hp → Prop) : Prop := if x1 = 0 then Q (rV (vI (hI h 50 20))) h else if x1 = 1 then oJ2_size 54 h ∧ Q (rV (vI (vJ2_size 54 h))) h else if x1 = 2 then oJ2_size 55 h ∧ Q (rV (vI (vJ2_size 55 h))) h else if x1 = 3 then oJ2_size 56 h ∧ Q (rV (vI (vJ2_size 56 h))) h else if x1 = 4 then oJ2_size 61 h ∧ Q (rV (vI (vJ2_size 61 h))) h else if x1 = 5 then oJ2_size 62 h ∧ Q (rV (vI (vJ2_size 62 h))) h else if x1 = 6 then oJ2_size 63 h ∧ Q (rV (vI (vJ2_size 63 h))) h else if x1 = 7 then oJ2_size 64 h ∧ Q (rV (vI (vJ2_size 64 h))) h else if x1 = 8 then Q (rV (vI (hI h 50 21))) h else if x1 = 9 then Q (rV (vI (hI h 50 27))) h else hn h + 1 ≤ 878547 ∧ hq h + 6 ≤ 6460613 ∧ Q (rX (hn h)) (nw h 41 0 6)
theorem wX1_count {G : Gx} (hg : gF G = true) {d : Nat} {x1 : Int} {h : Hp} {Q : Rs → Hp → Prop} (hm : mX1_count x1 h Q) : Ct G tX1_count (d + 8) [vR 50, vI x1] h Q := by
  refine ct_enter (L0 := [some (vR 50), some (vI x1)]) rfl rfl ?_
  unfold mX1_count at hm
  refine wc_iload_n (pc := 0) (dAt dtX1_count 0 rfl) rfl (?_)
  by_cases c101 : x1 = 0
  · replace hm := ite_t c101 hm
    refine wc_tableIn (pc := 1) (tgt := 56) (dAt dtX1_count 1 rfl) (by omega) (by omega) (by rw [c101]; rfl) (by decide) ?_
    exact wc_aload_n (pc := 56) (dAt dtX1_count 2 rfl) rfl (wc_getKI hg (pc := 57) (dAt dtX1_count 3 rfl) flX1_173_1 rfl ka50 (wc_iret (pc := 60) (dAt dtX1_count 4 rfl) rfl (nar_int _) hm))
  replace hm := ite_f c101 hm
  by_cases c102 : x1 = 1
  · replace hm := ite_t c102 hm
    refine wc_tableIn (pc := 1) (tgt := 61) (dAt dtX1_count 1 rfl) (by omega) (by omega) (by rw [c102]; rfl) (by decide) ?_
    obtain ⟨o103, hm⟩ := hm
    exact wc_aload_n (pc := 61) (dAt dtX1_count 5 rfl) rfl (wc_getKR hg (pc := 62) (dAt dtX1_count 6 rfl) flX1_12_1 rfl ka50 kf50_4 (wc_kf hg fun zk => (wc_callF (k := 32) (x := ⟨"java/util/List", "size", "()I"⟩) (y' := tJ2_size) (P := eI (vJ2_size 54 h) h) (pc := 65) (dAt dtX1_count 7 rfl) q364 q366 q365 ⟨by decide, by decide⟩ moJ2_size rfl q370 q371 q369 q367 q368 (by decide) (zk.2 _ ka54).1 rfl rfl (Nat.le_of_ble_eq_true rfl) (wJ2_size hg o103 ⟨rfl, rfl⟩) (ep_I (wc_iret (pc := 70) (dAt dtX1_count 8 rfl) rfl (nar_int _) hm)) ex_I)))
  replace hm := ite_f c102 hm
  by_cases c104 : x1 = 2
  · replace hm := ite_t c104 hm
    refine wc_tableIn (pc := 1) (tgt := 71) (dAt dtX1_count 1 rfl) (by omega) (by omega) (by rw [c104]; rfl) (by decide) ?_
    obtain ⟨o105, hm⟩ := hm
    exact wc_aload_n (pc := 71) (dAt dtX1_count 9 rfl) rfl (wc_getKR hg (pc := 72) (dAt dtX1_count 10 rfl) flX1_272_1 rfl ka50 kf50_5 (wc_kf hg fun zk => (wc_callF (k := 32) (x := ⟨"java/util/List", "size", "()I"⟩) (y' := tJ2_size) (P := eI (vJ2_size 55 h) h) (pc := 75) (dAt dtX1_count 11 rfl) q364 q366 q365 ⟨by decide, by decide⟩ moJ2_size rfl q370 q371 q369 q367 q368 (by decide) (zk.2 _ ka55).1 rfl rfl (Nat.le_of_ble_eq_true rfl) (wJ2_size hg o105 ⟨rfl, rfl⟩) (ep_I (wc_iret (pc := 80) (dAt dtX1_count 12 rfl) rfl (nar_int _) hm)) ex_I)))
  replace hm := ite_f c104 hm
  by_cases c106 : x1 = 3
  · replace hm := ite_t c106 hm
    refine wc_tableIn (pc := 1) (tgt := 81) (dAt dtX1_count 1 rfl) (by omega) (by omega) (by rw [c106]; rfl) (by decide) ?_
    obtain ⟨o107, hm⟩ := hm
    exact wc_aload_n (pc := 81) (dAt dtX1_count 13 rfl) rfl (wc_getKR hg (pc := 82) (dAt dtX1_count 14 rfl) flX1_158_1 rfl ka50 kf50_6 (wc_kf hg fun zk => (wc_callF (k := 32) (x := ⟨"java/util/List", "size", "()I"⟩) (y' := tJ2_size) (P := eI (vJ2_size 56 h) h) (pc := 85) (dAt dtX1_count 15 rfl) q364 q366 q365 ⟨by decide, by decide⟩ moJ2_size rfl q370 q371 q369 q367 q368 (by decide) (zk.2 _ ka56).1 rfl rfl (Nat.le_of_ble_eq_true rfl) (wJ2_size hg o107 ⟨rfl, rfl⟩) (ep_I (wc_iret (pc := 90) (dAt dtX1_count 16 rfl) rfl (nar_int _) hm)) ex_I)))
  replace hm := ite_f c106 hm
  by_cases c108 : x1 = 4
  · replace hm := ite_t c108 hm
    refine wc_tableIn (pc := 1) (tgt := 91) (dAt dtX1_count 1 rfl) (by omega) (by omega) (by rw [c108]; rfl) (by decide) ?_
    obtain ⟨o109, hm⟩ := hm
    exact wc_aload_n (pc := 91) (dAt dtX1_count 17 rfl) rfl (wc_getKR hg (pc := 92) (dAt dtX1_count 18 rfl) flX1_281_1 rfl ka50 kf50_11 (wc_kf hg fun zk => (wc_callF (k := 32) (x := ⟨"java/util/List", "size", "()I"⟩) (y' := tJ2_size) (P := eI (vJ2_size 61 h) h) (pc := 95) (dAt dtX1_count 19 rfl) q364 q366 q365 ⟨by decide, by decide⟩ moJ2_size rfl q370 q371 q369 q367 q368 (by decide) (zk.2 _ ka61).1 rfl rfl (Nat.le_of_ble_eq_true rfl) (wJ2_size hg o109 ⟨rfl, rfl⟩) (ep_I (wc_iret (pc := 100) (dAt dtX1_count 20 rfl) rfl (nar_int _) hm)) ex_I)))
  replace hm := ite_f c108 hm
  by_cases c110 : x1 = 5
  · replace hm := ite_t c110 hm
    refine wc_tableIn (pc := 1) (tgt := 101) (dAt dtX1_count 1 rfl) (by omega) (by omega) (by rw [c110]; rfl) (by decide) ?_
    obtain ⟨o111, hm⟩ := hm
    exact wc_aload_n (pc := 101) (dAt dtX1_count 21 rfl) rfl (wc_getKR hg (pc := 102) (dAt dtX1_count 22 rfl) flX1_179_1 rfl ka50 kf50_12 (wc_kf hg fun zk => (wc_callF (k := 32) (x := ⟨"java/util/List", "size", "()I"⟩) (y' := tJ2_size) (P := eI (vJ2_size 62 h) h) (pc := 105) (dAt dtX1_count 23 rfl) q364 q366 q365 ⟨by decide, by decide⟩ moJ2_size rfl q370 q371 q369 q367 q368 (by decide) (zk.2 _ ka62).1 rfl rfl (Nat.le_of_ble_eq_true rfl) (wJ2_size hg o111 ⟨rfl, rfl⟩) (ep_I (wc_iret (pc := 110) (dAt dtX1_count 24 rfl) rfl (nar_int _) hm)) ex_I)))
  replace hm := ite_f c110 hm
  by_cases c112 : x1 = 6
  · replace hm := ite_t c112 hm
    refine wc_tableIn (pc := 1) (tgt := 111) (dAt dtX1_count 1 rfl) (by omega) (by omega) (by rw [c112]; rfl) (by decide) ?_
    obtain ⟨o113, hm⟩ := hm
    exact wc_aload_n (pc := 111) (dAt dtX1_count 25 rfl) rfl (wc_getKR hg (pc := 112) (dAt dtX1_count 26 rfl) flX1_284_1 rfl ka50 kf50_13 (wc_kf hg fun zk => (wc_callF (k := 32) (x := ⟨"java/util/List", "size", "()I"⟩) (y' := tJ2_size) (P := eI (vJ2_size 63 h) h) (pc := 115) (dAt dtX1_count 27 rfl) q364 q366 q365 ⟨by decide, by decide⟩ moJ2_size rfl q370 q371 q369 q367 q368 (by decide) (zk.2 _ ka63).1 rfl rfl (Nat.le_of_ble_eq_true rfl) (wJ2_size hg o113 ⟨rfl, rfl⟩) (ep_I (wc_iret (pc := 120) (dAt dtX1_count 28 rfl) rfl (nar_int _) hm)) ex_I)))
  replace hm := ite_f c112 hm
  by_cases c114 : x1 = 7
  · replace hm := ite_t c114 hm
    refine wc_tableIn (pc := 1) (tgt := 121) (dAt dtX1_count 1 rfl) (by omega) (by omega) (by rw [c114]; rfl) (by decide) ?_
    obtain ⟨o115, hm⟩ := hm
    exact wc_aload_n (pc := 121) (dAt dtX1_count 29 rfl) rfl (wc_getKR hg (pc := 122) (dAt dtX1_count 30 rfl) flX1_287_1 rfl ka50 kf50_14 (wc_kf hg fun zk => (wc_callF (k := 32) (x := ⟨"java/util/List", "size", "()I"⟩) (y' := tJ2_size) (P := eI (vJ2_size 64 h) h) (pc := 125) (dAt dtX1_count 31 rfl) q364 q366 q365 ⟨by decide, by decide⟩ moJ2_size rfl q370 q371 q369 q367 q368 (by decide) (zk.2 _ ka64).1 rfl rfl (Nat.le_of_ble_eq_true rfl) (wJ2_size hg o115 ⟨rfl, rfl⟩) (ep_I (wc_iret (pc := 130) (dAt dtX1_count 32 rfl) rfl (nar_int _) hm)) ex_I)))
  replace hm := ite_f c114 hm
  by_cases c116 : x1 = 8
  · replace hm := ite_t c116 hm
    refine wc_tableIn (pc := 1) (tgt := 131) (dAt dtX1_count 1 rfl) (by omega) (by omega) (by rw [c116]; rfl) (by decide) ?_
    exact wc_aload_n (pc := 131) (dAt dtX1_count 33 rfl) rfl (wc_getKI hg (pc := 132) (dAt dtX1_count 34 rfl) flX1_340_1 rfl ka50 (wc_iret (pc := 135) (dAt dtX1_count 35 rfl) rfl (nar_int _) hm))
  replace hm := ite_f c116 hm
  by_cases c117 : x1 = 9
  · replace hm := ite_t c117 hm
    refine wc_tableIn (pc := 1) (tgt := 136) (dAt dtX1_count 1 rfl) (by omega) (by omega) (by rw [c117]; rfl) (by decide) ?_
    exact wc_aload_n (pc := 136) (dAt dtX1_count 36 rfl) rfl (wc_getKI hg (pc := 137) (dAt dtX1_count 37 rfl) flX1_546_1 rfl ka50 (wc_iret (pc := 140) (dAt dtX1_count 38 rfl) rfl (nar_int _) hm))
  replace hm := ite_f c117 hm
  refine wc_tableOut (pc := 1) (tgt := 141) (dAt dtX1_count 1 rfl) (by omega) (by decide) ?_
  obtain ⟨o118, o119, hm⟩ := hm
  exact wc_throw41 (pc := 141) (dAt dtX1_count 39 rfl) (dAt dtX1_count 40 rfl) (dAt dtX1_count 41 rfl) (dAt dtX1_count 42 rfl) q689 q731 o118 o119 rfl (Nat.le_of_ble_eq_true rfl) hm
def tX0_count : Mt := (⟨"FlyingDoctorsLaw", "count", "(LFlyingDoctors;I[J)I"⟩, method_31_code, 4, (Option.some Jvm.ClassFile.FieldType.int), [((0 : Nat), (9 : Nat), (12 : Nat), (13 : Nat))])
def DX0_count : List (Nat × Instr × Nat) := [(0, .aload_n 2, 1), (1, .iconst 0, 1), (2, .aload_n 0, 1), (3, .iload_n 1, 1), (4, .invokevirtual 107, 3), (7, .i2l, 1), (8, .lastore, 1), (9, .goto 6, 3), (12, .astore_n 3, 1), (13, .iconst 1, 1), (14, .ireturn, 1), (15, .iconst 0, 1), (16, .ireturn, 1)]
theorem dtX0_count : chkD (mB tX0_count) DX0_count = true := by decide +kernel
theorem moX0_count : MethOk tX0_count 3 := ⟨Or.inr q2116, by decide +kernel, ⟨by decide, by decide⟩, by decide +kernel⟩
def mX0_count (x1 : Int) (h : Hp) (Q : Rs → Hp → Prop) : Prop := mX1_count x1 h (kIx (fun a103 h104 => ob h104 a103 41 ∧ (Q (rV (vI 1)) h104)) (fun x102 h101 => ∀ h106 : Hp, h106 = sL h101 158 0 x102 → Q (rV (vI 0)) h106))
theorem wX0_count {G : Gx} (hg : gF G = true) {d : Nat} {x1 : Int} {h : Hp} {Q : Rs → Hp → Prop} (hm : mX0_count x1 h Q) : Ct G tX0_count (d + 9) [vR 50, vI x1, vR 158] h Q := by
  refine ct_enter (L0 := [some (vR 50), some (vI x1), some (vR 158), none]) rfl rfl ?_
  unfold mX0_count at hm
  refine wc_aload_n (pc := 0) (dAt dtX0_count 0 rfl) rfl (wc_iconst (pc := 1) (dAt dtX0_count 1 rfl) ⟨by decide, by decide⟩ (wc_aload_n (pc := 2) (dAt dtX0_count 2 rfl) rfl (wc_iload_n (pc := 3) (dAt dtX0_count 3 rfl) rfl (wc_kf hg fun zk => wc_callV (k := 1) (y' := tX1_count) (av := [vI x1]) (st := [vI 0, vR 158]) (pc := 4) (dAt dtX0_count 4 rfl) lkX0_107 moX1_count q2118 q2119 (by decide) (zk.2 _ ka50).1 rfl rfl (Nat.le_of_ble_eq_true rfl) (wX1_count hg hm) (krx_I (fun x102 h101 hm => ?_)) (kxx_I (fun a103 h104 hm => ?_))))))
  · obtain ⟨h106, eh106⟩ : ∃ h106 : Hp, h106 = sL h101 158 0 x102 := ⟨_, rfl⟩
    replace hm := hm h106 eh106
    exact wc_i2l (pc := 7) (dAt dtX0_count 5 rfl) (wc_lastK hg (pc := 8) (dAt dtX0_count 6 rfl) kr158 (by decide) (by decide) (by decide) (wc_hp eh106 (wc_goto (pc := 9) (tgt := 15) (dAt dtX0_count 7 rfl) (by decide) (wc_iconst (pc := 15) (dAt dtX0_count 11 rfl) ⟨by decide, by decide⟩ (wc_iret (pc := 16) (dAt dtX0_count 12 rfl) rfl (nar_int _) hm)))))
  · obtain ⟨o105, hm⟩ := hm
    refine wx_hit rfl rfl (by decide) q676 (by decide) o105 rfl ?_
    exact wc_astore_n (pc := 12) (dAt dtX0_count 8 rfl) (by decide) (wc_L (L' := [some (vR 50), some (vI x1), some (vR 158), some (vR a103)]) rfl (wc_iconst (pc := 13) (dAt dtX0_count 9 rfl) ⟨by decide, by decide⟩ (wc_iret (pc := 14) (dAt dtX0_count 10 rfl) rfl (nar_int _) hm)))
def tX4_count : Mt := (⟨"FlyingDoctorsModel", "count", "(I)I"⟩, prog_24_method_116_code, 2, (Option.some Jvm.ClassFile.FieldType.int), [])
def DX4_count : List (Nat × Instr × Nat) := [(0, .aload_n 0, 1), (1, .iconst 0, 1), (2, .putfield 1, 3), (5, .aload_n 0, 1), (6, .iload_n 1, 1), (7, .ifCond .lt 13, 3), (10, .iload_n 1, 1), (11, .bipush 9, 2), (13, .if_icmp .gt 7, 3), (16, .iconst 1, 1), (17, .goto 4, 3), (20, .iconst 0, 1), (21, .iconst 1, 1), (22, .invokevirtual 10, 3), (25, .ifCond .ne 5, 3), (28, .iconst 0, 1), (29, .ireturn, 1), (30, .iload_n 1, 1), (31, .tableswitch 94 0 8 #[49, 54, 59, 64, 69, 74, 79, 84, 89], 49), (80, .aload_n 0, 1), (81, .getfield 81, 3), (84, .ireturn, 1), (85, .aload_n 0, 1), (86, .getfield 7, 3), (89, .ireturn, 1), (90, .aload_n 0, 1), (91, .getfield 14, 3), (94, .ireturn, 1), (95, .aload_n 0, 1), (96, .getfield 60, 3), (99, .ireturn, 1), (100, .aload_n 0, 1), (101, .getfield 497, 3), (104, .ireturn, 1), (105, .aload_n 0, 1), (106, .getfield 550, 3), (109, .ireturn, 1), (110, .aload_n 0, 1), (111, .getfield 577, 3), (114, .ireturn, 1), (115, .aload_n 0, 1), (116, .getfield 611, 3), (119, .ireturn, 1), (120, .aload_n 0, 1), (121, .getfield 84, 3), (124, .ireturn, 1), (125, .aload_n 0, 1), (126, .getfield 608, 3), (129, .ireturn, 1)]
theorem dtX4_count : chkD (mB tX4_count) DX4_count = true := by decide +kernel
theorem moX4_count : MethOk tX4_count 1 := ⟨Or.inl ⟨rfl, q2934⟩, by decide +kernel, ⟨by decide, by decide⟩, by decide +kernel⟩
def mX4_count (x1 : Int) (h : Hp) (Q : Rs → Hp → Prop) : Prop := ∀ h101 : Hp, h101 = sI h 75 0 0 → ∀ v102 : Int, v102 = (b2i (¬ (x1 < 0) ∧ (¬ (9 < x1)))) → mX4_right v102 1 h101 (kI Q (fun x104 h103 => if ¬ (x104 ≠ 0) then Q (rV (vI 0)) h103 else if x1 = 0 then Q (rV (vI (hI h103 75 1))) h103 else if x1 = 1 then Q (rV (vI (hI h103 75 2))) h103 else if x1 = 2 then Q (rV (vI (hI h103 75 3))) h103 else if x1 = 3 then Q (rV (vI (hI h103 75 4))) h103 else if x1 = 4 then Q (rV (vI (hI h103 75 69))) h103 else if x1 = 5 then Q (rV (vI (hI h103 75 80))) h103 else if x1 = 6 then Q (rV (vI (hI h103 75 98))) h103 else if x1 = 7 then Q (rV (vI (hI h103 75 113))) h103 else if x1 = 8 then Q (rV (vI (hI h103 75 23))) h103 else Q (rV (vI (hI h103 75 111))) h103))
theorem wX4_count {G : Gx} (hg : gF G = true) {d : Nat} {x1 : Int} {h : Hp} {Q : Rs → Hp → Prop} (hm : mX4_count x1 h Q) : Ct G tX4_count (d + 1) [vR 75, vI x1] h Q := by
  refine ct_enter (L0 := [some (vR 75), some (vI x1)]) rfl rfl ?_
  unfold mX4_count at hm
  obtain ⟨h101, eh101⟩ : ∃ h101 : Hp, h101 = sI h 75 0 0 := ⟨_, rfl⟩
  replace hm := hm h101 eh101
  obtain ⟨v102, ev102⟩ : ∃ v102 : Int, v102 = (b2i (¬ (x1 < 0) ∧ (¬ (9 < x1)))) := ⟨_, rfl⟩
  replace hm := hm v102 ev102
  refine wc_aload_n (pc := 0) (dAt dtX4_count 0 rfl) rfl (wc_iconst (pc := 1) (dAt dtX4_count 1 rfl) ⟨by decide, by decide⟩ (wc_putKI hg (pc := 2) (dAt dtX4_count 2 rfl) flX4_1_4 (Or.inl rfl) rfl ka75 (by decide) (okI_int _) (wc_hp eh101 (wc_aload_n (pc := 5) (dAt dtX4_count 3 rfl) rfl (wc_iload_n (pc := 6) (dAt dtX4_count 4 rfl) rfl (?_))))))
  have kj115 : Wc G tX4_count (d + 1) h Q 21 [some (vR 75), some (vI x1)] [vI v102, vR 75] h101 := by
    refine wc_iconst (pc := 21) (dAt dtX4_count 12 rfl) ⟨by decide, by decide⟩ (wc_kf hg fun zk => wc_callV (k := 4) (y' := tX4_right) (av := [vI v102, vI 1]) (st := []) (pc := 22) (dAt dtX4_count 13 rfl) lkX4_10 moX4_right q2152 qs64 (by decide) (zk.2 _ ka75).1 rfl rfl (Nat.le_of_ble_eq_true rfl) (wX4_right hg hm) (kr_I (fun x104 h103 hm => ?_)) (kx_I rfl))
    refine wc_if_ne (pc := 25) (tgt := 30) (dAt dtX4_count 14 rfl) (by decide) (fun c105 => ?_) (fun c105 => ?_)
    · replace hm := ite_f (fun z => z c105) hm
      refine wc_iload_n (pc := 30) (dAt dtX4_count 17 rfl) rfl (?_)
      by_cases c106 : x1 = 0
      · replace hm := ite_t c106 hm
        refine wc_tableIn (pc := 31) (tgt := 80) (dAt dtX4_count 18 rfl) (by omega) (by omega) (by rw [c106]; rfl) (by decide) ?_
        exact wc_aload_n (pc := 80) (dAt dtX4_count 19 rfl) rfl (wc_getKI hg (pc := 81) (dAt dtX4_count 20 rfl) flX4_81_4 rfl ka75 (wc_iret (pc := 84) (dAt dtX4_count 21 rfl) rfl (nar_int _) hm))
      replace hm := ite_f c106 hm
      by_cases c107 : x1 = 1
      · replace hm := ite_t c107 hm
        refine wc_tableIn (pc := 31) (tgt := 85) (dAt dtX4_count 18 rfl) (by omega) (by omega) (by rw [c107]; rfl) (by decide) ?_
        exact wc_aload_n (pc := 85) (dAt dtX4_count 22 rfl) rfl (wc_getKI hg (pc := 86) (dAt dtX4_count 23 rfl) flX4_7_4 rfl ka75 (wc_iret (pc := 89) (dAt dtX4_count 24 rfl) rfl (nar_int _) hm))
      replace hm := ite_f c107 hm
      by_cases c108 : x1 = 2
      · replace hm := ite_t c108 hm
        refine wc_tableIn (pc := 31) (tgt := 90) (dAt dtX4_count 18 rfl) (by omega) (by omega) (by rw [c108]; rfl) (by decide) ?_
        exact wc_aload_n (pc := 90) (dAt dtX4_count 25 rfl) rfl (wc_getKI hg (pc := 91) (dAt dtX4_count 26 rfl) flX4_14_4 rfl ka75 (wc_iret (pc := 94) (dAt dtX4_count 27 rfl) rfl (nar_int _) hm))
      replace hm := ite_f c108 hm
      by_cases c109 : x1 = 3
      · replace hm := ite_t c109 hm
        refine wc_tableIn (pc := 31) (tgt := 95) (dAt dtX4_count 18 rfl) (by omega) (by omega) (by rw [c109]; rfl) (by decide) ?_
        exact wc_aload_n (pc := 95) (dAt dtX4_count 28 rfl) rfl (wc_getKI hg (pc := 96) (dAt dtX4_count 29 rfl) flX4_60_4 rfl ka75 (wc_iret (pc := 99) (dAt dtX4_count 30 rfl) rfl (nar_int _) hm))
      replace hm := ite_f c109 hm
      by_cases c110 : x1 = 4
      · replace hm := ite_t c110 hm
        refine wc_tableIn (pc := 31) (tgt := 100) (dAt dtX4_count 18 rfl) (by omega) (by omega) (by rw [c110]; rfl) (by decide) ?_
        exact wc_aload_n (pc := 100) (dAt dtX4_count 31 rfl) rfl (wc_getKI hg (pc := 101) (dAt dtX4_count 32 rfl) flX4_497_4 rfl ka75 (wc_iret (pc := 104) (dAt dtX4_count 33 rfl) rfl (nar_int _) hm))
      replace hm := ite_f c110 hm
      by_cases c111 : x1 = 5
      · replace hm := ite_t c111 hm
        refine wc_tableIn (pc := 31) (tgt := 105) (dAt dtX4_count 18 rfl) (by omega) (by omega) (by rw [c111]; rfl) (by decide) ?_
        exact wc_aload_n (pc := 105) (dAt dtX4_count 34 rfl) rfl (wc_getKI hg (pc := 106) (dAt dtX4_count 35 rfl) flX4_550_4 rfl ka75 (wc_iret (pc := 109) (dAt dtX4_count 36 rfl) rfl (nar_int _) hm))
      replace hm := ite_f c111 hm
      by_cases c112 : x1 = 6
      · replace hm := ite_t c112 hm
        refine wc_tableIn (pc := 31) (tgt := 110) (dAt dtX4_count 18 rfl) (by omega) (by omega) (by rw [c112]; rfl) (by decide) ?_
        exact wc_aload_n (pc := 110) (dAt dtX4_count 37 rfl) rfl (wc_getKI hg (pc := 111) (dAt dtX4_count 38 rfl) flX4_577_4 rfl ka75 (wc_iret (pc := 114) (dAt dtX4_count 39 rfl) rfl (nar_int _) hm))
      replace hm := ite_f c112 hm
      by_cases c113 : x1 = 7
      · replace hm := ite_t c113 hm
        refine wc_tableIn (pc := 31) (tgt := 115) (dAt dtX4_count 18 rfl) (by omega) (by omega) (by rw [c113]; rfl) (by decide) ?_
        exact wc_aload_n (pc := 115) (dAt dtX4_count 40 rfl) rfl (wc_getKI hg (pc := 116) (dAt dtX4_count 41 rfl) flX4_611_4 rfl ka75 (wc_iret (pc := 119) (dAt dtX4_count 42 rfl) rfl (nar_int _) hm))
      replace hm := ite_f c113 hm
      by_cases c114 : x1 = 8
      · replace hm := ite_t c114 hm
        refine wc_tableIn (pc := 31) (tgt := 120) (dAt dtX4_count 18 rfl) (by omega) (by omega) (by rw [c114]; rfl) (by decide) ?_
        exact wc_aload_n (pc := 120) (dAt dtX4_count 43 rfl) rfl (wc_getKI hg (pc := 121) (dAt dtX4_count 44 rfl) flX4_84_4 rfl ka75 (wc_iret (pc := 124) (dAt dtX4_count 45 rfl) rfl (nar_int _) hm))
      replace hm := ite_f c114 hm
      refine wc_tableOut (pc := 31) (tgt := 125) (dAt dtX4_count 18 rfl) (by omega) (by decide) ?_
      exact wc_aload_n (pc := 125) (dAt dtX4_count 46 rfl) rfl (wc_getKI hg (pc := 126) (dAt dtX4_count 47 rfl) flX4_608_4 rfl ka75 (wc_iret (pc := 129) (dAt dtX4_count 48 rfl) rfl (nar_int _) hm))
    · replace hm := ite_t c105 hm
      exact wc_iconst (pc := 28) (dAt dtX4_count 15 rfl) ⟨by decide, by decide⟩ (wc_iret (pc := 29) (dAt dtX4_count 16 rfl) rfl (nar_int _) hm)
  have k116 : (¬ (x1 < 0) ∧ (¬ (9 < x1))) → Wc G tX4_count (d + 1) h Q 16 [some (vR 75), some (vI x1)] [vR 75] h101 := fun c118 => by
    have z119 := kj115
    rw [show v102 = 1 from ev102.trans (b2i_t c118)] at z119
    exact wc_iconst (pc := 16) (dAt dtX4_count 9 rfl) ⟨by decide, by decide⟩ (wc_goto (pc := 17) (tgt := 21) (dAt dtX4_count 10 rfl) (by decide) (z119))
  have k117 : ¬ (¬ (x1 < 0) ∧ (¬ (9 < x1))) → Wc G tX4_count (d + 1) h Q 20 [some (vR 75), some (vI x1)] [vR 75] h101 := fun c118 => by
    have z121 := kj115
    rw [show v102 = 0 from ev102.trans (b2i_f c118)] at z121
    exact wc_iconst (pc := 20) (dAt dtX4_count 11 rfl) ⟨by decide, by decide⟩ (z121)
  exact wc_if_lt (pc := 7) (tgt := 20) (dAt dtX4_count 5 rfl) (by decide) (fun c123 => (k117 (fun z => z.1 c123))) (fun c123 => wc_iload_n (pc := 10) (dAt dtX4_count 6 rfl) rfl (wc_bipush (pc := 11) (dAt dtX4_count 7 rfl) ⟨by decide, by decide, by decide⟩ (wc_icmp_gt (pc := 13) (tgt := 20) (dAt dtX4_count 8 rfl) (by decide) (fun c124 => (k117 (fun z => (fun z => z c124) z.2))) (fun c124 => (k116 ⟨c123, c124⟩)))))
