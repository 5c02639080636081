set_option maxRecDepth 100000
set_option maxHeartbeats 1000000
/-! what methods do, and their walks, by program -/
def tX4_heard : Mt := (⟨"FlyingDoctorsModel", "heard", "(II)I"⟩, prog_24_method_65_code, 3, (Option.some Jvm.ClassFile.FieldType.int), [])
def DX4_heard : List (Nat × Instr × Nat) := [(0, .aload_n 0, 1), (1, .iload_n 1, 1), (2, .invokevirtual 75, 3), (5, .ifCond .eq 36, 3), (8, .aload_n 0, 1), (9, .iload_n 2, 1), (10, .ifCond .lt 14, 3), (13, .iload_n 2, 1), (14, .sipush 2687, 3), (17, .if_icmp .gt 7, 3), (20, .iconst 1, 1), (21, .goto 4, 3), (24, .iconst 0, 1), (25, .iconst 2, 1), (26, .invokevirtual 10, 3), (29, .ifCond .eq 12, 3), (32, .aload_n 0, 1), (33, .iload_n 1, 1), (34, .iload_n 2, 1), (35, .invokevirtual 494, 3), (38, .goto 4, 3), (41, .iconst 0, 1), (42, .ireturn, 1)]
theorem dtX4_heard : chkD (mB tX4_heard) DX4_heard = true := by decide +kernel
theorem moX4_heard : MethOk tX4_heard 2 := ⟨Or.inl ⟨rfl, q2709⟩, by decide +kernel, ⟨by decide, by decide⟩, by decide +kernel⟩
def mX4_heard (x1 : Int) (x2 : Int) (h : Hp) (Q : Rs → Hp → Prop) : Prop := mX4_isPlace x1 h (kI Q (fun x102 h101 => if ¬ (x102 = 0) then ∀ v104 : Int, v104 = (b2i (¬ (x2 < 0) ∧ (¬ (2687 < x2)))) → mX4_right v104 2 h101 (kI Q (fun x106 h105 => if ¬ (x106 = 0) then mX4_heardOf x1 x2 h105 (kI Q (fun x109 h108 => Q (rV (vI x109)) h108)) else Q (rV (vI 0)) h105)) else Q (rV (vI 0)) h101))
theorem wX4_heard {G : Gx} (hg : gF G = true) {d : Nat} {x1 : Int} {x2 : Int} {h : Hp} {Q : Rs → Hp → Prop} (hm : mX4_heard x1 x2 h Q) : Ct G tX4_heard (d + 4) [vR 75, vI x1, vI x2] h Q := by
  refine ct_enter (L0 := [some (vR 75), some (vI x1), some (vI x2)]) rfl rfl ?_
  unfold mX4_heard at hm
  refine wc_aload_n (pc := 0) (dAt dtX4_heard 0 rfl) rfl (wc_iload_n (pc := 1) (dAt dtX4_heard 1 rfl) rfl (wc_kf hg fun zk => wc_callV (k := 4) (y' := tX4_isPlace) (av := [vI x1]) (st := []) (pc := 2) (dAt dtX4_heard 2 rfl) lkX4_75 moX4_isPlace q2148 qs63 (by decide) (zk.2 _ ka75).1 rfl rfl (Nat.le_of_ble_eq_true rfl) (wX4_isPlace hg hm) (kr_I (fun x102 h101 hm => ?_)) (kx_I rfl)))
  refine wc_if_eq (pc := 5) (tgt := 41) (dAt dtX4_heard 3 rfl) (by decide) (fun c103 => ?_) (fun c103 => ?_)
  · replace hm := ite_f (fun z => z c103) hm
    exact wc_iconst (pc := 41) (dAt dtX4_heard 21 rfl) ⟨by decide, by decide⟩ (wc_iret (pc := 42) (dAt dtX4_heard 22 rfl) rfl (nar_int _) hm)
  · replace hm := ite_t c103 hm
    obtain ⟨v104, ev104⟩ : ∃ v104 : Int, v104 = (b2i (¬ (x2 < 0) ∧ (¬ (2687 < x2)))) := ⟨_, rfl⟩
    replace hm := hm v104 ev104
    refine wc_aload_n (pc := 8) (dAt dtX4_heard 4 rfl) rfl (wc_iload_n (pc := 9) (dAt dtX4_heard 5 rfl) rfl (?_))
    have kj110 : Wc G tX4_heard (d + 4) h Q 25 [some (vR 75), some (vI x1), some (vI x2)] [vI v104, vR 75] h101 := by
      refine wc_iconst (pc := 25) (dAt dtX4_heard 13 rfl) ⟨by decide, by decide⟩ (wc_kf hg fun zk => wc_callV (k := 4) (y' := tX4_right) (av := [vI v104, vI 2]) (st := []) (pc := 26) (dAt dtX4_heard 14 rfl) lkX4_10 moX4_right q2152 qs64 (by decide) (zk.2 _ ka75).1 rfl rfl (Nat.le_of_ble_eq_true rfl) (wX4_right hg hm) (kr_I (fun x106 h105 hm => ?_)) (kx_I rfl))
      refine wc_if_eq (pc := 29) (tgt := 41) (dAt dtX4_heard 15 rfl) (by decide) (fun c107 => ?_) (fun c107 => ?_)
      · replace hm := ite_f (fun z => z c107) hm
        exact wc_iconst (pc := 41) (dAt dtX4_heard 21 rfl) ⟨by decide, by decide⟩ (wc_iret (pc := 42) (dAt dtX4_heard 22 rfl) rfl (nar_int _) hm)
      · replace hm := ite_t c107 hm
        refine wc_aload_n (pc := 32) (dAt dtX4_heard 16 rfl) rfl (wc_iload_n (pc := 33) (dAt dtX4_heard 17 rfl) rfl (wc_iload_n (pc := 34) (dAt dtX4_heard 18 rfl) rfl (wc_kf hg fun zk => wc_callV (k := 4) (y' := tX4_heardOf) (av := [vI x1, vI x2]) (st := []) (pc := 35) (dAt dtX4_heard 19 rfl) lkX4_494 moX4_heardOf q2712 qs97 (by decide) (zk.2 _ ka75).1 rfl rfl (Nat.le_of_ble_eq_true rfl) (wX4_heardOf hg hm) (kr_I (fun x109 h108 hm => ?_)) (kx_I rfl))))
        exact wc_goto (pc := 38) (tgt := 42) (dAt dtX4_heard 20 rfl) (by decide) (wc_iret (pc := 42) (dAt dtX4_heard 22 rfl) rfl (nar_int _) hm)
    have k111 : (¬ (x2 < 0) ∧ (¬ (2687 < x2))) → Wc G tX4_heard (d + 4) h Q 20 [some (vR 75), some (vI x1), some (vI x2)] [vR 75] h101 := fun c113 => by
      have z114 := kj110
      rw [show v104 = 1 from ev104.trans (b2i_t c113)] at z114
      exact wc_iconst (pc := 20) (dAt dtX4_heard 10 rfl) ⟨by decide, by decide⟩ (wc_goto (pc := 21) (tgt := 25) (dAt dtX4_heard 11 rfl) (by decide) (z114))
    have k112 : ¬ (¬ (x2 < 0) ∧ (¬ (2687 < x2))) → Wc G tX4_heard (d + 4) h Q 24 [some (vR 75), some (vI x1), some (vI x2)] [vR 75] h101 := fun c113 => by
      have z116 := kj110
      rw [show v104 = 0 from ev104.trans (b2i_f c113)] at z116
      exact wc_iconst (pc := 24) (dAt dtX4_heard 12 rfl) ⟨by decide, by decide⟩ (z116)
    exact wc_if_lt (pc := 10) (tgt := 24) (dAt dtX4_heard 6 rfl) (by decide) (fun c118 => (k112 (fun z => z.1 c118))) (fun c118 => wc_iload_n (pc := 13) (dAt dtX4_heard 7 rfl) rfl (wc_sipush (pc := 14) (dAt dtX4_heard 8 rfl) ⟨by decide, by decide, by decide⟩ (wc_icmp_gt (pc := 17) (tgt := 24) (dAt dtX4_heard 9 rfl) (by decide) (fun c119 => (k112 (fun z => (fun z => z c119) z.2))) (fun c119 => (k111 ⟨c118, c119⟩)))))
def tX19_init : Mt := (⟨"FlyingDoctors$Call", "<init>", "(LFlyingDoctors;ILFlyingDoctors$Place;I)V"⟩, prog_3_method_1_code, 5, (Option.none : Option Jvm.ClassFile.FieldType), [])
def DX19_init : List (Nat × Instr × Nat) := [(0, .aload_n 0, 1), (1, .aload_n 1, 1), (2, .putfield 3, 3), (5, .aload_n 0, 1), (6, .invokespecial 9, 3), (9, .aload_n 0, 1), (10, .iload_n 2, 1), (11, .putfield 15, 3), (14, .aload_n 0, 1), (15, .aload_n 3, 1), (16, .putfield 19, 3), (19, .aload_n 0, 1), (20, .iload 4, 2), (22, .putfield 23, 3), (25, .aload_n 0, 1), (26, .aload_n 1, 1), (27, .getfield 26, 3), (30, .putfield 29, 3), (33, .aload_n 0, 1), (34, .aload_n 1, 1), (35, .aload_n 3, 1), (36, .aload_n 1, 1), (37, .getfield 26, 3), (40, .invokevirtual 32, 3), (43, .putfield 36, 3), (46, .return_, 1)]
theorem dtX19_init : chkD (mB tX19_init) DX19_init = true := by decide +kernel
theorem moX19_init : MethOk tX19_init 4 := ⟨Or.inl ⟨rfl, q1665⟩, by decide +kernel, ⟨by decide, by decide⟩, by decide +kernel⟩
def mX19_init (r0 : Nat) (x2 : Int) (r3 : Nat) (x4 : Int) (h : Hp) (Q : Rs → Hp → Prop) : Prop := ob h r0 19 ∧ ∀ h103 : Hp, h103 = sR h r0 6 50 → ∀ h104 : Hp, h104 = sI h103 r0 0 x2 → ∀ h105 : Hp, h105 = sR h104 r0 4 r3 → ∀ h106 : Hp, h106 = sI h105 r0 1 x4 → ∀ h107 : Hp, h107 = sI h106 r0 2 (hI h106 50 20) → mX1_heardAt r3 (hI h107 50 20) h107 (kI Q (fun x109 h108 => ob h108 r0 19 ∧ ∀ h111 : Hp, h111 = sI h108 r0 3 x109 → Q rN h111))
theorem wX19_init {G : Gx} (hg : gF G = true) {d : Nat} {r0 : Nat} {x2 : Int} {r3 : Nat} {x4 : Int} {h : Hp} {Q : Rs → Hp → Prop} (hm : mX19_init r0 x2 r3 x4 h Q) : Ct G tX19_init (d + 4) [vR r0, vR 50, vI x2, vR r3, vI x4] h Q := by
  refine ct_enter (L0 := [some (vR r0), some (vR 50), some (vI x2), some (vR r3), some (vI x4)]) rfl rfl ?_
  unfold mX19_init at hm
  obtain ⟨o101, hm⟩ := hm
  obtain ⟨h103, eh103⟩ : ∃ h103 : Hp, h103 = sR h r0 6 50 := ⟨_, rfl⟩
  replace hm := hm h103 eh103
  obtain ⟨h104, eh104⟩ : ∃ h104 : Hp, h104 = sI h103 r0 0 x2 := ⟨_, rfl⟩
  replace hm := hm h104 eh104
  obtain ⟨h105, eh105⟩ : ∃ h105 : Hp, h105 = sR h104 r0 4 r3 := ⟨_, rfl⟩
  replace hm := hm h105 eh105
  obtain ⟨h106, eh106⟩ : ∃ h106 : Hp, h106 = sI h105 r0 1 x4 := ⟨_, rfl⟩
  replace hm := hm h106 eh106
  obtain ⟨h107, eh107⟩ : ∃ h107 : Hp, h107 = sI h106 r0 2 (hI h106 50 20) := ⟨_, rfl⟩
  replace hm := hm h107 eh107
  refine wc_aload_n (pc := 0) (dAt dtX19_init 0 rfl) rfl (wc_aload_n (pc := 1) (dAt dtX19_init 1 rfl) rfl (wc_newer o101 (by decide) fun n102 => (wc_putR (pc := 2) (dAt dtX19_init 2 rfl) flX19_3_19 (Or.inr ⟨rfl, rfl, rfl⟩) rfl o101 n102 (fun _ => ⟨by decide, by decide, by decide⟩) (wc_hp eh103 (wc_aload_n (pc := 5) (dAt dtX19_init 3 rfl) rfl (wc_obj (pc := 6) (dAt dtX19_init 4 rfl) q1666 q180 q181 n102 (Nat.le_of_ble_eq_true rfl) (wc_aload_n (pc := 9) (dAt dtX19_init 5 rfl) rfl (wc_iload_n (pc := 10) (dAt dtX19_init 6 rfl) rfl (wc_putI (pc := 11) (dAt dtX19_init 7 rfl) flX19_15_19 (Or.inr ⟨rfl, rfl, rfl⟩) rfl (ob_sR eh103 o101) n102 (okI_int _) (wc_hp eh104 (wc_aload_n (pc := 14) (dAt dtX19_init 8 rfl) rfl (wc_aload_n (pc := 15) (dAt dtX19_init 9 rfl) rfl (wc_putR (pc := 16) (dAt dtX19_init 10 rfl) flX19_19_19 (Or.inr ⟨rfl, rfl, rfl⟩) rfl (ob_sI eh104 (ob_sR eh103 o101)) n102 (fun _ => ⟨by decide, by decide, by decide⟩) (wc_hp eh105 (wc_aload_n (pc := 19) (dAt dtX19_init 11 rfl) rfl (wc_iload (pc := 20) (dAt dtX19_init 12 rfl) rfl (wc_putI (pc := 22) (dAt dtX19_init 13 rfl) flX19_23_19 (Or.inr ⟨rfl, rfl, rfl⟩) rfl (ob_sR eh105 (ob_sI eh104 (ob_sR eh103 o101))) n102 (okI_int _) (wc_hp eh106 (wc_aload_n (pc := 25) (dAt dtX19_init 14 rfl) rfl (wc_aload_n (pc := 26) (dAt dtX19_init 15 rfl) rfl (wc_getKI hg (pc := 27) (dAt dtX19_init 16 rfl) flX19_26_1 rfl ka50 (wc_putI (pc := 30) (dAt dtX19_init 17 rfl) flX19_29_19 (Or.inr ⟨rfl, rfl, rfl⟩) rfl (ob_sI eh106 (ob_sR eh105 (ob_sI eh104 (ob_sR eh103 o101)))) n102 (okI_int _) (wc_hp eh107 (wc_aload_n (pc := 33) (dAt dtX19_init 18 rfl) rfl (wc_aload_n (pc := 34) (dAt dtX19_init 19 rfl) rfl (wc_aload_n (pc := 35) (dAt dtX19_init 20 rfl) rfl (wc_aload_n (pc := 36) (dAt dtX19_init 21 rfl) rfl (wc_getKI hg (pc := 37) (dAt dtX19_init 22 rfl) flX19_26_1 rfl ka50 (wc_kf hg fun zk => wc_callV (k := 1) (y' := tX1_heardAt) (av := [vR r3, vI (hI h107 50 20)]) (st := [vR r0]) (pc := 40) (dAt dtX19_init 23 rfl) lkX19_32 moX1_heardAt q1643 qs38 (by decide) (zk.2 _ ka50).1 rfl rfl (Nat.le_of_ble_eq_true rfl) (wX1_heardAt hg hm) (kr_I (fun x109 h108 hm => ?_)) (kx_I rfl))))))))))))))))))))))))))))))
  obtain ⟨o110, hm⟩ := hm
  obtain ⟨h111, eh111⟩ : ∃ h111 : Hp, h111 = sI h108 r0 3 x109 := ⟨_, rfl⟩
  replace hm := hm h111 eh111
  exact wc_putI (pc := 43) (dAt dtX19_init 24 rfl) flX19_36_19 (Or.inr ⟨rfl, rfl, rfl⟩) rfl o110 n102 (okI_int _) (wc_hp eh111 (wc_vret (pc := 46) (dAt dtX19_init 25 rfl) rfl hm))
def tX1_call : Mt := (⟨"FlyingDoctors", "call", "(II)I"⟩, prog_1_method_38_code, 4, (Option.some Jvm.ClassFile.FieldType.int), [])
def DX1_call : List (Nat × Instr × Nat) := [(0, .aload_n 0, 1), (1, .iload_n 1, 1), (2, .invokevirtual 334, 3), (5, .astore_n 3, 1), (6, .aload_n 0, 1), (7, .getfield 281, 3), (10, .invokeinterface 16 1, 5), (15, .bipush 60, 2), (17, .if_icmp .eq 24, 3), (20, .iload_n 2, 1), (21, .iconst 0, 1), (22, .iconst 1, 1), (23, .aload_n 0, 1), (24, .getfield 275, 3), (27, .invokeinterface 16 1, 5), (32, .ishl, 1), (33, .iconst 1, 1), (34, .isub, 1), (35, .invokestatic 314, 3), (38, .ifCond .ne 5, 3), (41, .iconst (-1), 1), (42, .ireturn, 1), (43, .aload_n 0, 1), (44, .getfield 281, 3), (47, .new 299, 3), (50, .dup, 1), (51, .aload_n 0, 1), (52, .aload_n 0, 1), (53, .getfield 281, 3), (56, .invokeinterface 16 1, 5), (61, .aload_n 3, 1), (62, .iload_n 2, 1), (63, .invokespecial 385, 3), (66, .invokeinterface 262 2, 5), (71, .pop, 1), (72, .aload_n 0, 1), (73, .getfield 281, 3), (76, .invokeinterface 16 1, 5), (81, .iconst 1, 1), (82, .isub, 1), (83, .ireturn, 1)]
theorem dtX1_call : chkD (mB tX1_call) DX1_call = true := by decide +kernel
theorem moX1_call : MethOk tX1_call 2 := ⟨Or.inl ⟨rfl, q1661⟩, by decide +kernel, ⟨by decide, by decide⟩, by decide +kernel⟩
def mX1_call (x1 : Int) (x2 : Int) (h : Hp) (Q : Rs → Hp → Prop) : Prop := mX1_placeAt x1 h (kR Q (fun r102 h101 => oJ2_size 61 h101 ∧ ((¬ ((vJ2_size 61 h101) = 60) → oJ2_size 58 h101 ∧ nm ((ishl 1 (vJ2_size 58 h101)) - 1))) ∧ if ((vJ2_size 61 h101) = 60) ∨ (¬ ((vX1_in x2 0 ((ishl 1 (vJ2_size 58 h101)) - 1) h101) ≠ 0)) then Q (rV (vI (-1))) h101 else hn h101 + 1 ≤ 878547 ∧ hq h101 + 7 ≤ 6460613 ∧ ∀ r111 : Nat, r111 = hn h101 → ∀ h112 : Hp, h112 = nw h101 19 0 7 → oJ2_size 61 h112 ∧ mX19_init r111 (vJ2_size 61 h112) r102 x2 h112 (kN Q (fun h114 => mJ2_add 61 r111 h114 (kI Q (fun x116 h115 => oJ2_size 61 h115 ∧ nm ((vJ2_size 61 h115) - 1) ∧ Q (rV (vI ((vJ2_size 61 h115) - 1))) h115))))))
theorem wX1_call {G : Gx} (hg : gF G = true) {d : Nat} {x1 : Int} {x2 : Int} {h : Hp} {Q : Rs → Hp → Prop} (hm : mX1_call x1 x2 h Q) : Ct G tX1_call (d + 10) [vR 50, vI x1, vI x2] h Q := by
  refine ct_enter (L0 := [some (vR 50), some (vI x1), some (vI x2), none]) rfl rfl ?_
  unfold mX1_call at hm
  refine wc_aload_n (pc := 0) (dAt dtX1_call 0 rfl) rfl (wc_iload_n (pc := 1) (dAt dtX1_call 1 rfl) rfl (wc_kf hg fun zk => wc_callV (k := 1) (y' := tX1_placeAt) (av := [vI x1]) (st := []) (pc := 2) (dAt dtX1_call 2 rfl) lkX1_334 moX1_placeAt q684 qs5 (by decide) (zk.2 _ ka50).1 rfl rfl (Nat.le_of_ble_eq_true rfl) (wX1_placeAt hg hm) (kr_R (fun r102 h101 hm => ?_)) (kx_R rfl)))
  obtain ⟨o103, o106, hm⟩ := hm
  refine wc_astore_n (pc := 5) (dAt dtX1_call 3 rfl) (by decide) (wc_L (L' := [some (vR 50), some (vI x1), some (vI x2), some (vR r102)]) rfl (wc_aload_n (pc := 6) (dAt dtX1_call 4 rfl) rfl (wc_getKR hg (pc := 7) (dAt dtX1_call 5 rfl) flX1_281_1 rfl ka50 kf50_11 (wc_kf hg fun zk => (wc_callF (k := 32) (x := ⟨"java/util/List", "size", "()I"⟩) (y' := tJ2_size) (P := eI (vJ2_size 61 h101) h101) (pc := 10) (dAt dtX1_call 6 rfl) q364 q366 q365 ⟨by decide, by decide⟩ moJ2_size rfl q370 q371 q369 q367 q368 (by decide) (zk.2 _ ka61).1 rfl rfl (Nat.le_of_ble_eq_true rfl) (wJ2_size hg o103 ⟨rfl, rfl⟩) (ep_I (wc_bipush (pc := 15) (dAt dtX1_call 7 rfl) ⟨by decide, by decide, by decide⟩ (?_))) ex_I)))))
  have k119 : (((vJ2_size 61 h101) = 60) ∨ (¬ ((vX1_in x2 0 ((ishl 1 (vJ2_size 58 h101)) - 1) h101) ≠ 0))) → Wc G tX1_call (d + 10) h Q 41 [some (vR 50), some (vI x1), some (vI x2), some (vR r102)] [] h101 := fun c107 => by
    replace hm := ite_t c107 hm
    exact wc_iconst (pc := 41) (dAt dtX1_call 20 rfl) ⟨by decide, by decide⟩ (wc_iret (pc := 42) (dAt dtX1_call 21 rfl) rfl (nar_int _) hm)
  have k120 : ¬ (((vJ2_size 61 h101) = 60) ∨ (¬ ((vX1_in x2 0 ((ishl 1 (vJ2_size 58 h101)) - 1) h101) ≠ 0))) → Wc G tX1_call (d + 10) h Q 43 [some (vR 50), some (vI x1), some (vI x2), some (vR r102)] [] h101 := fun c107 => by
    replace hm := ite_f c107 hm
    obtain ⟨o108, o109, hm⟩ := hm
    obtain ⟨r111, er111⟩ : ∃ r111 : Nat, r111 = hn h101 := ⟨_, rfl⟩
    replace hm := hm r111 er111
    obtain ⟨h112, eh112⟩ : ∃ h112 : Hp, h112 = nw h101 19 0 7 := ⟨_, rfl⟩
    replace hm := hm h112 eh112
    obtain ⟨o113, hm⟩ := hm
    refine wc_aload_n (pc := 43) (dAt dtX1_call 22 rfl) rfl (wc_getKR hg (pc := 44) (dAt dtX1_call 23 rfl) flX1_281_1 rfl ka50 kf50_11 (wc_k0 fun n110 => (wc_new (k := 19) (pc := 47) (dAt dtX1_call 24 rfl) q266 q1662 q168 (by decide) o108 o109 (wc_hp eh112 (wc_vr er111 (wc_dup (pc := 50) (dAt dtX1_call 25 rfl) rfl (wc_aload_n (pc := 51) (dAt dtX1_call 26 rfl) rfl (wc_aload_n (pc := 52) (dAt dtX1_call 27 rfl) rfl (wc_getKR hg (pc := 53) (dAt dtX1_call 28 rfl) flX1_281_1 rfl ka50 kf50_11 (wc_kf hg fun zk => (wc_callF (k := 32) (x := ⟨"java/util/List", "size", "()I"⟩) (y' := tJ2_size) (P := eI (vJ2_size 61 h112) h112) (pc := 56) (dAt dtX1_call 29 rfl) q364 q366 q365 ⟨by decide, by decide⟩ moJ2_size rfl q370 q371 q369 q367 q368 (by decide) (zk.2 _ ka61).1 rfl rfl (Nat.le_of_ble_eq_true rfl) (wJ2_size hg o113 ⟨rfl, rfl⟩) (ep_I (wc_aload_n (pc := 61) (dAt dtX1_call 30 rfl) rfl (wc_iload_n (pc := 62) (dAt dtX1_call 31 rfl) rfl (wc_callI (y' := tX19_init) (av := [vR 50, vI (vJ2_size 61 h112), vR r102, vI x2]) (st := [vR r111, vR 61]) (pc := 63) (dAt dtX1_call 32 rfl) lkX1_385 moX19_init q1664 rfl q1665 (k0_at er111 n110) rfl rfl (Nat.le_of_ble_eq_true rfl) (wX19_init hg hm) (kr_N (fun h114 hm => ?_)) (kx_N rfl))))) ex_I)))))))))))
    refine wc_kf hg fun zk => (wc_callF (k := 32) (x := ⟨"java/util/List", "add", "(Ljava/lang/Object;)Z"⟩) (y' := tJ2_add) (av := [vR r111]) (st := []) (pc := 66) (dAt dtX1_call 33 rfl) q422 q424 q423 ⟨by decide, by decide⟩ moJ2_add rfl q427 q428 q426 q367 q425 (by decide) (zk.2 _ ka61).1 rfl rfl (Nat.le_of_ble_eq_true rfl) (wJ2_add hg hm) (kr_I (fun x116 h115 hm => ?_)) (kx_I rfl))
    obtain ⟨o117, o118, hm⟩ := hm
    exact wc_pop (pc := 71) (dAt dtX1_call 34 rfl) rfl (wc_aload_n (pc := 72) (dAt dtX1_call 35 rfl) rfl (wc_getKR hg (pc := 73) (dAt dtX1_call 36 rfl) flX1_281_1 rfl ka50 kf50_11 (wc_kf hg fun zk => (wc_callF (k := 32) (x := ⟨"java/util/List", "size", "()I"⟩) (y' := tJ2_size) (P := eI (vJ2_size 61 h115) h115) (pc := 76) (dAt dtX1_call 37 rfl) q364 q366 q365 ⟨by decide, by decide⟩ moJ2_size rfl q370 q371 q369 q367 q368 (by decide) (zk.2 _ ka61).1 rfl rfl (Nat.le_of_ble_eq_true rfl) (wJ2_size hg o117 ⟨rfl, rfl⟩) (ep_I (wc_iconst (pc := 81) (dAt dtX1_call 38 rfl) ⟨by decide, by decide⟩ (wc_isub (pc := 82) (dAt dtX1_call 39 rfl) o118 (wc_iret (pc := 83) (dAt dtX1_call 40 rfl) rfl (nar_int _) hm)))) ex_I))))
  exact wc_icmp_eq (pc := 17) (tgt := 41) (dAt dtX1_call 8 rfl) (by decide) (fun c121 => (k119 (Or.inl c121))) (fun c121 => wc_iload_n (pc := 20) (dAt dtX1_call 9 rfl) rfl (wc_iconst (pc := 21) (dAt dtX1_call 10 rfl) ⟨by decide, by decide⟩ (wc_iconst (pc := 22) (dAt dtX1_call 11 rfl) ⟨by decide, by decide⟩ (wc_aload_n (pc := 23) (dAt dtX1_call 12 rfl) rfl (wc_getKR hg (pc := 24) (dAt dtX1_call 13 rfl) flX1_275_1 rfl ka50 kf50_8 (wc_kf hg fun zk => (wc_callF (k := 32) (x := ⟨"java/util/List", "size", "()I"⟩) (y' := tJ2_size) (P := eI (vJ2_size 58 h101) h101) (pc := 27) (dAt dtX1_call 14 rfl) q364 q366 q365 ⟨by decide, by decide⟩ moJ2_size rfl q370 q371 q369 q367 q368 (by decide) (zk.2 _ ka58).1 rfl rfl (Nat.le_of_ble_eq_true rfl) (wJ2_size hg (o106 c121).1 ⟨rfl, rfl⟩) (ep_I (wc_ishl (pc := 32) (dAt dtX1_call 15 rfl) (wc_iconst (pc := 33) (dAt dtX1_call 16 rfl) ⟨by decide, by decide⟩ (wc_isub (pc := 34) (dAt dtX1_call 17 rfl) (o106 c121).2 (wc_callS (y' := tX1_in) (P := eI (vX1_in x2 0 ((ishl 1 (vJ2_size 58 h101)) - 1) h101) h101) (pc := 35) (dAt dtX1_call 18 rfl) lkX1_314 moX1_in q374 q128 rfl rfl (Nat.le_of_ble_eq_true rfl) (wX1_in hg ⟨rfl, rfl⟩) (ep_I (wc_if_ne (pc := 38) (tgt := 43) (dAt dtX1_call 19 rfl) (by decide) (fun c122 => (k120 (fun z => z.elim c121 (fun z => z c122)))) (fun c122 => (k119 (Or.inr c122))))) ex_I))))) ex_I)))))))
def tX0_call : Mt := (⟨"FlyingDoctorsLaw", "call", "(LFlyingDoctors;II[J)I"⟩, method_12_code, 5, (Option.some Jvm.ClassFile.FieldType.int), [((0 : Nat), (10 : Nat), (13 : Nat), (13 : Nat))])
def DX0_call : List (Nat × Instr × Nat) := [(0, .aload_n 3, 1), (1, .iconst 0, 1), (2, .aload_n 0, 1), (3, .iload_n 1, 1), (4, .iload_n 2, 1), (5, .invokevirtual 45, 3), (8, .i2l, 1), (9, .lastore, 1), (10, .goto 7, 3), (13, .astore 4, 2), (15, .iconst 1, 1), (16, .ireturn, 1), (17, .iconst 0, 1), (18, .ireturn, 1)]
theorem dtX0_call : chkD (mB tX0_call) DX0_call = true := by decide +kernel
theorem moX0_call : MethOk tX0_call 4 := ⟨Or.inr q1657, by decide +kernel, ⟨by decide, by decide⟩, by decide +kernel⟩
def mX0_call (x1 : Int) (x2 : Int) (h : Hp) (Q : Rs → Hp → Prop) : Prop := mX1_call x1 x2 h (kIx (fun a103 h104 => ob h104 a103 41 ∧ (Q (rV (vI 1)) h104)) (fun x102 h101 => ∀ h106 : Hp, h106 = sL h101 158 0 x102 → Q (rV (vI 0)) h106))
theorem wX0_call {G : Gx} (hg : gF G = true) {d : Nat} {x1 : Int} {x2 : Int} {h : Hp} {Q : Rs → Hp → Prop} (hm : mX0_call x1 x2 h Q) : Ct G tX0_call (d + 11) [vR 50, vI x1, vI x2, vR 158] h Q := by
  refine ct_enter (L0 := [some (vR 50), some (vI x1), some (vI x2), some (vR 158), none]) rfl rfl ?_
  unfold mX0_call at hm
  refine wc_aload_n (pc := 0) (dAt dtX0_call 0 rfl) rfl (wc_iconst (pc := 1) (dAt dtX0_call 1 rfl) ⟨by decide, by decide⟩ (wc_aload_n (pc := 2) (dAt dtX0_call 2 rfl) rfl (wc_iload_n (pc := 3) (dAt dtX0_call 3 rfl) rfl (wc_iload_n (pc := 4) (dAt dtX0_call 4 rfl) rfl (wc_kf hg fun zk => wc_callV (k := 1) (y' := tX1_call) (av := [vI x1, vI x2]) (st := [vI 0, vR 158]) (pc := 5) (dAt dtX0_call 5 rfl) lkX0_45 moX1_call q1659 q1660 (by decide) (zk.2 _ ka50).1 rfl rfl (Nat.le_of_ble_eq_true rfl) (wX1_call hg hm) (krx_I (fun x102 h101 hm => ?_)) (kxx_I (fun a103 h104 hm => ?_)))))))
  · obtain ⟨h106, eh106⟩ : ∃ h106 : Hp, h106 = sL h101 158 0 x102 := ⟨_, rfl⟩
    replace hm := hm h106 eh106
    exact wc_i2l (pc := 8) (dAt dtX0_call 6 rfl) (wc_lastK hg (pc := 9) (dAt dtX0_call 7 rfl) kr158 (by decide) (by decide) (by decide) (wc_hp eh106 (wc_goto (pc := 10) (tgt := 17) (dAt dtX0_call 8 rfl) (by decide) (wc_iconst (pc := 17) (dAt dtX0_call 12 rfl) ⟨by decide, by decide⟩ (wc_iret (pc := 18) (dAt dtX0_call 13 rfl) rfl (nar_int _) hm)))))
  · obtain ⟨o105, hm⟩ := hm
    refine wx_hit rfl rfl (by decide) q676 (by decide) o105 rfl ?_
    exact wc_astore (pc := 13) (dAt dtX0_call 9 rfl) (by decide) (wc_L (L' := [some (vR 50), some (vI x1), some (vI x2), some (vR 158), some (vR a103)]) rfl (wc_iconst (pc := 15) (dAt dtX0_call 10 rfl) ⟨by decide, by decide⟩ (wc_iret (pc := 16) (dAt dtX0_call 11 rfl) rfl (nar_int _) hm)))
def tX4_call : Mt := (⟨"FlyingDoctorsModel", "call", "(II)I"⟩, prog_24_method_66_code, 3, (Option.some Jvm.ClassFile.FieldType.int), [])
def DX4_call : List (Nat × Instr × Nat) := [(0, .aload_n 0, 1), (1, .iload_n 1, 1), (2, .invokevirtual 75, 3), (5, .ifCond .ne 5, 3), (8, .iconst 0, 1), (9, .ireturn, 1), (10, .aload_n 0, 1), (11, .getfield 497, 3), (14, .bipush 60, 2), (16, .if_icmp .eq 16, 3), (19, .iload_n 2, 1), (20, .ifCond .lt 12, 3), (23, .iload_n 2, 1), (24, .aload_n 0, 1), (25, .getfield 426, 3), (28, .ishr, 1), (29, .ifCond .eq 5, 3), (32, .iconst (-1), 1), (33, .ireturn, 1), (34, .aload_n 0, 1), (35, .getfield 220, 3), (38, .aload_n 0, 1), (39, .getfield 497, 3), (42, .iload_n 1, 1), (43, .iastore, 1), (44, .aload_n 0, 1), (45, .getfield 223, 3), (48, .aload_n 0, 1), (49, .getfield 497, 3), (52, .iload_n 2, 1), (53, .iastore, 1), (54, .aload_n 0, 1), (55, .getfield 226, 3), (58, .aload_n 0, 1), (59, .getfield 497, 3), (62, .aload_n 0, 1), (63, .getfield 81, 3), (66, .iastore, 1), (67, .aload_n 0, 1), (68, .getfield 229, 3), (71, .aload_n 0, 1), (72, .getfield 497, 3), (75, .aload_n 0, 1), (76, .iload_n 1, 1), (77, .aload_n 0, 1), (78, .getfield 81, 3), (81, .invokevirtual 494, 3), (84, .iastore, 1), (85, .aload_n 0, 1), (86, .dup, 1), (87, .getfield 497, 3), (90, .iconst 1, 1), (91, .iadd, 1), (92, .putfield 497, 3), (95, .aload_n 0, 1), (96, .getfield 497, 3), (99, .iconst 1, 1), (100, .isub, 1), (101, .ireturn, 1)]
theorem dtX4_call : chkD (mB tX4_call) DX4_call = true := by decide +kernel
theorem moX4_call : MethOk tX4_call 2 := ⟨Or.inl ⟨rfl, q2725⟩, by decide +kernel, ⟨by decide, by decide⟩, by decide +kernel⟩
def mX4_call (x1 : Int) (x2 : Int) (h : Hp) (Q : Rs → Hp → Prop) : Prop := mX4_isPlace x1 h (kI Q (fun x102 h101 => if ¬ (x102 ≠ 0) then Q (rV (vI 0)) h101 else if ((hI h101 75 69) = 60) ∨ ((x2 < 0) ∨ (¬ ((ishr x2 (hI h101 75 36)) = 0))) then Q (rV (vI (-1))) h101 else 0 ≤ (hI h101 75 69) ∧ (hI h101 75 69) < 60 ∧ ∀ h107 : Hp, h107 = sI h101 119 (Int.toNat (hI h101 75 69)) x1 → 0 ≤ (hI h107 75 69) ∧ (hI h107 75 69) < 60 ∧ ∀ h110 : Hp, h110 = sI h107 120 (Int.toNat (hI h107 75 69)) x2 → 0 ≤ (hI h110 75 69) ∧ (hI h110 75 69) < 60 ∧ ∀ h113 : Hp, h113 = sI h110 121 (Int.toNat (hI h110 75 69)) (hI h110 75 1) → mX4_heardOf x1 (hI h113 75 1) h113 (kI Q (fun x115 h114 => 0 ≤ (hI h113 75 69) ∧ (hI h113 75 69) < 60 ∧ ∀ h118 : Hp, h118 = sI h114 122 (Int.toNat (hI h113 75 69)) x115 → nm ((hI h118 75 69) + 1) ∧ ∀ h120 : Hp, h120 = sI h118 75 69 ((hI h118 75 69) + 1) → nm ((hI h120 75 69) - 1) ∧ Q (rV (vI ((hI h120 75 69) - 1))) h120))))
theorem wX4_call {G : Gx} (hg : gF G = true) {d : Nat} {x1 : Int} {x2 : Int} {h : Hp} {Q : Rs → Hp → Prop} (hm : mX4_call x1 x2 h Q) : Ct G tX4_call (d + 4) [vR 75, vI x1, vI x2] h Q := by
  refine ct_enter (L0 := [some (vR 75), some (vI x1), some (vI x2)]) rfl rfl ?_
  unfold mX4_call at hm
  refine wc_aload_n (pc := 0) (dAt dtX4_call 0 rfl) rfl (wc_iload_n (pc := 1) (dAt dtX4_call 1 rfl) rfl (wc_kf hg fun zk => wc_callV (k := 4) (y' := tX4_isPlace) (av := [vI x1]) (st := []) (pc := 2) (dAt dtX4_call 2 rfl) lkX4_75 moX4_isPlace q2148 qs63 (by decide) (zk.2 _ ka75).1 rfl rfl (Nat.le_of_ble_eq_true rfl) (wX4_isPlace hg hm) (kr_I (fun x102 h101 hm => ?_)) (kx_I rfl)))
  refine wc_if_ne (pc := 5) (tgt := 10) (dAt dtX4_call 3 rfl) (by decide) (fun c103 => ?_) (fun c103 => ?_)
  · replace hm := ite_f (fun z => z c103) hm
    refine wc_aload_n (pc := 10) (dAt dtX4_call 6 rfl) rfl (wc_getKI hg (pc := 11) (dAt dtX4_call 7 rfl) flX4_497_4 rfl ka75 (wc_bipush (pc := 14) (dAt dtX4_call 8 rfl) ⟨by decide, by decide, by decide⟩ (?_)))
    have k122 : (((hI h101 75 69) = 60) ∨ ((x2 < 0) ∨ (¬ ((ishr x2 (hI h101 75 36)) = 0)))) → Wc G tX4_call (d + 4) h Q 32 [some (vR 75), some (vI x1), some (vI x2)] [] h101 := fun c104 => by
      replace hm := ite_t c104 hm
      exact wc_iconst (pc := 32) (dAt dtX4_call 17 rfl) ⟨by decide, by decide⟩ (wc_iret (pc := 33) (dAt dtX4_call 18 rfl) rfl (nar_int _) hm)
    have k123 : ¬ (((hI h101 75 69) = 60) ∨ ((x2 < 0) ∨ (¬ ((ishr x2 (hI h101 75 36)) = 0)))) → Wc G tX4_call (d + 4) h Q 34 [some (vR 75), some (vI x1), some (vI x2)] [] h101 := fun c104 => by
      replace hm := ite_f c104 hm
      obtain ⟨o105, o106, hm⟩ := hm
      obtain ⟨h107, eh107⟩ : ∃ h107 : Hp, h107 = sI h101 119 (Int.toNat (hI h101 75 69)) x1 := ⟨_, rfl⟩
      replace hm := hm h107 eh107
      obtain ⟨o108, o109, hm⟩ := hm
      obtain ⟨h110, eh110⟩ : ∃ h110 : Hp, h110 = sI h107 120 (Int.toNat (hI h107 75 69)) x2 := ⟨_, rfl⟩
      replace hm := hm h110 eh110
      obtain ⟨o111, o112, hm⟩ := hm
      obtain ⟨h113, eh113⟩ : ∃ h113 : Hp, h113 = sI h110 121 (Int.toNat (hI h110 75 69)) (hI h110 75 1) := ⟨_, rfl⟩
      replace hm := hm h113 eh113
      refine wc_aload_n (pc := 34) (dAt dtX4_call 19 rfl) rfl (wc_getKR hg (pc := 35) (dAt dtX4_call 20 rfl) flX4_220_4 rfl ka75 kf75_70 (wc_aload_n (pc := 38) (dAt dtX4_call 21 rfl) rfl (wc_getKI hg (pc := 39) (dAt dtX4_call 22 rfl) flX4_497_4 rfl ka75 (wc_iload_n (pc := 42) (dAt dtX4_call 23 rfl) rfl (wc_iastK hg (pc := 43) (dAt dtX4_call 24 rfl) kr119 (by decide) o105 o106 (wc_hp eh107 (wc_aload_n (pc := 44) (dAt dtX4_call 25 rfl) rfl (wc_getKR hg (pc := 45) (dAt dtX4_call 26 rfl) flX4_223_4 rfl ka75 kf75_71 (wc_aload_n (pc := 48) (dAt dtX4_call 27 rfl) rfl (wc_getKI hg (pc := 49) (dAt dtX4_call 28 rfl) flX4_497_4 rfl ka75 (wc_iload_n (pc := 52) (dAt dtX4_call 29 rfl) rfl (wc_iastK hg (pc := 53) (dAt dtX4_call 30 rfl) kr120 (by decide) o108 o109 (wc_hp eh110 (wc_aload_n (pc := 54) (dAt dtX4_call 31 rfl) rfl (wc_getKR hg (pc := 55) (dAt dtX4_call 32 rfl) flX4_226_4 rfl ka75 kf75_72 (wc_aload_n (pc := 58) (dAt dtX4_call 33 rfl) rfl (wc_getKI hg (pc := 59) (dAt dtX4_call 34 rfl) flX4_497_4 rfl ka75 (wc_aload_n (pc := 62) (dAt dtX4_call 35 rfl) rfl (wc_getKI hg (pc := 63) (dAt dtX4_call 36 rfl) flX4_81_4 rfl ka75 (wc_iastK hg (pc := 66) (dAt dtX4_call 37 rfl) kr121 (by decide) o111 o112 (wc_hp eh113 (wc_aload_n (pc := 67) (dAt dtX4_call 38 rfl) rfl (wc_getKR hg (pc := 68) (dAt dtX4_call 39 rfl) flX4_229_4 rfl ka75 kf75_73 (wc_aload_n (pc := 71) (dAt dtX4_call 40 rfl) rfl (wc_getKI hg (pc := 72) (dAt dtX4_call 41 rfl) flX4_497_4 rfl ka75 (wc_aload_n (pc := 75) (dAt dtX4_call 42 rfl) rfl (wc_iload_n (pc := 76) (dAt dtX4_call 43 rfl) rfl (wc_aload_n (pc := 77) (dAt dtX4_call 44 rfl) rfl (wc_getKI hg (pc := 78) (dAt dtX4_call 45 rfl) flX4_81_4 rfl ka75 (wc_kf hg fun zk => wc_callV (k := 4) (y' := tX4_heardOf) (av := [vI x1, vI (hI h113 75 1)]) (st := [vI (hI h113 75 69), vR 122]) (pc := 81) (dAt dtX4_call 46 rfl) lkX4_494 moX4_heardOf q2712 qs97 (by decide) (zk.2 _ ka75).1 rfl rfl (Nat.le_of_ble_eq_true rfl) (wX4_heardOf hg hm) (kr_I (fun x115 h114 hm => ?_)) (kx_I rfl)))))))))))))))))))))))))))))))
      obtain ⟨o116, o117, hm⟩ := hm
      obtain ⟨h118, eh118⟩ : ∃ h118 : Hp, h118 = sI h114 122 (Int.toNat (hI h113 75 69)) x115 := ⟨_, rfl⟩
      replace hm := hm h118 eh118
      obtain ⟨o119, hm⟩ := hm
      obtain ⟨h120, eh120⟩ : ∃ h120 : Hp, h120 = sI h118 75 69 ((hI h118 75 69) + 1) := ⟨_, rfl⟩
      replace hm := hm h120 eh120
      obtain ⟨o121, hm⟩ := hm
      exact wc_iastK hg (pc := 84) (dAt dtX4_call 47 rfl) kr122 (by decide) o116 o117 (wc_hp eh118 (wc_aload_n (pc := 85) (dAt dtX4_call 48 rfl) rfl (wc_dup (pc := 86) (dAt dtX4_call 49 rfl) rfl (wc_getKI hg (pc := 87) (dAt dtX4_call 50 rfl) flX4_497_4 rfl ka75 (wc_iconst (pc := 90) (dAt dtX4_call 51 rfl) ⟨by decide, by decide⟩ (wc_iadd (pc := 91) (dAt dtX4_call 52 rfl) o119 (wc_putKI hg (pc := 92) (dAt dtX4_call 53 rfl) flX4_497_4 (Or.inl rfl) rfl ka75 (by decide) (okI_int _) (wc_hp eh120 (wc_aload_n (pc := 95) (dAt dtX4_call 54 rfl) rfl (wc_getKI hg (pc := 96) (dAt dtX4_call 55 rfl) flX4_497_4 rfl ka75 (wc_iconst (pc := 99) (dAt dtX4_call 56 rfl) ⟨by decide, by decide⟩ (wc_isub (pc := 100) (dAt dtX4_call 57 rfl) o121 (wc_iret (pc := 101) (dAt dtX4_call 58 rfl) rfl (nar_int _) hm)))))))))))))
    exact wc_icmp_eq (pc := 16) (tgt := 32) (dAt dtX4_call 9 rfl) (by decide) (fun c124 => (k122 (Or.inl c124))) (fun c124 => wc_iload_n (pc := 19) (dAt dtX4_call 10 rfl) rfl (wc_if_lt (pc := 20) (tgt := 32) (dAt dtX4_call 11 rfl) (by decide) (fun c125 => (k122 (Or.inr (Or.inl c125)))) (fun c125 => wc_iload_n (pc := 23) (dAt dtX4_call 12 rfl) rfl (wc_aload_n (pc := 24) (dAt dtX4_call 13 rfl) rfl (wc_getKI hg (pc := 25) (dAt dtX4_call 14 rfl) flX4_426_4 rfl ka75 (wc_ishr (pc := 28) (dAt dtX4_call 15 rfl) (wc_if_eq (pc := 29) (tgt := 34) (dAt dtX4_call 16 rfl) (by decide) (fun c126 => (k123 (fun z => z.elim c124 (fun z => z.elim c125 (fun z => z c126))))) (fun c126 => (k122 (Or.inr (Or.inr c126)))))))))))
  · replace hm := ite_t c103 hm
    exact wc_iconst (pc := 8) (dAt dtX4_call 4 rfl) ⟨by decide, by decide⟩ (wc_iret (pc := 9) (dAt dtX4_call 5 rfl) rfl (nar_int _) hm)
def tX1_callAt : Mt := (⟨"FlyingDoctors", "callAt", "(I)LFlyingDoctors$Call;"⟩, prog_1_method_23_code, 2, (Option.some (Jvm.ClassFile.FieldType.object "FlyingDoctors$Call")), [])
def DX1_callAt : List (Nat × Instr × Nat) := [(0, .iload_n 1, 1), (1, .iconst 0, 1), (2, .aload_n 0, 1), (3, .getfield 281, 3), (6, .invokeinterface 16 1, 5), (11, .iconst 1, 1), (12, .isub, 1), (13, .invokestatic 314, 3), (16, .invokestatic 318, 3), (19, .aload_n 0, 1), (20, .getfield 281, 3), (23, .iload_n 1, 1), (24, .invokeinterface 22 2, 5), (29, .checkcast 299, 3), (32, .areturn, 1)]
theorem dtX1_callAt : chkD (mB tX1_callAt) DX1_callAt = true := by decide +kernel
theorem moX1_callAt : MethOk tX1_callAt 1 := ⟨Or.inl ⟨rfl, q1708⟩, by decide +kernel, ⟨by decide, by decide⟩, by decide +kernel⟩
def mX1_callAt (x1 : Int) (h : Hp) (Q : Rs → Hp → Prop) : Prop := oJ2_size 61 h ∧ nm ((vJ2_size 61 h) - 1) ∧ mX1_found (vX1_in x1 0 ((vJ2_size 61 h) - 1) h) h (kN Q (fun h103 => oJ2_get 61 x1 h103 ∧ ob h103 (vJ2_get 61 x1 h103) 19 ∧ Q (rV (vR (vJ2_get 61 x1 h103))) h103))
theorem wX1_callAt {G : Gx} (hg : gF G = true) {d : Nat} {x1 : Int} {h : Hp} {Q : Rs → Hp → Prop} (hm : mX1_callAt x1 h Q) : Ct G tX1_callAt (d + 9) [vR 50, vI x1] h Q := by
  refine ct_enter (L0 := [some (vR 50), some (vI x1)]) rfl rfl ?_
  unfold mX1_callAt at hm
  obtain ⟨o101, o102, hm⟩ := hm
  refine wc_iload_n (pc := 0) (dAt dtX1_callAt 0 rfl) rfl (wc_iconst (pc := 1) (dAt dtX1_callAt 1 rfl) ⟨by decide, by decide⟩ (wc_aload_n (pc := 2) (dAt dtX1_callAt 2 rfl) rfl (wc_getKR hg (pc := 3) (dAt dtX1_callAt 3 rfl) flX1_281_1 rfl ka50 kf50_11 (wc_kf hg fun zk => (wc_callF (k := 32) (x := ⟨"java/util/List", "size", "()I"⟩) (y' := tJ2_size) (P := eI (vJ2_size 61 h) h) (pc := 6) (dAt dtX1_callAt 4 rfl) q364 q366 q365 ⟨by decide, by decide⟩ moJ2_size rfl q370 q371 q369 q367 q368 (by decide) (zk.2 _ ka61).1 rfl rfl (Nat.le_of_ble_eq_true rfl) (wJ2_size hg o101 ⟨rfl, rfl⟩) (ep_I (wc_iconst (pc := 11) (dAt dtX1_callAt 5 rfl) ⟨by decide, by decide⟩ (wc_isub (pc := 12) (dAt dtX1_callAt 6 rfl) o102 (wc_callS (y' := tX1_in) (P := eI (vX1_in x1 0 ((vJ2_size 61 h) - 1) h) h) (pc := 13) (dAt dtX1_callAt 7 rfl) lkX1_314 moX1_in q374 q128 rfl rfl (Nat.le_of_ble_eq_true rfl) (wX1_in hg ⟨rfl, rfl⟩) (ep_I (wc_callS (y' := tX1_found) (av := [vI (vX1_in x1 0 ((vJ2_size 61 h) - 1) h)]) (st := []) (pc := 16) (dAt dtX1_callAt 8 rfl) lkX1_318 moX1_found q687 q128 rfl rfl (Nat.le_of_ble_eq_true rfl) (wX1_found hg hm) (kr_N (fun h103 hm => ?_)) (kx_N rfl))) ex_I)))) ex_I)))))
  obtain ⟨o104, o105, hm⟩ := hm
  exact wc_aload_n (pc := 19) (dAt dtX1_callAt 9 rfl) rfl (wc_getKR hg (pc := 20) (dAt dtX1_callAt 10 rfl) flX1_281_1 rfl ka50 kf50_11 (wc_iload_n (pc := 23) (dAt dtX1_callAt 11 rfl) rfl (wc_kf hg fun zk => (wc_callF (k := 32) (x := ⟨"java/util/List", "get", "(I)Ljava/lang/Object;"⟩) (y' := tJ2_get) (P := eR (vJ2_get 61 x1 h103) h103) (pc := 24) (dAt dtX1_callAt 12 rfl) q506 q508 q507 ⟨by decide, by decide⟩ moJ2_get rfl q511 q512 q510 q367 q509 (by decide) (zk.2 _ ka61).1 rfl rfl (Nat.le_of_ble_eq_true rfl) (wJ2_get hg o104 ⟨rfl, rfl⟩) (ep_R (wc_cast (pc := 29) (dAt dtX1_callAt 13 rfl) q266 (by decide) (Or.inl rfl) o105 (wc_aret (pc := 32) (dAt dtX1_callAt 14 rfl) rfl (Or.inl ⟨_, rfl⟩) hm))) ex_R))))
def tX20_serves : Mt := (⟨"FlyingDoctors$Flight", "serves", "(LFlyingDoctors$Call;)I"⟩, prog_8_method_4_code, 3, (Option.some Jvm.ClassFile.FieldType.int), [])
def DX20_serves : List (Nat × Instr × Nat) := [(0, .iconst 0, 1), (1, .istore_n 2, 1), (2, .iload_n 2, 1), (3, .aload_n 0, 1), (4, .getfield 51, 3), (7, .if_icmp .ge 59, 3), (10, .aload_n 0, 1), (11, .getfield 17, 3), (14, .iload_n 2, 1), (15, .aaload, 1), (16, .aload_n 1, 1), (17, .getfield 68, 3), (20, .if_acmp .ne 40, 3), (23, .aload_n 0, 1), (24, .getfield 25, 3), (27, .iload_n 2, 1), (28, .iaload, 1), (29, .aload_n 1, 1), (30, .getfield 73, 3), (33, .if_icmp .lt 27, 3), (36, .aload_n 0, 1), (37, .getfield 37, 3), (40, .iload_n 2, 1), (41, .iaload, 1), (42, .aload_n 0, 1), (43, .getfield 3, 3), (46, .getfield 76, 3), (49, .iand, 1), (50, .ifCond .eq 10, 3), (53, .aload_n 0, 1), (54, .getfield 25, 3), (57, .iload_n 2, 1), (58, .iaload, 1), (59, .ireturn, 1), (60, .iinc 2 1, 3), (63, .goto (-61), 3), (66, .iconst (-1), 1), (67, .ireturn, 1)]
theorem dtX20_serves : chkD (mB tX20_serves) DX20_serves = true := by decide +kernel
theorem moX20_serves : MethOk tX20_serves 1 := ⟨Or.inl ⟨rfl, q1721⟩, by decide +kernel, ⟨by decide, by decide⟩, by decide +kernel⟩
def mX20_serves (r0 : Nat) (r1 : Nat) (h : Hp) (Q : Rs → Hp → Prop) : Prop := wh1 (fun (C102 : Int → Prop) (x101 : Int) => ob h r0 20 ∧ if ¬ ((hI h r0 2) ≤ x101) then ob h (hR h r0 3) 75 ∧ 0 ≤ x101 ∧ x101 < (hN h (hR h r0 3)) ∧ ob h r1 19 ∧ acok h (hR h (hR h r0 3) (Int.toNat x101)) (hR h r1 4) ∧ ((¬ ((hR h (hR h r0 3) (Int.toNat x101)) ≠ (hR h r1 4)) → ob h (hR h r0 5) 70 ∧ x101 < (hN h (hR h r0 5)) ∧ (¬ ((hI h (hR h r0 5) (Int.toNat x101)) < (hI h r1 3)) → ob h (hR h r0 9) 70 ∧ x101 < (hN h (hR h r0 9)) ∧ hR h r0 12 = 50))) ∧ if ¬ ((hR h (hR h r0 3) (Int.toNat x101)) ≠ (hR h r1 4)) ∧ (¬ ((hI h (hR h r0 5) (Int.toNat x101)) < (hI h r1 3)) ∧ (¬ ((iand (hI h (hR h r0 9) (Int.toNat x101)) (hI h 50 23)) = 0))) then ob h (hR h r0 5) 70 ∧ x101 < (hN h (hR h r0 5)) ∧ Q (rV (vI (hI h (hR h r0 5) (Int.toNat x101)))) h else nm (x101 + 1) ∧ ∀ i121 : Int, i121 = (x101 + 1) → C102 i121 else Q (rV (vI (-1))) h) 0
theorem wX20_serves {G : Gx} (hg : gF G = true) {d : Nat} {r0 : Nat} {r1 : Nat} {h : Hp} {Q : Rs → Hp → Prop} (hm : mX20_serves r0 r1 h Q) : Ct G tX20_serves (d + 0) [vR r0, vR r1] h Q := by
  refine ct_enter (L0 := [some (vR r0), some (vR r1), none]) rfl rfl ?_
  unfold mX20_serves at hm
  refine wc_iconst (pc := 0) (dAt dtX20_serves 0 rfl) ⟨by decide, by decide⟩ (wc_istore_n (pc := 1) (dAt dtX20_serves 1 rfl) (by decide) (wc_L (L' := [some (vR r0), some (vR r1), some (vI 0)]) rfl (?_)))
  refine wh1_ind (P := fun (x101 : Int) => Wc G tX20_serves (d + 0) h Q 2 [some (vR r0), some (vR r1), some (vI x101)] [] h) (fun C102 ih103 x101 hm => ?_) hm
  obtain ⟨o104, hm⟩ := hm
  refine wc_iload_n (pc := 2) (dAt dtX20_serves 2 rfl) rfl (wc_aload_n (pc := 3) (dAt dtX20_serves 3 rfl) rfl (wc_getI (pc := 4) (dAt dtX20_serves 4 rfl) flX20_51_20 rfl o104 (wc_icmp_ge (pc := 7) (tgt := 66) (dAt dtX20_serves 5 rfl) (by decide) (fun c105 => ?_) (fun c105 => ?_))))
  · replace hm := ite_f (fun z => z c105) hm
    exact wc_iconst (pc := 66) (dAt dtX20_serves 36 rfl) ⟨by decide, by decide⟩ (wc_iret (pc := 67) (dAt dtX20_serves 37 rfl) rfl (nar_int _) hm)
  · replace hm := ite_t c105 hm
    obtain ⟨o106, o107, o108, o109, o110, o116, hm⟩ := hm
    refine wc_aload_n (pc := 10) (dAt dtX20_serves 6 rfl) rfl (wc_getR (pc := 11) (dAt dtX20_serves 7 rfl) flX20_17_20 rfl o104 (wc_iload_n (pc := 14) (dAt dtX20_serves 8 rfl) rfl (wc_aald (pc := 15) (dAt dtX20_serves 9 rfl) ⟨by decide, by decide⟩ o106 o107 o108 (wc_aload_n (pc := 16) (dAt dtX20_serves 10 rfl) rfl (wc_getR (pc := 17) (dAt dtX20_serves 11 rfl) flX20_68_19 rfl o109 (?_))))))
    have k122 : (¬ ((hR h (hR h r0 3) (Int.toNat x101)) ≠ (hR h r1 4)) ∧ (¬ ((hI h (hR h r0 5) (Int.toNat x101)) < (hI h r1 3)) ∧ (¬ ((iand (hI h (hR h r0 9) (Int.toNat x101)) (hI h 50 23)) = 0)))) → Wc G tX20_serves (d + 0) h Q 53 [some (vR r0), some (vR r1), some (vI x101)] [] h := fun c117 => by
      replace hm := ite_t c117 hm
      obtain ⟨o118, o119, hm⟩ := hm
      exact wc_aload_n (pc := 53) (dAt dtX20_serves 29 rfl) rfl (wc_getR (pc := 54) (dAt dtX20_serves 30 rfl) flX20_25_20 rfl o104 (wc_iload_n (pc := 57) (dAt dtX20_serves 31 rfl) rfl (wc_iald (pc := 58) (dAt dtX20_serves 32 rfl) o118 o107 o119 (wc_iret (pc := 59) (dAt dtX20_serves 33 rfl) rfl (nar_int _) hm))))
    have k123 : ¬ (¬ ((hR h (hR h r0 3) (Int.toNat x101)) ≠ (hR h r1 4)) ∧ (¬ ((hI h (hR h r0 5) (Int.toNat x101)) < (hI h r1 3)) ∧ (¬ ((iand (hI h (hR h r0 9) (Int.toNat x101)) (hI h 50 23)) = 0)))) → Wc G tX20_serves (d + 0) h Q 60 [some (vR r0), some (vR r1), some (vI x101)] [] h := fun c117 => by
      replace hm := ite_f c117 hm
      obtain ⟨o120, hm⟩ := hm
      obtain ⟨i121, ei121⟩ : ∃ i121 : Int, i121 = (x101 + 1) := ⟨_, rfl⟩
      replace hm := hm i121 ei121
      exact wc_iinc (v := i121) (pc := 60) (dAt dtX20_serves 34 rfl) rfl ei121 (ei121 ▸ o120) (by decide) (wc_L (L' := [some (vR r0), some (vR r1), some (vI i121)]) rfl (wc_goto (pc := 63) (tgt := 2) (dAt dtX20_serves 35 rfl) (by decide) (ih103 _ hm)))
    exact wc_acmp_ne (pc := 20) (tgt := 60) (dAt dtX20_serves 12 rfl) (by decide) o110 (fun c124 => (k123 (fun z => z.1 c124))) (fun c124 => wc_aload_n (pc := 23) (dAt dtX20_serves 13 rfl) rfl (wc_getR (pc := 24) (dAt dtX20_serves 14 rfl) flX20_25_20 rfl o104 (wc_iload_n (pc := 27) (dAt dtX20_serves 15 rfl) rfl (wc_iald (pc := 28) (dAt dtX20_serves 16 rfl) (o116 c124).1 o107 (o116 c124).2.1 (wc_aload_n (pc := 29) (dAt dtX20_serves 17 rfl) rfl (wc_getI (pc := 30) (dAt dtX20_serves 18 rfl) flX20_73_19 rfl o109 (wc_icmp_lt (pc := 33) (tgt := 60) (dAt dtX20_serves 19 rfl) (by decide) (fun c125 => (k123 (fun z => (fun z => z.1 c125) z.2))) (fun c125 => wc_aload_n (pc := 36) (dAt dtX20_serves 20 rfl) rfl (wc_getR (pc := 37) (dAt dtX20_serves 21 rfl) flX20_37_20 rfl o104 (wc_iload_n (pc := 40) (dAt dtX20_serves 22 rfl) rfl (wc_iald (pc := 41) (dAt dtX20_serves 23 rfl) ((o116 c124).2.2 c125).1 o107 ((o116 c124).2.2 c125).2.1 (wc_aload_n (pc := 42) (dAt dtX20_serves 24 rfl) rfl (wc_getR (pc := 43) (dAt dtX20_serves 25 rfl) flX20_3_20 rfl o104 (wc_vr ((o116 c124).2.2 c125).2.2.symm (wc_getKI hg (pc := 46) (dAt dtX20_serves 26 rfl) flX20_76_1 rfl ka50 (wc_iand (pc := 49) (dAt dtX20_serves 27 rfl) (wc_if_eq (pc := 50) (tgt := 60) (dAt dtX20_serves 28 rfl) (by decide) (fun c126 => (k123 (fun z => (fun z => (fun z => z c126) z.2) z.2))) (fun c126 => (k122 ⟨c124, ⟨c125, c126⟩⟩)))))))))))))))))))
def tX19_served : Mt := (⟨"FlyingDoctors$Call", "served", "()I"⟩, prog_3_method_3_code, 4, (Option.some Jvm.ClassFile.FieldType.int), [])
def DX19_served : List (Nat × Instr × Nat) := [(0, .iconst (-1), 1), (1, .istore_n 1, 1), (2, .iconst 0, 1), (3, .istore_n 2, 1), (4, .iload_n 2, 1), (5, .aload_n 0, 1), (6, .getfield 3, 3), (9, .getfield 39, 3), (12, .invokeinterface 43 1, 5), (17, .if_icmp .ge 55, 3), (20, .aload_n 0, 1), (21, .getfield 36, 3), (24, .iconst (-1), 1), (25, .if_icmp .eq 47, 3), (28, .aload_n 0, 1), (29, .getfield 3, 3), (32, .getfield 39, 3), (35, .iload_n 2, 1), (36, .invokeinterface 49 2, 5), (41, .checkcast 53, 3), (44, .aload_n 0, 1), (45, .invokevirtual 55, 3), (48, .istore_n 3, 1), (49, .iload_n 3, 1), (50, .iconst (-1), 1), (51, .if_icmp .eq 15, 3), (54, .iload_n 1, 1), (55, .iconst (-1), 1), (56, .if_icmp .eq 8, 3), (59, .iload_n 3, 1), (60, .iload_n 1, 1), (61, .if_icmp .ge 5, 3), (64, .iload_n 3, 1), (65, .istore_n 1, 1), (66, .iinc 2 1, 3), (69, .goto (-65), 3), (72, .iload_n 1, 1), (73, .ireturn, 1)]
theorem dtX19_served : chkD (mB tX19_served) DX19_served = true := by decide +kernel
theorem moX19_served : MethOk tX19_served 0 := ⟨Or.inl ⟨rfl, q1712⟩, by decide +kernel, ⟨by decide, by decide⟩, by decide +kernel⟩
def mX19_served (r0 : Nat) (h : Hp) (Q : Rs → Hp → Prop) : Prop := wh3 (fun (C104 : Int → Int → Hp → Prop) (x101 : Int) (x102 : Int) (h103 : Hp) => ob h103 r0 19 ∧ hR h103 r0 6 = 50 ∧ oJ2_size 62 h103 ∧ if ¬ ((vJ2_size 62 h103) ≤ x102) ∧ (¬ ((hI h103 r0 3) = (-1))) then oJ2_get 62 x102 h103 ∧ ob h103 (vJ2_get 62 x102 h103) 20 ∧ mX20_serves (vJ2_get 62 x102 h103) r0 h103 (kI Q (fun x113 h112 => ∀ v114 : Int, v114 = (if ¬ (x113 = (-1)) ∧ ((x101 = (-1)) ∨ (¬ (x101 ≤ x113))) then x113 else x101) → nm (x102 + 1) ∧ ∀ i116 : Int, i116 = (x102 + 1) → C104 v114 i116 h112)) else Q (rV (vI x101)) h103) (-1) 0 h
theorem wX19_served {G : Gx} (hg : gF G = true) {d : Nat} {r0 : Nat} {h : Hp} {Q : Rs → Hp → Prop} (hm : mX19_served r0 h Q) : Ct G tX19_served (d + 3) [vR r0] h Q := by
  refine ct_enter (L0 := [some (vR r0), none, none, none]) rfl rfl ?_
  unfold mX19_served at hm
  refine wc_iconst (pc := 0) (dAt dtX19_served 0 rfl) ⟨by decide, by decide⟩ (wc_istore_n (pc := 1) (dAt dtX19_served 1 rfl) (by decide) (wc_L (L' := [some (vR r0), some (vI (-1)), none, none]) rfl (wc_iconst (pc := 2) (dAt dtX19_served 2 rfl) ⟨by decide, by decide⟩ (wc_istore_n (pc := 3) (dAt dtX19_served 3 rfl) (by decide) (wc_L (L' := [some (vR r0), some (vI (-1)), some (vI 0), none]) rfl (?_))))))
  refine wh3_ind (P := fun (x101 : Int) (x102 : Int) (h103 : Hp) => Wc G tX19_served (d + 3) h Q 4 [some (vR r0), some (vI x101), some (vI x102), none] [] h103) (fun C104 ih105 x101 x102 h103 hm => ?_) hm
  obtain ⟨o106, o107, o108, hm⟩ := hm
  refine wc_iload_n (pc := 4) (dAt dtX19_served 4 rfl) rfl (wc_aload_n (pc := 5) (dAt dtX19_served 5 rfl) rfl (wc_getR (pc := 6) (dAt dtX19_served 6 rfl) flX19_3_19 rfl o106 (wc_vr o107.symm (wc_getKR hg (pc := 9) (dAt dtX19_served 7 rfl) flX19_39_1 rfl ka50 kf50_12 (wc_kf hg fun zk => (wc_callF (k := 32) (x := ⟨"java/util/List", "size", "()I"⟩) (y' := tJ2_size) (P := eI (vJ2_size 62 h103) h103) (pc := 12) (dAt dtX19_served 8 rfl) q1714 q366 q365 ⟨by decide, by decide⟩ moJ2_size rfl q370 q371 q369 q367 q368 (by decide) (zk.2 _ ka62).1 rfl rfl (Nat.le_of_ble_eq_true rfl) (wJ2_size hg o108 ⟨rfl, rfl⟩) (ep_I (?_)) ex_I))))))
  have k128 : (¬ ((vJ2_size 62 h103) ≤ x102) ∧ (¬ ((hI h103 r0 3) = (-1)))) → Wc G tX19_served (d + 3) h Q 28 [some (vR r0), some (vI x101), some (vI x102), none] [] h103 := fun c109 => by
    replace hm := ite_t c109 hm
    obtain ⟨o110, o111, hm⟩ := hm
    refine wc_aload_n (pc := 28) (dAt dtX19_served 14 rfl) rfl (wc_getR (pc := 29) (dAt dtX19_served 15 rfl) flX19_3_19 rfl o106 (wc_vr o107.symm (wc_getKR hg (pc := 32) (dAt dtX19_served 16 rfl) flX19_39_1 rfl ka50 kf50_12 (wc_iload_n (pc := 35) (dAt dtX19_served 17 rfl) rfl (wc_kf hg fun zk => (wc_callF (k := 32) (x := ⟨"java/util/List", "get", "(I)Ljava/lang/Object;"⟩) (y' := tJ2_get) (P := eR (vJ2_get 62 x102 h103) h103) (pc := 36) (dAt dtX19_served 18 rfl) q1716 q508 q507 ⟨by decide, by decide⟩ moJ2_get rfl q511 q512 q510 q367 q509 (by decide) (zk.2 _ ka62).1 rfl rfl (Nat.le_of_ble_eq_true rfl) (wJ2_get hg o110 ⟨rfl, rfl⟩) (ep_R (wc_cast (pc := 41) (dAt dtX19_served 19 rfl) q1717 (by decide) (Or.inl rfl) o111 (wc_aload_n (pc := 44) (dAt dtX19_served 20 rfl) rfl (wc_callV (k := 20) (y' := tX20_serves) (av := [vR r0]) (st := []) (pc := 45) (dAt dtX19_served 21 rfl) lkX19_55 moX20_serves q1719 q1720 (by decide) o111 rfl rfl (Nat.le_of_ble_eq_true rfl) (wX20_serves hg hm) (kr_I (fun x113 h112 hm => ?_)) (kx_I rfl))))) ex_R))))))
    obtain ⟨v114, ev114⟩ : ∃ v114 : Int, v114 = (if ¬ (x113 = (-1)) ∧ ((x101 = (-1)) ∨ (¬ (x101 ≤ x113))) then x113 else x101) := ⟨_, rfl⟩
    replace hm := hm v114 ev114
    refine wc_istore_n (pc := 48) (dAt dtX19_served 22 rfl) (by decide) (wc_L (L' := [some (vR r0), some (vI x101), some (vI x102), some (vI x113)]) rfl (wc_iload_n (pc := 49) (dAt dtX19_served 23 rfl) rfl (wc_iconst (pc := 50) (dAt dtX19_served 24 rfl) ⟨by decide, by decide⟩ (?_))))
    have kj117 : Wc G tX19_served (d + 3) h Q 66 [some (vR r0), some (vI v114), some (vI x102), none] [] h112 := by
      obtain ⟨o115, hm⟩ := hm
      obtain ⟨i116, ei116⟩ : ∃ i116 : Int, i116 = (x102 + 1) := ⟨_, rfl⟩
      replace hm := hm i116 ei116
      exact wc_iinc (v := i116) (pc := 66) (dAt dtX19_served 34 rfl) rfl ei116 (ei116 ▸ o115) (by decide) (wc_L (L' := [some (vR r0), some (vI v114), some (vI i116), none]) rfl (wc_goto (pc := 69) (tgt := 4) (dAt dtX19_served 35 rfl) (by decide) (ih105 _ _ _ hm)))
    have k118 : (¬ (x113 = (-1)) ∧ ((x101 = (-1)) ∨ (¬ (x101 ≤ x113)))) → Wc G tX19_served (d + 3) h Q 64 [some (vR r0), some (vI x101), some (vI x102), some (vI x113)] [] h112 := fun c120 => by
      have z121 := kj117
      rw [show v114 = x113 from ev114.trans (if_pos c120)] at z121
      exact wc_iload_n (pc := 64) (dAt dtX19_served 32 rfl) rfl (wc_istore_n (pc := 65) (dAt dtX19_served 33 rfl) (by decide) (wc_L (L' := [some (vR r0), some (vI x113), some (vI x102), some (vI x113)]) rfl (wc_drp [3] rfl (z121))))
    have k119 : ¬ (¬ (x113 = (-1)) ∧ ((x101 = (-1)) ∨ (¬ (x101 ≤ x113)))) → Wc G tX19_served (d + 3) h Q 66 [some (vR r0), some (vI x101), some (vI x102), some (vI x113)] [] h112 := fun c120 => by
      have z123 := kj117
      rw [show v114 = x101 from ev114.trans (if_neg c120)] at z123
      exact wc_drp [3] rfl (z123)
    exact wc_icmp_eq (pc := 51) (tgt := 66) (dAt dtX19_served 25 rfl) (by decide) (fun c125 => (k119 (fun z => z.1 c125))) (fun c125 => wc_iload_n (pc := 54) (dAt dtX19_served 26 rfl) rfl (wc_iconst (pc := 55) (dAt dtX19_served 27 rfl) ⟨by decide, by decide⟩ (wc_icmp_eq (pc := 56) (tgt := 64) (dAt dtX19_served 28 rfl) (by decide) (fun c126 => (k118 ⟨c125, (Or.inl c126)⟩)) (fun c126 => wc_iload_n (pc := 59) (dAt dtX19_served 29 rfl) rfl (wc_iload_n (pc := 60) (dAt dtX19_served 30 rfl) rfl (wc_icmp_ge (pc := 61) (tgt := 66) (dAt dtX19_served 31 rfl) (by decide) (fun c127 => (k119 (fun z => (fun z => z.elim c126 (fun z => z c127)) z.2))) (fun c127 => (k118 ⟨c125, (Or.inr c127)⟩))))))))
  have k129 : ¬ (¬ ((vJ2_size 62 h103) ≤ x102) ∧ (¬ ((hI h103 r0 3) = (-1)))) → Wc G tX19_served (d + 3) h Q 72 [some (vR r0), some (vI x101), some (vI x102), none] [] h103 := fun c109 => by
    replace hm := ite_f c109 hm
    exact wc_iload_n (pc := 72) (dAt dtX19_served 36 rfl) rfl (wc_iret (pc := 73) (dAt dtX19_served 37 rfl) rfl (nar_int _) hm)
  exact wc_icmp_ge (pc := 17) (tgt := 72) (dAt dtX19_served 9 rfl) (by decide) (fun c130 => (k129 (fun z => z.1 c130))) (fun c130 => wc_aload_n (pc := 20) (dAt dtX19_served 10 rfl) rfl (wc_getI (pc := 21) (dAt dtX19_served 11 rfl) flX19_36_19 rfl o106 (wc_iconst (pc := 24) (dAt dtX19_served 12 rfl) ⟨by decide, by decide⟩ (wc_icmp_eq (pc := 25) (tgt := 72) (dAt dtX19_served 13 rfl) (by decide) (fun c131 => (k129 (fun z => (fun z => z c131) z.2))) (fun c131 => (k128 ⟨c130, c131⟩))))))
def tX1_callOf : Mt := (⟨"FlyingDoctors", "callOf", "(II)I"⟩, prog_1_method_39_code, 4, (Option.some Jvm.ClassFile.FieldType.int), [])
def DX1_callOf : List (Nat × Instr × Nat) := [(0, .aload_n 0, 1), (1, .iload_n 1, 1), (2, .invokevirtual 388, 3), (5, .astore_n 3, 1), (6, .iload_n 2, 1), (7, .tableswitch 61 0 4 #[33, 41, 46, 51, 56], 33), (40, .aload_n 3, 1), (41, .getfield 392, 3), (44, .getfield 84, 3), (47, .ireturn, 1), (48, .aload_n 3, 1), (49, .getfield 393, 3), (52, .ireturn, 1), (53, .aload_n 3, 1), (54, .getfield 395, 3), (57, .ireturn, 1), (58, .aload_n 3, 1), (59, .getfield 396, 3), (62, .ireturn, 1), (63, .aload_n 3, 1), (64, .invokevirtual 399, 3), (67, .ireturn, 1), (68, .new 1, 3), (71, .dup, 1), (72, .invokespecial 3, 3), (75, .athrow, 1)]
theorem dtX1_callOf : chkD (mB tX1_callOf) DX1_callOf = true := by decide +kernel
theorem moX1_callOf : MethOk tX1_callOf 2 := ⟨Or.inl ⟨rfl, q1704⟩, by decide +kernel, ⟨by decide, by decide⟩, by decide +kernel⟩
def mX1_callOf (x1 : Int) (x2 : Int) (h : Hp) (Q : Rs → Hp → Prop) : Prop := mX1_callAt x1 h (kR Q (fun r102 h101 => if x2 = 0 then ob h101 r102 19 ∧ ob h101 (hR h101 r102 4) 5 ∧ Q (rV (vI (hI h101 (hR h101 r102 4) 0))) h101 else if x2 = 1 then ob h101 r102 19 ∧ Q (rV (vI (hI h101 r102 1))) h101 else if x2 = 2 then ob h101 r102 19 ∧ Q (rV (vI (hI h101 r102 2))) h101 else if x2 = 3 then ob h101 r102 19 ∧ Q (rV (vI (hI h101 r102 3))) h101 else if x2 = 4 then ob h101 r102 19 ∧ mX19_served r102 h101 (kI Q (fun x115 h114 => Q (rV (vI x115)) h114)) else hn h101 + 1 ≤ 878547 ∧ hq h101 + 6 ≤ 6460613 ∧ Q (rX (hn h101)) (nw h101 41 0 6)))
theorem wX1_callOf {G : Gx} (hg : gF G = true) {d : Nat} {x1 : Int} {x2 : Int} {h : Hp} {Q : Rs → Hp → Prop} (hm : mX1_callOf x1 x2 h Q) : Ct G tX1_callOf (d + 10) [vR 50, vI x1, vI x2] h Q := by
  refine ct_enter (L0 := [some (vR 50), some (vI x1), some (vI x2), none]) rfl rfl ?_
  unfold mX1_callOf at hm
  refine wc_aload_n (pc := 0) (dAt dtX1_callOf 0 rfl) rfl (wc_iload_n (pc := 1) (dAt dtX1_callOf 1 rfl) rfl (wc_kf hg fun zk => wc_callV (k := 1) (y' := tX1_callAt) (av := [vI x1]) (st := []) (pc := 2) (dAt dtX1_callOf 2 rfl) lkX1_388 moX1_callAt q1707 qs39 (by decide) (zk.2 _ ka50).1 rfl rfl (Nat.le_of_ble_eq_true rfl) (wX1_callAt hg hm) (kr_R (fun r102 h101 hm => ?_)) (kx_R rfl)))
  refine wc_astore_n (pc := 5) (dAt dtX1_callOf 3 rfl) (by decide) (wc_L (L' := [some (vR 50), some (vI x1), some (vI x2), some (vR r102)]) rfl (wc_iload_n (pc := 6) (dAt dtX1_callOf 4 rfl) rfl (?_)))
  by_cases c103 : x2 = 0
  · replace hm := ite_t c103 hm
    refine wc_tableIn (pc := 7) (tgt := 40) (dAt dtX1_callOf 5 rfl) (by omega) (by omega) (by rw [c103]; rfl) (by decide) ?_
    obtain ⟨o104, o105, hm⟩ := hm
    exact wc_aload_n (pc := 40) (dAt dtX1_callOf 6 rfl) rfl (wc_getR (pc := 41) (dAt dtX1_callOf 7 rfl) flX1_392_19 rfl o104 (wc_getI (pc := 44) (dAt dtX1_callOf 8 rfl) flX1_84_5 rfl o105 (wc_iret (pc := 47) (dAt dtX1_callOf 9 rfl) rfl (nar_int _) hm)))
  replace hm := ite_f c103 hm
  by_cases c106 : x2 = 1
  · replace hm := ite_t c106 hm
    refine wc_tableIn (pc := 7) (tgt := 48) (dAt dtX1_callOf 5 rfl) (by omega) (by omega) (by rw [c106]; rfl) (by decide) ?_
    obtain ⟨o107, hm⟩ := hm
    exact wc_aload_n (pc := 48) (dAt dtX1_callOf 10 rfl) rfl (wc_getI (pc := 49) (dAt dtX1_callOf 11 rfl) flX1_393_19 rfl o107 (wc_iret (pc := 52) (dAt dtX1_callOf 12 rfl) rfl (nar_int _) hm))
  replace hm := ite_f c106 hm
  by_cases c108 : x2 = 2
  · replace hm := ite_t c108 hm
    refine wc_tableIn (pc := 7) (tgt := 53) (dAt dtX1_callOf 5 rfl) (by omega) (by omega) (by rw [c108]; rfl) (by decide) ?_
    obtain ⟨o109, hm⟩ := hm
    exact wc_aload_n (pc := 53) (dAt dtX1_callOf 13 rfl) rfl (wc_getI (pc := 54) (dAt dtX1_callOf 14 rfl) flX1_395_19 rfl o109 (wc_iret (pc := 57) (dAt dtX1_callOf 15 rfl) rfl (nar_int _) hm))
  replace hm := ite_f c108 hm
  by_cases c110 : x2 = 3
  · replace hm := ite_t c110 hm
    refine wc_tableIn (pc := 7) (tgt := 58) (dAt dtX1_callOf 5 rfl) (by omega) (by omega) (by rw [c110]; rfl) (by decide) ?_
    obtain ⟨o111, hm⟩ := hm
    exact wc_aload_n (pc := 58) (dAt dtX1_callOf 16 rfl) rfl (wc_getI (pc := 59) (dAt dtX1_callOf 17 rfl) flX1_396_19 rfl o111 (wc_iret (pc := 62) (dAt dtX1_callOf 18 rfl) rfl (nar_int _) hm))
  replace hm := ite_f c110 hm
  by_cases c112 : x2 = 4
  · replace hm := ite_t c112 hm
    refine wc_tableIn (pc := 7) (tgt := 63) (dAt dtX1_callOf 5 rfl) (by omega) (by omega) (by rw [c112]; rfl) (by decide) ?_
    obtain ⟨o113, hm⟩ := hm
    refine wc_aload_n (pc := 63) (dAt dtX1_callOf 19 rfl) rfl (wc_callV (k := 19) (y' := tX19_served) (av := []) (st := []) (pc := 64) (dAt dtX1_callOf 20 rfl) lkX1_399 moX19_served q1710 q1711 (by decide) o113 rfl rfl (Nat.le_of_ble_eq_true rfl) (wX19_served hg hm) (kr_I (fun x115 h114 hm => ?_)) (kx_I rfl))
    exact wc_iret (pc := 67) (dAt dtX1_callOf 21 rfl) rfl (nar_int _) hm
  replace hm := ite_f c112 hm
  refine wc_tableOut (pc := 7) (tgt := 68) (dAt dtX1_callOf 5 rfl) (by omega) (by decide) ?_
  obtain ⟨o116, o117, hm⟩ := hm
  exact wc_throw41 (pc := 68) (dAt dtX1_callOf 22 rfl) (dAt dtX1_callOf 23 rfl) (dAt dtX1_callOf 24 rfl) (dAt dtX1_callOf 25 rfl) q689 q731 o116 o117 rfl (Nat.le_of_ble_eq_true rfl) hm
def tX0_callOf : Mt := (⟨"FlyingDoctorsLaw", "callOf", "(LFlyingDoctors;II[J)I"⟩, method_13_code, 5, (Option.some Jvm.ClassFile.FieldType.int), [((0 : Nat), (10 : Nat), (13 : Nat), (13 : Nat))])
def DX0_callOf : List (Nat × Instr × Nat) := [(0, .aload_n 3, 1), (1, .iconst 0, 1), (2, .aload_n 0, 1), (3, .iload_n 1, 1), (4, .iload_n 2, 1), (5, .invokevirtual 48, 3), (8, .i2l, 1), (9, .lastore, 1), (10, .goto 7, 3), (13, .astore 4, 2), (15, .iconst 1, 1), (16, .ireturn, 1), (17, .iconst 0, 1), (18, .ireturn, 1)]
theorem dtX0_callOf : chkD (mB tX0_callOf) DX0_callOf = true := by decide +kernel
theorem moX0_callOf : MethOk tX0_callOf 4 := ⟨Or.inr q1700, by decide +kernel, ⟨by decide, by decide⟩, by decide +kernel⟩
def mX0_callOf (x1 : Int) (x2 : Int) (h : Hp) (Q : Rs → Hp → Prop) : Prop := mX1_callOf x1 x2 h (kIx (fun a103 h104 => ob h104 a103 41 ∧ (Q (rV (vI 1)) h104)) (fun x102 h101 => ∀ h106 : Hp, h106 = sL h101 158 0 x102 → Q (rV (vI 0)) h106))
theorem wX0_callOf {G : Gx} (hg : gF G = true) {d : Nat} {x1 : Int} {x2 : Int} {h : Hp} {Q : Rs → Hp → Prop} (hm : mX0_callOf x1 x2 h Q) : Ct G tX0_callOf (d + 11) [vR 50, vI x1, vI x2, vR 158] h Q := by
  refine ct_enter (L0 := [some (vR 50), some (vI x1), some (vI x2), some (vR 158), none]) rfl rfl ?_
  unfold mX0_callOf at hm
  refine wc_aload_n (pc := 0) (dAt dtX0_callOf 0 rfl) rfl (wc_iconst (pc := 1) (dAt dtX0_callOf 1 rfl) ⟨by decide, by decide⟩ (wc_aload_n (pc := 2) (dAt dtX0_callOf 2 rfl) rfl (wc_iload_n (pc := 3) (dAt dtX0_callOf 3 rfl) rfl (wc_iload_n (pc := 4) (dAt dtX0_callOf 4 rfl) rfl (wc_kf hg fun zk => wc_callV (k := 1) (y' := tX1_callOf) (av := [vI x1, vI x2]) (st := [vI 0, vR 158]) (pc := 5) (dAt dtX0_callOf 5 rfl) lkX0_48 moX1_callOf q1702 q1703 (by decide) (zk.2 _ ka50).1 rfl rfl (Nat.le_of_ble_eq_true rfl) (wX1_callOf hg hm) (krx_I (fun x102 h101 hm => ?_)) (kxx_I (fun a103 h104 hm => ?_)))))))
  · obtain ⟨h106, eh106⟩ : ∃ h106 : Hp, h106 = sL h101 158 0 x102 := ⟨_, rfl⟩
    replace hm := hm h106 eh106
    exact wc_i2l (pc := 8) (dAt dtX0_callOf 6 rfl) (wc_lastK hg (pc := 9) (dAt dtX0_callOf 7 rfl) kr158 (by decide) (by decide) (by decide) (wc_hp eh106 (wc_goto (pc := 10) (tgt := 17) (dAt dtX0_callOf 8 rfl) (by decide) (wc_iconst (pc := 17) (dAt dtX0_callOf 12 rfl) ⟨by decide, by decide⟩ (wc_iret (pc := 18) (dAt dtX0_callOf 13 rfl) rfl (nar_int _) hm)))))
  · obtain ⟨o105, hm⟩ := hm
    refine wx_hit rfl rfl (by decide) q676 (by decide) o105 rfl ?_
    exact wc_astore (pc := 13) (dAt dtX0_callOf 9 rfl) (by decide) (wc_L (L' := [some (vR 50), some (vI x1), some (vI x2), some (vR 158), some (vR a103)]) rfl (wc_iconst (pc := 15) (dAt dtX0_callOf 10 rfl) ⟨by decide, by decide⟩ (wc_iret (pc := 16) (dAt dtX0_callOf 11 rfl) rfl (nar_int _) hm)))
def tX4_isCall : Mt := (⟨"FlyingDoctorsModel", "isCall", "(I)Z"⟩, prog_24_method_67_code, 2, (Option.some Jvm.ClassFile.FieldType.boolean), [])
def DX4_isCall : List (Nat × Instr × Nat) := [(0, .aload_n 0, 1), (1, .iconst 0, 1), (2, .putfield 1, 3), (5, .aload_n 0, 1), (6, .iload_n 1, 1), (7, .ifCond .lt 15, 3), (10, .iload_n 1, 1), (11, .aload_n 0, 1), (12, .getfield 497, 3), (15, .if_icmp .ge 7, 3), (18, .iconst 1, 1), (19, .goto 4, 3), (22, .iconst 0, 1), (23, .iconst 1, 1), (24, .invokevirtual 10, 3), (27, .ireturn, 1)]
theorem dtX4_isCall : chkD (mB tX4_isCall) DX4_isCall = true := by decide +kernel
theorem moX4_isCall : MethOk tX4_isCall 1 := ⟨Or.inl ⟨rfl, q2733⟩, by decide +kernel, ⟨by decide, by decide⟩, by decide +kernel⟩
def mX4_isCall (x1 : Int) (h : Hp) (Q : Rs → Hp → Prop) : Prop := ∀ h101 : Hp, h101 = sI h 75 0 0 → ∀ v102 : Int, v102 = (b2i (¬ (x1 < 0) ∧ (¬ ((hI h101 75 69) ≤ x1)))) → mX4_right v102 1 h101 (kI Q (fun x104 h103 => (x104 = 0 ∨ x104 = 1) ∧ Q (rV (vI x104)) h103))
theorem wX4_isCall {G : Gx} (hg : gF G = true) {d : Nat} {x1 : Int} {h : Hp} {Q : Rs → Hp → Prop} (hm : mX4_isCall x1 h Q) : Ct G tX4_isCall (d + 1) [vR 75, vI x1] h Q := by
  refine ct_enter (L0 := [some (vR 75), some (vI x1)]) rfl rfl ?_
  unfold mX4_isCall at hm
  obtain ⟨h101, eh101⟩ : ∃ h101 : Hp, h101 = sI h 75 0 0 := ⟨_, rfl⟩
  replace hm := hm h101 eh101
  obtain ⟨v102, ev102⟩ : ∃ v102 : Int, v102 = (b2i (¬ (x1 < 0) ∧ (¬ ((hI h101 75 69) ≤ x1)))) := ⟨_, rfl⟩
  replace hm := hm v102 ev102
  refine wc_aload_n (pc := 0) (dAt dtX4_isCall 0 rfl) rfl (wc_iconst (pc := 1) (dAt dtX4_isCall 1 rfl) ⟨by decide, by decide⟩ (wc_putKI hg (pc := 2) (dAt dtX4_isCall 2 rfl) flX4_1_4 (Or.inl rfl) rfl ka75 (by decide) (okI_int _) (wc_hp eh101 (wc_aload_n (pc := 5) (dAt dtX4_isCall 3 rfl) rfl (wc_iload_n (pc := 6) (dAt dtX4_isCall 4 rfl) rfl (?_))))))
  have kj106 : Wc G tX4_isCall (d + 1) h Q 23 [some (vR 75), none] [vI v102, vR 75] h101 := by
    refine wc_iconst (pc := 23) (dAt dtX4_isCall 13 rfl) ⟨by decide, by decide⟩ (wc_kf hg fun zk => wc_callV (k := 4) (y' := tX4_right) (av := [vI v102, vI 1]) (st := []) (pc := 24) (dAt dtX4_isCall 14 rfl) lkX4_10 moX4_right q2152 qs64 (by decide) (zk.2 _ ka75).1 rfl rfl (Nat.le_of_ble_eq_true rfl) (wX4_right hg hm) (kr_I (fun x104 h103 hm => ?_)) (kx_I rfl))
    obtain ⟨o105, hm⟩ := hm
    exact wc_iret (pc := 27) (dAt dtX4_isCall 15 rfl) rfl (nar_bool o105) hm
  have k107 : (¬ (x1 < 0) ∧ (¬ ((hI h101 75 69) ≤ x1))) → Wc G tX4_isCall (d + 1) h Q 18 [some (vR 75), some (vI x1)] [vR 75] h101 := fun c109 => by
    have z110 := kj106
    rw [show v102 = 1 from ev102.trans (b2i_t c109)] at z110
    exact wc_iconst (pc := 18) (dAt dtX4_isCall 10 rfl) ⟨by decide, by decide⟩ (wc_goto (pc := 19) (tgt := 23) (dAt dtX4_isCall 11 rfl) (by decide) (wc_drp [1] rfl (z110)))
  have k108 : ¬ (¬ (x1 < 0) ∧ (¬ ((hI h101 75 69) ≤ x1))) → Wc G tX4_isCall (d + 1) h Q 22 [some (vR 75), some (vI x1)] [vR 75] h101 := fun c109 => by
    have z112 := kj106
    rw [show v102 = 0 from ev102.trans (b2i_f c109)] at z112
    exact wc_iconst (pc := 22) (dAt dtX4_isCall 12 rfl) ⟨by decide, by decide⟩ (wc_drp [1] rfl (z112))
  exact wc_if_lt (pc := 7) (tgt := 22) (dAt dtX4_isCall 5 rfl) (by decide) (fun c114 => (k108 (fun z => z.1 c114))) (fun c114 => wc_iload_n (pc := 10) (dAt dtX4_isCall 6 rfl) rfl (wc_aload_n (pc := 11) (dAt dtX4_isCall 7 rfl) rfl (wc_getKI hg (pc := 12) (dAt dtX4_isCall 8 rfl) flX4_497_4 rfl ka75 (wc_icmp_ge (pc := 15) (tgt := 22) (dAt dtX4_isCall 9 rfl) (by decide) (fun c115 => (k108 (fun z => (fun z => z c115) z.2))) (fun c115 => (k107 ⟨c114, c115⟩))))))
