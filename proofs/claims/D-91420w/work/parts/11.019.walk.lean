set_option maxRecDepth 100000
set_option maxHeartbeats 1000000
/-! what methods do, and their walks, by program -/
def tX1_quarters : Mt := (⟨"FlyingDoctors", "quarters", "(I)I"⟩, prog_1_method_32_code, 2, (Option.some Jvm.ClassFile.FieldType.int), [])
def DX1_quarters : List (Nat × Instr × Nat) := [(0, .iload_n 1, 1), (1, .iconst 0, 1), (2, .sipush 2687, 3), (5, .invokestatic 314, 3), (8, .ifCond .eq 19, 3), (11, .aload_n 0, 1), (12, .getfield 173, 3), (15, .iload_n 1, 1), (16, .iadd, 1), (17, .sipush 2687, 3), (20, .if_icmp .gt 7, 3), (23, .iconst 1, 1), (24, .goto 4, 3), (27, .iconst 0, 1), (28, .invokestatic 337, 3), (31, .aload_n 0, 1), (32, .dup, 1), (33, .getfield 173, 3), (36, .iload_n 1, 1), (37, .iadd, 1), (38, .putfield 173, 3), (41, .aload_n 0, 1), (42, .getfield 173, 3), (45, .ireturn, 1)]
theorem dtX1_quarters : chkD (mB tX1_quarters) DX1_quarters = true := by decide +kernel
theorem moX1_quarters : MethOk tX1_quarters 1 := ⟨Or.inl ⟨rfl, q1494⟩, by decide +kernel, ⟨by decide, by decide⟩, by decide +kernel⟩
def mX1_quarters (x1 : Int) (h : Hp) (Q : Rs → Hp → Prop) : Prop := ((¬ ((vX1_in x1 0 2687 h) = 0) → nm ((hI h 50 20) + x1))) ∧ ∀ v103 : Int, v103 = (b2i (¬ ((vX1_in x1 0 2687 h) = 0) ∧ (¬ (2687 < ((hI h 50 20) + x1))))) → mX1_right v103 h (kN Q (fun h104 => nm ((hI h104 50 20) + x1) ∧ ∀ h106 : Hp, h106 = sI h104 50 20 ((hI h104 50 20) + x1) → Q (rV (vI (hI h106 50 20))) h106))
theorem wX1_quarters {G : Gx} (hg : gF G = true) {d : Nat} {x1 : Int} {h : Hp} {Q : Rs → Hp → Prop} (hm : mX1_quarters x1 h Q) : Ct G tX1_quarters (d + 9) [vR 50, vI x1] h Q := by
  refine ct_enter (L0 := [some (vR 50), some (vI x1)]) rfl rfl ?_
  unfold mX1_quarters at hm
  obtain ⟨o102, hm⟩ := hm
  obtain ⟨v103, ev103⟩ : ∃ v103 : Int, v103 = (b2i (¬ ((vX1_in x1 0 2687 h) = 0) ∧ (¬ (2687 < ((hI h 50 20) + x1))))) := ⟨_, rfl⟩
  replace hm := hm v103 ev103
  refine wc_iload_n (pc := 0) (dAt dtX1_quarters 0 rfl) rfl (wc_iconst (pc := 1) (dAt dtX1_quarters 1 rfl) ⟨by decide, by decide⟩ (wc_sipush (pc := 2) (dAt dtX1_quarters 2 rfl) ⟨by decide, by decide, by decide⟩ (wc_callS (y' := tX1_in) (P := eI (vX1_in x1 0 2687 h) h) (pc := 5) (dAt dtX1_quarters 3 rfl) lkX1_314 moX1_in q374 q128 rfl rfl (Nat.le_of_ble_eq_true rfl) (wX1_in hg ⟨rfl, rfl⟩) (ep_I (?_)) ex_I)))
  have kj107 : Wc G tX1_quarters (d + 9) h Q 28 [some (vR 50), some (vI x1)] [vI v103] h := by
    refine wc_callS (y' := tX1_right) (av := [vI v103]) (st := []) (pc := 28) (dAt dtX1_quarters 14 rfl) lkX1_337 moX1_right q755 q128 rfl rfl (Nat.le_of_ble_eq_true rfl) (wX1_right hg hm) (kr_N (fun h104 hm => ?_)) (kx_N rfl)
    obtain ⟨o105, hm⟩ := hm
    obtain ⟨h106, eh106⟩ : ∃ h106 : Hp, h106 = sI h104 50 20 ((hI h104 50 20) + x1) := ⟨_, rfl⟩
    replace hm := hm h106 eh106
    exact wc_aload_n (pc := 31) (dAt dtX1_quarters 15 rfl) rfl (wc_dup (pc := 32) (dAt dtX1_quarters 16 rfl) rfl (wc_getKI hg (pc := 33) (dAt dtX1_quarters 17 rfl) flX1_173_1 rfl ka50 (wc_iload_n (pc := 36) (dAt dtX1_quarters 18 rfl) rfl (wc_iadd (pc := 37) (dAt dtX1_quarters 19 rfl) o105 (wc_putKI hg (pc := 38) (dAt dtX1_quarters 20 rfl) flX1_173_1 (Or.inl rfl) rfl ka50 (by decide) (okI_int _) (wc_hp eh106 (wc_aload_n (pc := 41) (dAt dtX1_quarters 21 rfl) rfl (wc_getKI hg (pc := 42) (dAt dtX1_quarters 22 rfl) flX1_173_1 rfl ka50 (wc_iret (pc := 45) (dAt dtX1_quarters 23 rfl) rfl (nar_int _) hm)))))))))
  have p108 := o102
  have k109 : (¬ ((vX1_in x1 0 2687 h) = 0) ∧ (¬ (2687 < ((hI h 50 20) + x1)))) → Wc G tX1_quarters (d + 9) h Q 23 [some (vR 50), some (vI x1)] [] h := fun c111 => by
    have z112 := kj107
    rw [show v103 = 1 from ev103.trans (b2i_t c111)] at z112
    exact wc_iconst (pc := 23) (dAt dtX1_quarters 11 rfl) ⟨by decide, by decide⟩ (wc_goto (pc := 24) (tgt := 28) (dAt dtX1_quarters 12 rfl) (by decide) (z112))
  have k110 : ¬ (¬ ((vX1_in x1 0 2687 h) = 0) ∧ (¬ (2687 < ((hI h 50 20) + x1)))) → Wc G tX1_quarters (d + 9) h Q 27 [some (vR 50), some (vI x1)] [] h := fun c111 => by
    have z114 := kj107
    rw [show v103 = 0 from ev103.trans (b2i_f c111)] at z114
    exact wc_iconst (pc := 27) (dAt dtX1_quarters 13 rfl) ⟨by decide, by decide⟩ (z114)
  exact wc_if_eq (pc := 8) (tgt := 27) (dAt dtX1_quarters 4 rfl) (by decide) (fun c116 => (k110 (fun z => z.1 c116))) (fun c116 => wc_aload_n (pc := 11) (dAt dtX1_quarters 5 rfl) rfl (wc_getKI hg (pc := 12) (dAt dtX1_quarters 6 rfl) flX1_173_1 rfl ka50 (wc_iload_n (pc := 15) (dAt dtX1_quarters 7 rfl) rfl (wc_iadd (pc := 16) (dAt dtX1_quarters 8 rfl) (p108 c116) (wc_sipush (pc := 17) (dAt dtX1_quarters 9 rfl) ⟨by decide, by decide, by decide⟩ (wc_icmp_gt (pc := 20) (tgt := 27) (dAt dtX1_quarters 10 rfl) (by decide) (fun c117 => (k110 (fun z => (fun z => z c117) z.2))) (fun c117 => (k109 ⟨c116, c117⟩))))))))
def tX0_quarters : Mt := (⟨"FlyingDoctorsLaw", "quarters", "(LFlyingDoctors;I[J)I"⟩, method_6_code, 4, (Option.some Jvm.ClassFile.FieldType.int), [((0 : Nat), (9 : Nat), (12 : Nat), (15 : Nat))])
def DX0_quarters : List (Nat × Instr × Nat) := [(0, .aload_n 2, 1), (1, .iconst 0, 1), (2, .aload_n 0, 1), (3, .iload_n 1, 1), (4, .invokevirtual 24, 3), (7, .i2l, 1), (8, .lastore, 1), (9, .goto 6, 3), (12, .astore_n 3, 1), (13, .iconst 1, 1), (14, .ireturn, 1), (15, .iconst 0, 1), (16, .ireturn, 1)]
theorem dtX0_quarters : chkD (mB tX0_quarters) DX0_quarters = true := by decide +kernel
theorem moX0_quarters : MethOk tX0_quarters 3 := ⟨Or.inr q1490, by decide +kernel, ⟨by decide, by decide⟩, by decide +kernel⟩
def mX0_quarters (x1 : Int) (h : Hp) (Q : Rs → Hp → Prop) : Prop := mX1_quarters x1 h (kIx (fun a103 h104 => ob h104 a103 42 ∧ (Q (rV (vI 1)) h104)) (fun x102 h101 => ∀ h106 : Hp, h106 = sL h101 158 0 x102 → Q (rV (vI 0)) h106))
theorem wX0_quarters {G : Gx} (hg : gF G = true) {d : Nat} {x1 : Int} {h : Hp} {Q : Rs → Hp → Prop} (hm : mX0_quarters x1 h Q) : Ct G tX0_quarters (d + 10) [vR 50, vI x1, vR 158] h Q := by
  refine ct_enter (L0 := [some (vR 50), some (vI x1), some (vR 158), none]) rfl rfl ?_
  unfold mX0_quarters at hm
  refine wc_aload_n (pc := 0) (dAt dtX0_quarters 0 rfl) rfl (wc_iconst (pc := 1) (dAt dtX0_quarters 1 rfl) ⟨by decide, by decide⟩ (wc_aload_n (pc := 2) (dAt dtX0_quarters 2 rfl) rfl (wc_iload_n (pc := 3) (dAt dtX0_quarters 3 rfl) rfl (wc_kf hg fun zk => wc_callV (k := 1) (y' := tX1_quarters) (av := [vI x1]) (st := [vI 0, vR 158]) (pc := 4) (dAt dtX0_quarters 4 rfl) lkX0_24 moX1_quarters q1492 q1493 (by decide) (zk.2 _ ka50).1 rfl rfl (Nat.le_of_ble_eq_true rfl) (wX1_quarters hg hm) (krx_I (fun x102 h101 hm => ?_)) (kxx_I (fun a103 h104 hm => ?_))))))
  · obtain ⟨h106, eh106⟩ : ∃ h106 : Hp, h106 = sL h101 158 0 x102 := ⟨_, rfl⟩
    replace hm := hm h106 eh106
    exact wc_i2l (pc := 7) (dAt dtX0_quarters 5 rfl) (wc_lastK hg (pc := 8) (dAt dtX0_quarters 6 rfl) kr158 (by decide) (by decide) (by decide) (wc_hp eh106 (wc_goto (pc := 9) (tgt := 15) (dAt dtX0_quarters 7 rfl) (by decide) (wc_iconst (pc := 15) (dAt dtX0_quarters 11 rfl) ⟨by decide, by decide⟩ (wc_iret (pc := 16) (dAt dtX0_quarters 12 rfl) rfl (nar_int _) hm)))))
  · obtain ⟨o105, hm⟩ := hm
    refine wx_hit rfl rfl (by decide) q677 (by decide) o105 rfl ?_
    exact wc_astore_n (pc := 12) (dAt dtX0_quarters 8 rfl) (by decide) (wc_L (L' := [some (vR 50), some (vI x1), some (vR 158), some (vR a103)]) rfl (wc_iconst (pc := 13) (dAt dtX0_quarters 9 rfl) ⟨by decide, by decide⟩ (wc_iret (pc := 14) (dAt dtX0_quarters 10 rfl) rfl (nar_int _) hm)))
def tX4_quarters : Mt := (⟨"FlyingDoctorsModel", "quarters", "(I)I"⟩, prog_24_method_15_code, 2, (Option.some Jvm.ClassFile.FieldType.int), [])
def DX4_quarters : List (Nat × Instr × Nat) := [(0, .aload_n 0, 1), (1, .iconst 0, 1), (2, .putfield 1, 3), (5, .aload_n 0, 1), (6, .iload_n 1, 1), (7, .ifCond .lt 26, 3), (10, .iload_n 1, 1), (11, .sipush 2687, 3), (14, .if_icmp .gt 19, 3), (17, .iload_n 1, 1), (18, .sipush 2687, 3), (21, .aload_n 0, 1), (22, .getfield 81, 3), (25, .isub, 1), (26, .if_icmp .gt 7, 3), (29, .iconst 1, 1), (30, .goto 4, 3), (33, .iconst 0, 1), (34, .iconst 1, 1), (35, .invokevirtual 10, 3), (38, .ifCond .ne 5, 3), (41, .iconst 0, 1), (42, .ireturn, 1), (43, .aload_n 0, 1), (44, .dup, 1), (45, .getfield 81, 3), (48, .iload_n 1, 1), (49, .iadd, 1), (50, .putfield 81, 3), (53, .aload_n 0, 1), (54, .getfield 81, 3), (57, .ireturn, 1)]
theorem dtX4_quarters : chkD (mB tX4_quarters) DX4_quarters = true := by decide +kernel
theorem moX4_quarters : MethOk tX4_quarters 1 := ⟨Or.inl ⟨rfl, q2157⟩, by decide +kernel, ⟨by decide, by decide⟩, by decide +kernel⟩
def mX4_quarters (x1 : Int) (h : Hp) (Q : Rs → Hp → Prop) : Prop := ∀ h101 : Hp, h101 = sI h 75 0 0 → ((¬ (x1 < 0) → (¬ (2687 < x1) → nm (2687 - (hI h101 75 1))))) ∧ ∀ v104 : Int, v104 = (b2i (¬ (x1 < 0) ∧ (¬ (2687 < x1) ∧ (¬ ((2687 - (hI h101 75 1)) < x1))))) → mX4_right v104 1 h101 (kI Q (fun x106 h105 => if ¬ (x106 ≠ 0) then Q (rV (vI 0)) h105 else nm ((hI h105 75 1) + x1) ∧ ∀ h109 : Hp, h109 = sI h105 75 1 ((hI h105 75 1) + x1) → Q (rV (vI (hI h109 75 1))) h109))
theorem wX4_quarters {G : Gx} (hg : gF G = true) {d : Nat} {x1 : Int} {h : Hp} {Q : Rs → Hp → Prop} (hm : mX4_quarters x1 h Q) : Ct G tX4_quarters (d + 1) [vR 75, vI x1] h Q := by
  refine ct_enter (L0 := [some (vR 75), some (vI x1)]) rfl rfl ?_
  unfold mX4_quarters at hm
  obtain ⟨h101, eh101⟩ : ∃ h101 : Hp, h101 = sI h 75 0 0 := ⟨_, rfl⟩
  replace hm := hm h101 eh101
  obtain ⟨o103, hm⟩ := hm
  obtain ⟨v104, ev104⟩ : ∃ v104 : Int, v104 = (b2i (¬ (x1 < 0) ∧ (¬ (2687 < x1) ∧ (¬ ((2687 - (hI h101 75 1)) < x1))))) := ⟨_, rfl⟩
  replace hm := hm v104 ev104
  refine wc_aload_n (pc := 0) (dAt dtX4_quarters 0 rfl) rfl (wc_iconst (pc := 1) (dAt dtX4_quarters 1 rfl) ⟨by decide, by decide⟩ (wc_putKI hg (pc := 2) (dAt dtX4_quarters 2 rfl) flX4_1_4 (Or.inl rfl) rfl ka75 (by decide) (okI_int _) (wc_hp eh101 (wc_aload_n (pc := 5) (dAt dtX4_quarters 3 rfl) rfl (wc_iload_n (pc := 6) (dAt dtX4_quarters 4 rfl) rfl (?_))))))
  have kj110 : Wc G tX4_quarters (d + 1) h Q 34 [some (vR 75), some (vI x1)] [vI v104, vR 75] h101 := by
    refine wc_iconst (pc := 34) (dAt dtX4_quarters 18 rfl) ⟨by decide, by decide⟩ (wc_kf hg fun zk => wc_callV (k := 4) (y' := tX4_right) (av := [vI v104, vI 1]) (st := []) (pc := 35) (dAt dtX4_quarters 19 rfl) lkX4_10 moX4_right q2152 qs64 (by decide) (zk.2 _ ka75).1 rfl rfl (Nat.le_of_ble_eq_true rfl) (wX4_right hg hm) (kr_I (fun x106 h105 hm => ?_)) (kx_I rfl))
    refine wc_if_ne (pc := 38) (tgt := 43) (dAt dtX4_quarters 20 rfl) (by decide) (fun c107 => ?_) (fun c107 => ?_)
    · replace hm := ite_f (fun z => z c107) hm
      obtain ⟨o108, hm⟩ := hm
      obtain ⟨h109, eh109⟩ : ∃ h109 : Hp, h109 = sI h105 75 1 ((hI h105 75 1) + x1) := ⟨_, rfl⟩
      replace hm := hm h109 eh109
      exact wc_aload_n (pc := 43) (dAt dtX4_quarters 23 rfl) rfl (wc_dup (pc := 44) (dAt dtX4_quarters 24 rfl) rfl (wc_getKI hg (pc := 45) (dAt dtX4_quarters 25 rfl) flX4_81_4 rfl ka75 (wc_iload_n (pc := 48) (dAt dtX4_quarters 26 rfl) rfl (wc_iadd (pc := 49) (dAt dtX4_quarters 27 rfl) o108 (wc_putKI hg (pc := 50) (dAt dtX4_quarters 28 rfl) flX4_81_4 (Or.inl rfl) rfl ka75 (by decide) (okI_int _) (wc_hp eh109 (wc_aload_n (pc := 53) (dAt dtX4_quarters 29 rfl) rfl (wc_getKI hg (pc := 54) (dAt dtX4_quarters 30 rfl) flX4_81_4 rfl ka75 (wc_iret (pc := 57) (dAt dtX4_quarters 31 rfl) rfl (nar_int _) hm)))))))))
    · replace hm := ite_t c107 hm
      exact wc_iconst (pc := 41) (dAt dtX4_quarters 21 rfl) ⟨by decide, by decide⟩ (wc_iret (pc := 42) (dAt dtX4_quarters 22 rfl) rfl (nar_int _) hm)
  have p111 := o103
  have k112 : (¬ (x1 < 0) ∧ (¬ (2687 < x1) ∧ (¬ ((2687 - (hI h101 75 1)) < x1)))) → Wc G tX4_quarters (d + 1) h Q 29 [some (vR 75), some (vI x1)] [vR 75] h101 := fun c114 => by
    have z115 := kj110
    rw [show v104 = 1 from ev104.trans (b2i_t c114)] at z115
    exact wc_iconst (pc := 29) (dAt dtX4_quarters 15 rfl) ⟨by decide, by decide⟩ (wc_goto (pc := 30) (tgt := 34) (dAt dtX4_quarters 16 rfl) (by decide) (z115))
  have k113 : ¬ (¬ (x1 < 0) ∧ (¬ (2687 < x1) ∧ (¬ ((2687 - (hI h101 75 1)) < x1)))) → Wc G tX4_quarters (d + 1) h Q 33 [some (vR 75), some (vI x1)] [vR 75] h101 := fun c114 => by
    have z117 := kj110
    rw [show v104 = 0 from ev104.trans (b2i_f c114)] at z117
    exact wc_iconst (pc := 33) (dAt dtX4_quarters 17 rfl) ⟨by decide, by decide⟩ (z117)
  exact wc_if_lt (pc := 7) (tgt := 33) (dAt dtX4_quarters 5 rfl) (by decide) (fun c119 => (k113 (fun z => z.1 c119))) (fun c119 => wc_iload_n (pc := 10) (dAt dtX4_quarters 6 rfl) rfl (wc_sipush (pc := 11) (dAt dtX4_quarters 7 rfl) ⟨by decide, by decide, by decide⟩ (wc_icmp_gt (pc := 14) (tgt := 33) (dAt dtX4_quarters 8 rfl) (by decide) (fun c120 => (k113 (fun z => (fun z => z.1 c120) z.2))) (fun c120 => wc_iload_n (pc := 17) (dAt dtX4_quarters 9 rfl) rfl (wc_sipush (pc := 18) (dAt dtX4_quarters 10 rfl) ⟨by decide, by decide, by decide⟩ (wc_aload_n (pc := 21) (dAt dtX4_quarters 11 rfl) rfl (wc_getKI hg (pc := 22) (dAt dtX4_quarters 12 rfl) flX4_81_4 rfl ka75 (wc_isub (pc := 25) (dAt dtX4_quarters 13 rfl) ((p111 c119) c120) (wc_icmp_gt (pc := 26) (tgt := 33) (dAt dtX4_quarters 14 rfl) (by decide) (fun c121 => (k113 (fun z => (fun z => (fun z => z c121) z.2) z.2))) (fun c121 => (k112 ⟨c119, ⟨c120, c121⟩⟩)))))))))))
def tX18_init : Mt := (⟨"FlyingDoctors$Told", "<init>", "(IIII)V"⟩, prog_20_method_1_code, 5, (Option.none : Option Jvm.ClassFile.FieldType), [])
def DX18_init : List (Nat × Instr × Nat) := [(0, .aload_n 0, 1), (1, .invokespecial 1, 3), (4, .aload_n 0, 1), (5, .iload_n 1, 1), (6, .putfield 7, 3), (9, .aload_n 0, 1), (10, .iload_n 2, 1), (11, .putfield 13, 3), (14, .aload_n 0, 1), (15, .iload_n 3, 1), (16, .putfield 16, 3), (19, .aload_n 0, 1), (20, .iload 4, 2), (22, .putfield 19, 3), (25, .return_, 1)]
theorem dtX18_init : chkD (mB tX18_init) DX18_init = true := by decide +kernel
theorem moX18_init : MethOk tX18_init 4 := ⟨Or.inl ⟨rfl, q1506⟩, by decide +kernel, ⟨by decide, by decide⟩, by decide +kernel⟩
def mX18_init (r0 : Nat) (x1 : Int) (x2 : Int) (x3 : Int) (x4 : Int) (h : Hp) (Q : Rs → Hp → Prop) : Prop := 50 ≤ r0 ∧ ob h r0 18 ∧ ∀ h103 : Hp, h103 = sI h r0 0 x1 → ∀ h104 : Hp, h104 = sI h103 r0 1 x2 → ∀ h105 : Hp, h105 = sI h104 r0 2 x3 → ∀ h106 : Hp, h106 = sI h105 r0 3 x4 → Q rN h106
theorem wX18_init {G : Gx} (hg : gF G = true) {d : Nat} {r0 : Nat} {x1 : Int} {x2 : Int} {x3 : Int} {x4 : Int} {h : Hp} {Q : Rs → Hp → Prop} (hm : mX18_init r0 x1 x2 x3 x4 h Q) : Ct G tX18_init (d + 1) [vR r0, vI x1, vI x2, vI x3, vI x4] h Q := by
  refine ct_enter (L0 := [some (vR r0), some (vI x1), some (vI x2), some (vI x3), some (vI x4)]) rfl rfl ?_
  unfold mX18_init at hm
  obtain ⟨o101, o102, hm⟩ := hm
  obtain ⟨h103, eh103⟩ : ∃ h103 : Hp, h103 = sI h r0 0 x1 := ⟨_, rfl⟩
  replace hm := hm h103 eh103
  obtain ⟨h104, eh104⟩ : ∃ h104 : Hp, h104 = sI h103 r0 1 x2 := ⟨_, rfl⟩
  replace hm := hm h104 eh104
  obtain ⟨h105, eh105⟩ : ∃ h105 : Hp, h105 = sI h104 r0 2 x3 := ⟨_, rfl⟩
  replace hm := hm h105 eh105
  obtain ⟨h106, eh106⟩ : ∃ h106 : Hp, h106 = sI h105 r0 3 x4 := ⟨_, rfl⟩
  replace hm := hm h106 eh106
  exact wc_aload_n (pc := 0) (dAt dtX18_init 0 rfl) rfl (wc_obj (pc := 1) (dAt dtX18_init 1 rfl) q1507 q180 q181 o101 (Nat.le_of_ble_eq_true rfl) (wc_aload_n (pc := 4) (dAt dtX18_init 2 rfl) rfl (wc_iload_n (pc := 5) (dAt dtX18_init 3 rfl) rfl (wc_putI (pc := 6) (dAt dtX18_init 4 rfl) flX18_7_18 (Or.inr ⟨rfl, rfl, rfl⟩) rfl o102 o101 (okI_int _) (wc_hp eh103 (wc_aload_n (pc := 9) (dAt dtX18_init 5 rfl) rfl (wc_iload_n (pc := 10) (dAt dtX18_init 6 rfl) rfl (wc_putI (pc := 11) (dAt dtX18_init 7 rfl) flX18_13_18 (Or.inr ⟨rfl, rfl, rfl⟩) rfl (ob_sI eh103 o102) o101 (okI_int _) (wc_hp eh104 (wc_aload_n (pc := 14) (dAt dtX18_init 8 rfl) rfl (wc_iload_n (pc := 15) (dAt dtX18_init 9 rfl) rfl (wc_putI (pc := 16) (dAt dtX18_init 10 rfl) flX18_16_18 (Or.inr ⟨rfl, rfl, rfl⟩) rfl (ob_sI eh104 (ob_sI eh103 o102)) o101 (okI_int _) (wc_hp eh105 (wc_aload_n (pc := 19) (dAt dtX18_init 11 rfl) rfl (wc_iload (pc := 20) (dAt dtX18_init 12 rfl) rfl (wc_putI (pc := 22) (dAt dtX18_init 13 rfl) flX18_19_18 (Or.inr ⟨rfl, rfl, rfl⟩) rfl (ob_sI eh105 (ob_sI eh104 (ob_sI eh103 o102))) o101 (okI_int _) (wc_hp eh106 (wc_vret (pc := 25) (dAt dtX18_init 14 rfl) rfl hm))))))))))))))))))
def tX1_rain : Mt := (⟨"FlyingDoctors", "rain", "(III)Z"⟩, prog_1_method_33_code, 4, (Option.some Jvm.ClassFile.FieldType.boolean), [])
def DX1_rain : List (Nat × Instr × Nat) := [(0, .aload_n 0, 1), (1, .iload_n 1, 1), (2, .invokevirtual 334, 3), (5, .pop, 1), (6, .iload_n 2, 1), (7, .iconst 0, 1), (8, .bipush 30, 2), (10, .invokestatic 314, 3), (13, .ifCond .eq 28, 3), (16, .iload_n 3, 1), (17, .iconst 0, 1), (18, .bipush 99, 2), (20, .invokestatic 314, 3), (23, .ifCond .eq 18, 3), (26, .aload_n 0, 1), (27, .getfield 81, 3), (30, .invokeinterface 16 1, 5), (35, .sipush 150, 3), (38, .if_icmp .ne 5, 3), (41, .iconst 0, 1), (42, .ireturn, 1), (43, .aload_n 0, 1), (44, .getfield 81, 3), (47, .new 69, 3), (50, .dup, 1), (51, .iload_n 1, 1), (52, .iload_n 2, 1), (53, .iload_n 3, 1), (54, .aload_n 0, 1), (55, .getfield 173, 3), (58, .invokespecial 368, 3), (61, .invokeinterface 262 2, 5), (66, .pop, 1), (67, .iconst 1, 1), (68, .ireturn, 1)]
theorem dtX1_rain : chkD (mB tX1_rain) DX1_rain = true := by decide +kernel
theorem moX1_rain : MethOk tX1_rain 3 := ⟨Or.inl ⟨rfl, q1501⟩, by decide +kernel, ⟨by decide, by decide⟩, by decide +kernel⟩
def mX1_rain (x1 : Int) (x2 : Int) (x3 : Int) (h : Hp) (Q : Rs → Hp → Prop) : Prop := mX1_placeAt x1 h (kR Q (fun r102 h101 => ((¬ ((vX1_in x2 0 30 h101) = 0) → (¬ ((vX1_in x3 0 99 h101) = 0) → oJ2_size 59 h101))) ∧ if ((vX1_in x2 0 30 h101) = 0) ∨ (((vX1_in x3 0 99 h101) = 0) ∨ (¬ ((vJ2_size 59 h101) ≠ 150))) then Q (rV (vI 0)) h101 else hn h101 + 1 ≤ 878547 ∧ hq h101 + 4 ≤ 6460613 ∧ ∀ r109 : Nat, r109 = hn h101 → ∀ h110 : Hp, h110 = nw h101 18 0 4 → mX18_init r109 x1 x2 x3 (hI h110 50 20) h110 (kN Q (fun h111 => mJ2_add 59 r109 h111 (kI Q (fun x113 h112 => Q (rV (vI 1)) h112))))))
theorem wX1_rain {G : Gx} (hg : gF G = true) {d : Nat} {x1 : Int} {x2 : Int} {x3 : Int} {h : Hp} {Q : Rs → Hp → Prop} (hm : mX1_rain x1 x2 x3 h Q) : Ct G tX1_rain (d + 10) [vR 50, vI x1, vI x2, vI x3] h Q := by
  refine ct_enter (L0 := [some (vR 50), some (vI x1), some (vI x2), some (vI x3)]) rfl rfl ?_
  unfold mX1_rain at hm
  refine wc_aload_n (pc := 0) (dAt dtX1_rain 0 rfl) rfl (wc_iload_n (pc := 1) (dAt dtX1_rain 1 rfl) rfl (wc_kf hg fun zk => wc_callV (k := 1) (y' := tX1_placeAt) (av := [vI x1]) (st := []) (pc := 2) (dAt dtX1_rain 2 rfl) lkX1_334 moX1_placeAt q684 qs5 (by decide) (zk.2 _ ka50).1 rfl rfl (Nat.le_of_ble_eq_true rfl) (wX1_placeAt hg hm) (kr_R (fun r102 h101 hm => ?_)) (kx_R rfl)))
  obtain ⟨o104, hm⟩ := hm
  refine wc_pop (pc := 5) (dAt dtX1_rain 3 rfl) rfl (wc_iload_n (pc := 6) (dAt dtX1_rain 4 rfl) rfl (wc_iconst (pc := 7) (dAt dtX1_rain 5 rfl) ⟨by decide, by decide⟩ (wc_bipush (pc := 8) (dAt dtX1_rain 6 rfl) ⟨by decide, by decide, by decide⟩ (wc_callS (y' := tX1_in) (P := eI (vX1_in x2 0 30 h101) h101) (pc := 10) (dAt dtX1_rain 7 rfl) lkX1_314 moX1_in q374 q128 rfl rfl (Nat.le_of_ble_eq_true rfl) (wX1_in hg ⟨rfl, rfl⟩) (ep_I (?_)) ex_I))))
  have k114 : (((vX1_in x2 0 30 h101) = 0) ∨ (((vX1_in x3 0 99 h101) = 0) ∨ (¬ ((vJ2_size 59 h101) ≠ 150)))) → Wc G tX1_rain (d + 10) h Q 41 [some (vR 50), some (vI x1), some (vI x2), some (vI x3)] [] h101 := fun c105 => by
    replace hm := ite_t c105 hm
    exact wc_iconst (pc := 41) (dAt dtX1_rain 19 rfl) ⟨by decide, by decide⟩ (wc_iret (pc := 42) (dAt dtX1_rain 20 rfl) rfl (nar_bool (Or.inl rfl)) hm)
  have k115 : ¬ (((vX1_in x2 0 30 h101) = 0) ∨ (((vX1_in x3 0 99 h101) = 0) ∨ (¬ ((vJ2_size 59 h101) ≠ 150)))) → Wc G tX1_rain (d + 10) h Q 43 [some (vR 50), some (vI x1), some (vI x2), some (vI x3)] [] h101 := fun c105 => by
    replace hm := ite_f c105 hm
    obtain ⟨o106, o107, hm⟩ := hm
    obtain ⟨r109, er109⟩ : ∃ r109 : Nat, r109 = hn h101 := ⟨_, rfl⟩
    replace hm := hm r109 er109
    obtain ⟨h110, eh110⟩ : ∃ h110 : Hp, h110 = nw h101 18 0 4 := ⟨_, rfl⟩
    replace hm := hm h110 eh110
    refine wc_aload_n (pc := 43) (dAt dtX1_rain 21 rfl) rfl (wc_getKR hg (pc := 44) (dAt dtX1_rain 22 rfl) flX1_81_1 rfl ka50 kf50_9 (wc_k0 fun n108 => (wc_new (k := 18) (pc := 47) (dAt dtX1_rain 23 rfl) q1502 q1503 q167 (by decide) o106 o107 (wc_hp eh110 (wc_vr er109 (wc_dup (pc := 50) (dAt dtX1_rain 24 rfl) rfl (wc_iload_n (pc := 51) (dAt dtX1_rain 25 rfl) rfl (wc_iload_n (pc := 52) (dAt dtX1_rain 26 rfl) rfl (wc_iload_n (pc := 53) (dAt dtX1_rain 27 rfl) rfl (wc_aload_n (pc := 54) (dAt dtX1_rain 28 rfl) rfl (wc_getKI hg (pc := 55) (dAt dtX1_rain 29 rfl) flX1_173_1 rfl ka50 (wc_callI (y' := tX18_init) (av := [vI x1, vI x2, vI x3, vI (hI h110 50 20)]) (st := [vR r109, vR 59]) (pc := 58) (dAt dtX1_rain 30 rfl) lkX1_368 moX18_init q1505 rfl q1506 (k0_at er109 n108) rfl rfl (Nat.le_of_ble_eq_true rfl) (wX18_init hg hm) (kr_N (fun h111 hm => ?_)) (kx_N rfl)))))))))))))
    refine wc_kf hg fun zk => (wc_callF (k := 32) (x := ⟨"java/util/List", "add", "(Ljava/lang/Object;)Z"⟩) (y' := tJ2_add) (av := [vR r109]) (st := []) (pc := 61) (dAt dtX1_rain 31 rfl) q422 q424 q423 ⟨by decide, by decide⟩ moJ2_add rfl q427 q428 q426 q367 q425 (by decide) (zk.2 _ ka59).1 rfl rfl (Nat.le_of_ble_eq_true rfl) (wJ2_add hg hm) (kr_I (fun x113 h112 hm => ?_)) (kx_I rfl))
    exact wc_pop (pc := 66) (dAt dtX1_rain 32 rfl) rfl (wc_iconst (pc := 67) (dAt dtX1_rain 33 rfl) ⟨by decide, by decide⟩ (wc_iret (pc := 68) (dAt dtX1_rain 34 rfl) rfl (nar_bool (Or.inr rfl)) hm))
  exact wc_if_eq (pc := 13) (tgt := 41) (dAt dtX1_rain 8 rfl) (by decide) (fun c116 => (k114 (Or.inl c116))) (fun c116 => wc_iload_n (pc := 16) (dAt dtX1_rain 9 rfl) rfl (wc_iconst (pc := 17) (dAt dtX1_rain 10 rfl) ⟨by decide, by decide⟩ (wc_bipush (pc := 18) (dAt dtX1_rain 11 rfl) ⟨by decide, by decide, by decide⟩ (wc_callS (y' := tX1_in) (P := eI (vX1_in x3 0 99 h101) h101) (pc := 20) (dAt dtX1_rain 12 rfl) lkX1_314 moX1_in q374 q128 rfl rfl (Nat.le_of_ble_eq_true rfl) (wX1_in hg ⟨rfl, rfl⟩) (ep_I (wc_if_eq (pc := 23) (tgt := 41) (dAt dtX1_rain 13 rfl) (by decide) (fun c117 => (k114 (Or.inr (Or.inl c117)))) (fun c117 => wc_aload_n (pc := 26) (dAt dtX1_rain 14 rfl) rfl (wc_getKR hg (pc := 27) (dAt dtX1_rain 15 rfl) flX1_81_1 rfl ka50 kf50_9 (wc_kf hg fun zk => (wc_callF (k := 32) (x := ⟨"java/util/List", "size", "()I"⟩) (y' := tJ2_size) (P := eI (vJ2_size 59 h101) h101) (pc := 30) (dAt dtX1_rain 16 rfl) q364 q366 q365 ⟨by decide, by decide⟩ moJ2_size rfl q370 q371 q369 q367 q368 (by decide) (zk.2 _ ka59).1 rfl rfl (Nat.le_of_ble_eq_true rfl) (wJ2_size hg ((o104 c116) c117) ⟨rfl, rfl⟩) (ep_I (wc_sipush (pc := 35) (dAt dtX1_rain 17 rfl) ⟨by decide, by decide, by decide⟩ (wc_icmp_ne (pc := 38) (tgt := 43) (dAt dtX1_rain 18 rfl) (by decide) (fun c118 => (k115 (fun z => z.elim c116 (fun z => z.elim c117 (fun z => z c118))))) (fun c118 => (k114 (Or.inr (Or.inr c118))))))) ex_I)))))) ex_I))))
def tX0_rain : Mt := (⟨"FlyingDoctorsLaw", "rain", "(LFlyingDoctors;III[J)I"⟩, method_7_code, 6, (Option.some Jvm.ClassFile.FieldType.int), [((0 : Nat), (19 : Nat), (22 : Nat), (13 : Nat))])
def DX0_rain : List (Nat × Instr × Nat) := [(0, .aload 4, 2), (2, .iconst 0, 1), (3, .aload_n 0, 1), (4, .iload_n 1, 1), (5, .iload_n 2, 1), (6, .iload_n 3, 1), (7, .invokevirtual 27, 3), (10, .ifCond .eq 7, 3), (13, .lconst 1, 1), (14, .goto 4, 3), (17, .lconst 0, 1), (18, .lastore, 1), (19, .goto 7, 3), (22, .astore 5, 2), (24, .iconst 1, 1), (25, .ireturn, 1), (26, .iconst 0, 1), (27, .ireturn, 1)]
theorem dtX0_rain : chkD (mB tX0_rain) DX0_rain = true := by decide +kernel
theorem moX0_rain : MethOk tX0_rain 5 := ⟨Or.inr q1497, by decide +kernel, ⟨by decide, by decide⟩, by decide +kernel⟩
def mX0_rain (x1 : Int) (x2 : Int) (x3 : Int) (h : Hp) (Q : Rs → Hp → Prop) : Prop := mX1_rain x1 x2 x3 h (kIx (fun a103 h104 => ob h104 a103 41 ∧ (Q (rV (vI 1)) h104)) (fun x102 h101 => ∀ l106 : Int, l106 = (b2i (¬ (x102 = 0))) → ∀ h107 : Hp, h107 = sL h101 158 0 l106 → Q (rV (vI 0)) h107))
theorem wX0_rain {G : Gx} (hg : gF G = true) {d : Nat} {x1 : Int} {x2 : Int} {x3 : Int} {h : Hp} {Q : Rs → Hp → Prop} (hm : mX0_rain x1 x2 x3 h Q) : Ct G tX0_rain (d + 11) [vR 50, vI x1, vI x2, vI x3, vR 158] h Q := by
  refine ct_enter (L0 := [some (vR 50), some (vI x1), some (vI x2), some (vI x3), some (vR 158), none]) rfl rfl ?_
  unfold mX0_rain at hm
  refine wc_aload (pc := 0) (dAt dtX0_rain 0 rfl) rfl (wc_iconst (pc := 2) (dAt dtX0_rain 1 rfl) ⟨by decide, by decide⟩ (wc_aload_n (pc := 3) (dAt dtX0_rain 2 rfl) rfl (wc_iload_n (pc := 4) (dAt dtX0_rain 3 rfl) rfl (wc_iload_n (pc := 5) (dAt dtX0_rain 4 rfl) rfl (wc_iload_n (pc := 6) (dAt dtX0_rain 5 rfl) rfl (wc_kf hg fun zk => wc_callV (k := 1) (y' := tX1_rain) (av := [vI x1, vI x2, vI x3]) (st := [vI 0, vR 158]) (pc := 7) (dAt dtX0_rain 6 rfl) lkX0_27 moX1_rain q1499 q1500 (by decide) (zk.2 _ ka50).1 rfl rfl (Nat.le_of_ble_eq_true rfl) (wX1_rain hg hm) (krx_I (fun x102 h101 hm => ?_)) (kxx_I (fun a103 h104 hm => ?_))))))))
  · obtain ⟨l106, el106⟩ : ∃ l106 : Int, l106 = (b2i (¬ (x102 = 0))) := ⟨_, rfl⟩
    replace hm := hm l106 el106
    have kj108 : Wc G tX0_rain (d + 11) h Q 18 [none, none, none, none, none, none] [vL l106, vI 0, vR 158] h101 := by
      obtain ⟨h107, eh107⟩ : ∃ h107 : Hp, h107 = sL h101 158 0 l106 := ⟨_, rfl⟩
      replace hm := hm h107 eh107
      exact wc_lastK hg (pc := 18) (dAt dtX0_rain 11 rfl) kr158 (by decide) (by decide) (by decide) (wc_hp eh107 (wc_goto (pc := 19) (tgt := 26) (dAt dtX0_rain 12 rfl) (by decide) (wc_iconst (pc := 26) (dAt dtX0_rain 16 rfl) ⟨by decide, by decide⟩ (wc_iret (pc := 27) (dAt dtX0_rain 17 rfl) rfl (nar_int _) hm))))
    have k109 : (¬ (x102 = 0)) → Wc G tX0_rain (d + 11) h Q 13 [some (vR 50), some (vI x1), some (vI x2), some (vI x3), some (vR 158), none] [vI 0, vR 158] h101 := fun c111 => by
      have z112 := kj108
      rw [show l106 = 1 from el106.trans (b2i_t c111)] at z112
      exact wc_lconst (v := 1) (pc := 13) (dAt dtX0_rain 8 rfl) ⟨by decide, by decide, by decide⟩ (wc_goto (pc := 14) (tgt := 18) (dAt dtX0_rain 9 rfl) (by decide) (wc_drp [0, 1, 2, 3, 4] rfl (z112)))
    have k110 : ¬ (¬ (x102 = 0)) → Wc G tX0_rain (d + 11) h Q 17 [some (vR 50), some (vI x1), some (vI x2), some (vI x3), some (vR 158), none] [vI 0, vR 158] h101 := fun c111 => by
      have z114 := kj108
      rw [show l106 = 0 from el106.trans (b2i_f c111)] at z114
      exact wc_lconst (v := 0) (pc := 17) (dAt dtX0_rain 10 rfl) ⟨by decide, by decide, by decide⟩ (wc_drp [0, 1, 2, 3, 4] rfl (z114))
    exact wc_if_eq (pc := 10) (tgt := 17) (dAt dtX0_rain 7 rfl) (by decide) (fun c116 => (k110 (fun z => z c116))) (fun c116 => (k109 c116))
  · obtain ⟨o105, hm⟩ := hm
    refine wx_hit rfl rfl (by decide) q676 (by decide) o105 rfl ?_
    exact wc_astore (pc := 22) (dAt dtX0_rain 13 rfl) (by decide) (wc_L (L' := [some (vR 50), some (vI x1), some (vI x2), some (vI x3), some (vR 158), some (vR a103)]) rfl (wc_iconst (pc := 24) (dAt dtX0_rain 14 rfl) ⟨by decide, by decide⟩ (wc_iret (pc := 25) (dAt dtX0_rain 15 rfl) rfl (nar_int _) hm)))
def tX4_isDay : Mt := (⟨"FlyingDoctorsModel", "isDay", "(I)Z"⟩, prog_24_method_51_code, 1, (Option.some Jvm.ClassFile.FieldType.boolean), [])
def DX4_isDay : List (Nat × Instr × Nat) := [(0, .iload_n 0, 1), (1, .ifCond .lt 13, 3), (4, .iload_n 0, 1), (5, .bipush 30, 2), (7, .if_icmp .gt 7, 3), (10, .iconst 1, 1), (11, .goto 4, 3), (14, .iconst 0, 1), (15, .ireturn, 1)]
theorem dtX4_isDay : chkD (mB tX4_isDay) DX4_isDay = true := by decide +kernel
theorem moX4_isDay : MethOk tX4_isDay 1 := ⟨Or.inl ⟨rfl, q2644⟩, by decide +kernel, ⟨by decide, by decide⟩, by decide +kernel⟩
def vX4_isDay (x0 : Int) (h : Hp) : Int := (b2i (¬ (x0 < 0) ∧ (¬ (30 < x0))))
theorem wX4_isDay {G : Gx} (hg : gF G = true) {d : Nat} {x0 : Int} {h : Hp} {Q : Rs → Hp → Prop} (hq : Q (rV (vI (vX4_isDay x0 h))) h) : Ct G tX4_isDay (d + 0) [vI x0] h Q := by
  refine ct_enter (L0 := [some (vI x0)]) rfl rfl ?_
  have k101 : (¬ (x0 < 0) ∧ (¬ (30 < x0))) → Wc G tX4_isDay (d + 0) h Q 10 [some (vI x0)] [] h := fun c103 => by
    have z : Q (rV (vI 1)) h := by
      rw [show (vX4_isDay x0 h) = 1 from (b2i_t c103)] at hq
      exact hq
    exact wc_iconst (pc := 10) (dAt dtX4_isDay 5 rfl) ⟨by decide, by decide⟩ (wc_goto (pc := 11) (tgt := 15) (dAt dtX4_isDay 6 rfl) (by decide) (wc_iret (pc := 15) (dAt dtX4_isDay 8 rfl) rfl (nar_bool (Or.inr rfl)) z))
  have k102 : ¬ (¬ (x0 < 0) ∧ (¬ (30 < x0))) → Wc G tX4_isDay (d + 0) h Q 14 [some (vI x0)] [] h := fun c103 => by
    have z : Q (rV (vI 0)) h := by
      rw [show (vX4_isDay x0 h) = 0 from (b2i_f c103)] at hq
      exact hq
    exact wc_iconst (pc := 14) (dAt dtX4_isDay 7 rfl) ⟨by decide, by decide⟩ (wc_iret (pc := 15) (dAt dtX4_isDay 8 rfl) rfl (nar_bool (Or.inl rfl)) z)
  exact wc_iload_n (pc := 0) (dAt dtX4_isDay 0 rfl) rfl (wc_if_lt (pc := 1) (tgt := 14) (dAt dtX4_isDay 1 rfl) (by decide) (fun c104 => (k102 (fun z => z.1 c104))) (fun c104 => wc_iload_n (pc := 4) (dAt dtX4_isDay 2 rfl) rfl (wc_bipush (pc := 5) (dAt dtX4_isDay 3 rfl) ⟨by decide, by decide, by decide⟩ (wc_icmp_gt (pc := 7) (tgt := 14) (dAt dtX4_isDay 4 rfl) (by decide) (fun c105 => (k102 (fun z => (fun z => z c105) z.2))) (fun c105 => (k101 ⟨c104, c105⟩))))))
theorem bX4_isDay (x0 : Int) (h : Hp) : (vX4_isDay x0 h) = 0 ∨ (vX4_isDay x0 h) = 1 := (bool_b2i _)
def tX4_rain : Mt := (⟨"FlyingDoctorsModel", "rain", "(III)Z"⟩, prog_24_method_52_code, 4, (Option.some Jvm.ClassFile.FieldType.boolean), [])
def DX4_rain : List (Nat × Instr × Nat) := [(0, .aload_n 0, 1), (1, .iload_n 1, 1), (2, .invokevirtual 75, 3), (5, .ifCond .eq 30, 3), (8, .aload_n 0, 1), (9, .getfield 448, 3), (12, .sipush 150, 3), (15, .if_icmp .eq 20, 3), (18, .iload_n 2, 1), (19, .invokestatic 451, 3), (22, .ifCond .eq 13, 3), (25, .iload_n 3, 1), (26, .ifCond .lt 9, 3), (29, .iload_n 3, 1), (30, .bipush 99, 2), (32, .if_icmp .le 5, 3), (35, .iconst 0, 1), (36, .ireturn, 1), (37, .aload_n 0, 1), (38, .getfield 196, 3), (41, .aload_n 0, 1), (42, .getfield 448, 3), (45, .iload_n 1, 1), (46, .iastore, 1), (47, .aload_n 0, 1), (48, .getfield 199, 3), (51, .aload_n 0, 1), (52, .getfield 448, 3), (55, .iload_n 2, 1), (56, .iastore, 1), (57, .aload_n 0, 1), (58, .getfield 202, 3), (61, .aload_n 0, 1), (62, .getfield 448, 3), (65, .iload_n 3, 1), (66, .iastore, 1), (67, .aload_n 0, 1), (68, .getfield 205, 3), (71, .aload_n 0, 1), (72, .getfield 448, 3), (75, .aload_n 0, 1), (76, .getfield 81, 3), (79, .iastore, 1), (80, .aload_n 0, 1), (81, .dup, 1), (82, .getfield 448, 3), (85, .iconst 1, 1), (86, .iadd, 1), (87, .putfield 448, 3), (90, .iconst 1, 1), (91, .ireturn, 1)]
theorem dtX4_rain : chkD (mB tX4_rain) DX4_rain = true := by decide +kernel
theorem moX4_rain : MethOk tX4_rain 3 := ⟨Or.inl ⟨rfl, q2641⟩, by decide +kernel, ⟨by decide, by decide⟩, by decide +kernel⟩
def mX4_rain (x1 : Int) (x2 : Int) (x3 : Int) (h : Hp) (Q : Rs → Hp → Prop) : Prop := mX4_isPlace x1 h (kI Q (fun x102 h101 => if (x102 = 0) ∨ (((hI h101 75 60) = 150) ∨ (((vX4_isDay x2 h101) = 0) ∨ ((x3 < 0) ∨ (¬ (x3 ≤ 99))))) then Q (rV (vI 0)) h101 else 0 ≤ (hI h101 75 60) ∧ (hI h101 75 60) < 150 ∧ ∀ h106 : Hp, h106 = sI h101 111 (Int.toNat (hI h101 75 60)) x1 → 0 ≤ (hI h106 75 60) ∧ (hI h106 75 60) < 150 ∧ ∀ h109 : Hp, h109 = sI h106 112 (Int.toNat (hI h106 75 60)) x2 → 0 ≤ (hI h109 75 60) ∧ (hI h109 75 60) < 150 ∧ ∀ h112 : Hp, h112 = sI h109 113 (Int.toNat (hI h109 75 60)) x3 → 0 ≤ (hI h112 75 60) ∧ (hI h112 75 60) < 150 ∧ ∀ h115 : Hp, h115 = sI h112 114 (Int.toNat (hI h112 75 60)) (hI h112 75 1) → nm ((hI h115 75 60) + 1) ∧ ∀ h117 : Hp, h117 = sI h115 75 60 ((hI h115 75 60) + 1) → Q (rV (vI 1)) h117))
theorem wX4_rain {G : Gx} (hg : gF G = true) {d : Nat} {x1 : Int} {x2 : Int} {x3 : Int} {h : Hp} {Q : Rs → Hp → Prop} (hm : mX4_rain x1 x2 x3 h Q) : Ct G tX4_rain (d + 2) [vR 75, vI x1, vI x2, vI x3] h Q := by
  refine ct_enter (L0 := [some (vR 75), some (vI x1), some (vI x2), some (vI x3)]) rfl rfl ?_
  unfold mX4_rain at hm
  refine wc_aload_n (pc := 0) (dAt dtX4_rain 0 rfl) rfl (wc_iload_n (pc := 1) (dAt dtX4_rain 1 rfl) rfl (wc_kf hg fun zk => wc_callV (k := 4) (y' := tX4_isPlace) (av := [vI x1]) (st := []) (pc := 2) (dAt dtX4_rain 2 rfl) lkX4_75 moX4_isPlace q2148 qs63 (by decide) (zk.2 _ ka75).1 rfl rfl (Nat.le_of_ble_eq_true rfl) (wX4_isPlace hg hm) (kr_I (fun x102 h101 hm => ?_)) (kx_I rfl)))
  have k118 : ((x102 = 0) ∨ (((hI h101 75 60) = 150) ∨ (((vX4_isDay x2 h101) = 0) ∨ ((x3 < 0) ∨ (¬ (x3 ≤ 99)))))) → Wc G tX4_rain (d + 2) h Q 35 [some (vR 75), some (vI x1), some (vI x2), some (vI x3)] [] h101 := fun c103 => by
    replace hm := ite_t c103 hm
    exact wc_iconst (pc := 35) (dAt dtX4_rain 16 rfl) ⟨by decide, by decide⟩ (wc_iret (pc := 36) (dAt dtX4_rain 17 rfl) rfl (nar_bool (Or.inl rfl)) hm)
  have k119 : ¬ ((x102 = 0) ∨ (((hI h101 75 60) = 150) ∨ (((vX4_isDay x2 h101) = 0) ∨ ((x3 < 0) ∨ (¬ (x3 ≤ 99)))))) → Wc G tX4_rain (d + 2) h Q 37 [some (vR 75), some (vI x1), some (vI x2), some (vI x3)] [] h101 := fun c103 => by
    replace hm := ite_f c103 hm
    obtain ⟨o104, o105, hm⟩ := hm
    obtain ⟨h106, eh106⟩ : ∃ h106 : Hp, h106 = sI h101 111 (Int.toNat (hI h101 75 60)) x1 := ⟨_, rfl⟩
    replace hm := hm h106 eh106
    obtain ⟨o107, o108, hm⟩ := hm
    obtain ⟨h109, eh109⟩ : ∃ h109 : Hp, h109 = sI h106 112 (Int.toNat (hI h106 75 60)) x2 := ⟨_, rfl⟩
    replace hm := hm h109 eh109
    obtain ⟨o110, o111, hm⟩ := hm
    obtain ⟨h112, eh112⟩ : ∃ h112 : Hp, h112 = sI h109 113 (Int.toNat (hI h109 75 60)) x3 := ⟨_, rfl⟩
    replace hm := hm h112 eh112
    obtain ⟨o113, o114, hm⟩ := hm
    obtain ⟨h115, eh115⟩ : ∃ h115 : Hp, h115 = sI h112 114 (Int.toNat (hI h112 75 60)) (hI h112 75 1) := ⟨_, rfl⟩
    replace hm := hm h115 eh115
    obtain ⟨o116, hm⟩ := hm
    obtain ⟨h117, eh117⟩ : ∃ h117 : Hp, h117 = sI h115 75 60 ((hI h115 75 60) + 1) := ⟨_, rfl⟩
    replace hm := hm h117 eh117
    exact wc_aload_n (pc := 37) (dAt dtX4_rain 18 rfl) rfl (wc_getKR hg (pc := 38) (dAt dtX4_rain 19 rfl) flX4_196_4 rfl ka75 kf75_61 (wc_aload_n (pc := 41) (dAt dtX4_rain 20 rfl) rfl (wc_getKI hg (pc := 42) (dAt dtX4_rain 21 rfl) flX4_448_4 rfl ka75 (wc_iload_n (pc := 45) (dAt dtX4_rain 22 rfl) rfl (wc_iastK hg (pc := 46) (dAt dtX4_rain 23 rfl) kr111 (by decide) o104 o105 (wc_hp eh106 (wc_aload_n (pc := 47) (dAt dtX4_rain 24 rfl) rfl (wc_getKR hg (pc := 48) (dAt dtX4_rain 25 rfl) flX4_199_4 rfl ka75 kf75_62 (wc_aload_n (pc := 51) (dAt dtX4_rain 26 rfl) rfl (wc_getKI hg (pc := 52) (dAt dtX4_rain 27 rfl) flX4_448_4 rfl ka75 (wc_iload_n (pc := 55) (dAt dtX4_rain 28 rfl) rfl (wc_iastK hg (pc := 56) (dAt dtX4_rain 29 rfl) kr112 (by decide) o107 o108 (wc_hp eh109 (wc_aload_n (pc := 57) (dAt dtX4_rain 30 rfl) rfl (wc_getKR hg (pc := 58) (dAt dtX4_rain 31 rfl) flX4_202_4 rfl ka75 kf75_63 (wc_aload_n (pc := 61) (dAt dtX4_rain 32 rfl) rfl (wc_getKI hg (pc := 62) (dAt dtX4_rain 33 rfl) flX4_448_4 rfl ka75 (wc_iload_n (pc := 65) (dAt dtX4_rain 34 rfl) rfl (wc_iastK hg (pc := 66) (dAt dtX4_rain 35 rfl) kr113 (by decide) o110 o111 (wc_hp eh112 (wc_aload_n (pc := 67) (dAt dtX4_rain 36 rfl) rfl (wc_getKR hg (pc := 68) (dAt dtX4_rain 37 rfl) flX4_205_4 rfl ka75 kf75_64 (wc_aload_n (pc := 71) (dAt dtX4_rain 38 rfl) rfl (wc_getKI hg (pc := 72) (dAt dtX4_rain 39 rfl) flX4_448_4 rfl ka75 (wc_aload_n (pc := 75) (dAt dtX4_rain 40 rfl) rfl (wc_getKI hg (pc := 76) (dAt dtX4_rain 41 rfl) flX4_81_4 rfl ka75 (wc_iastK hg (pc := 79) (dAt dtX4_rain 42 rfl) kr114 (by decide) o113 o114 (wc_hp eh115 (wc_aload_n (pc := 80) (dAt dtX4_rain 43 rfl) rfl (wc_dup (pc := 81) (dAt dtX4_rain 44 rfl) rfl (wc_getKI hg (pc := 82) (dAt dtX4_rain 45 rfl) flX4_448_4 rfl ka75 (wc_iconst (pc := 85) (dAt dtX4_rain 46 rfl) ⟨by decide, by decide⟩ (wc_iadd (pc := 86) (dAt dtX4_rain 47 rfl) o116 (wc_putKI hg (pc := 87) (dAt dtX4_rain 48 rfl) flX4_448_4 (Or.inl rfl) rfl ka75 (by decide) (okI_int _) (wc_hp eh117 (wc_iconst (pc := 90) (dAt dtX4_rain 49 rfl) ⟨by decide, by decide⟩ (wc_iret (pc := 91) (dAt dtX4_rain 50 rfl) rfl (nar_bool (Or.inr rfl)) hm)))))))))))))))))))))))))))))))))))))
  exact wc_if_eq (pc := 5) (tgt := 35) (dAt dtX4_rain 3 rfl) (by decide) (fun c120 => (k118 (Or.inl c120))) (fun c120 => wc_aload_n (pc := 8) (dAt dtX4_rain 4 rfl) rfl (wc_getKI hg (pc := 9) (dAt dtX4_rain 5 rfl) flX4_448_4 rfl ka75 (wc_sipush (pc := 12) (dAt dtX4_rain 6 rfl) ⟨by decide, by decide, by decide⟩ (wc_icmp_eq (pc := 15) (tgt := 35) (dAt dtX4_rain 7 rfl) (by decide) (fun c121 => (k118 (Or.inr (Or.inl c121)))) (fun c121 => wc_iload_n (pc := 18) (dAt dtX4_rain 8 rfl) rfl (wc_callS (y' := tX4_isDay) (P := eI (vX4_isDay x2 h101) h101) (pc := 19) (dAt dtX4_rain 9 rfl) lkX4_451 moX4_isDay q2643 q134 rfl rfl (Nat.le_of_ble_eq_true rfl) (wX4_isDay hg ⟨rfl, rfl⟩) (ep_I (wc_if_eq (pc := 22) (tgt := 35) (dAt dtX4_rain 10 rfl) (by decide) (fun c122 => (k118 (Or.inr (Or.inr (Or.inl c122))))) (fun c122 => wc_iload_n (pc := 25) (dAt dtX4_rain 11 rfl) rfl (wc_if_lt (pc := 26) (tgt := 35) (dAt dtX4_rain 12 rfl) (by decide) (fun c123 => (k118 (Or.inr (Or.inr (Or.inr (Or.inl c123)))))) (fun c123 => wc_iload_n (pc := 29) (dAt dtX4_rain 13 rfl) rfl (wc_bipush (pc := 30) (dAt dtX4_rain 14 rfl) ⟨by decide, by decide, by decide⟩ (wc_icmp_le (pc := 32) (tgt := 37) (dAt dtX4_rain 15 rfl) (by decide) (fun c124 => (k119 (fun z => z.elim c120 (fun z => z.elim c121 (fun z => z.elim c122 (fun z => z.elim c123 (fun z => z c124))))))) (fun c124 => (k118 (Or.inr (Or.inr (Or.inr (Or.inr c124))))))))))))) ex_I))))))
def tX1_latest : Mt := (⟨"FlyingDoctors", "latest", "(Ljava/util/List;III)I"⟩, prog_1_method_8_code, 7, (Option.some Jvm.ClassFile.FieldType.int), [])
def DX1_latest : List (Nat × Instr × Nat) := [(0, .iconst (-1), 1), (1, .istore 4, 2), (3, .iconst 0, 1), (4, .istore 5, 2), (6, .iload 5, 2), (8, .aload_n 0, 1), (9, .invokeinterface 16 1, 5), (14, .if_icmp .ge 56, 3), (17, .aload_n 0, 1), (18, .iload 5, 2), (20, .invokeinterface 22 2, 5), (25, .checkcast 69, 3), (28, .astore 6, 2), (30, .aload 6, 2), (32, .getfield 71, 3), (35, .iload_n 1, 1), (36, .if_icmp .ne 28, 3), (39, .aload 6, 2), (41, .getfield 74, 3), (44, .iload_n 2, 1), (45, .if_icmp .ne 19, 3), (48, .aload 6, 2), (50, .getfield 77, 3), (53, .iload_n 3, 1), (54, .if_icmp .gt 10, 3), (57, .aload 6, 2), (59, .getfield 78, 3), (62, .istore 4, 2), (64, .iinc 5 1, 3), (67, .goto (-61), 3), (70, .iload 4, 2), (72, .ireturn, 1)]
theorem dtX1_latest : chkD (mB tX1_latest) DX1_latest = true := by decide +kernel
theorem moX1_latest : MethOk tX1_latest 4 := ⟨Or.inl ⟨rfl, q1538⟩, by decide +kernel, ⟨by decide, by decide⟩, by decide +kernel⟩
def mX1_latest (r0 : Nat) (x1 : Int) (x2 : Int) (x3 : Int) (h : Hp) (Q : Rs → Hp → Prop) : Prop := wh2 (fun (C103 : Int → Int → Prop) (x101 : Int) (x102 : Int) => oJ2_size r0 h ∧ ob h r0 32 ∧ if ¬ ((vJ2_size r0 h) ≤ x102) then oJ2_get r0 x102 h ∧ ob h (vJ2_get r0 x102 h) 18 ∧ ∀ r110 : Nat, r110 = (vJ2_get r0 x102 h) → ob h r110 18 ∧ ∀ v112 : Int, v112 = (if ¬ ((hI h r110 0) ≠ x1) ∧ (¬ ((hI h r110 1) ≠ x2) ∧ (¬ (x3 < (hI h r110 3)))) then (hI h r110 2) else x101) → nm (x102 + 1) ∧ ∀ i114 : Int, i114 = (x102 + 1) → C103 v112 i114 else Q (rV (vI x101)) h) (-1) 0
theorem wX1_latest {G : Gx} (hg : gF G = true) {d : Nat} {r0 : Nat} {x1 : Int} {x2 : Int} {x3 : Int} {h : Hp} {Q : Rs → Hp → Prop} (hm : mX1_latest r0 x1 x2 x3 h Q) : Ct G tX1_latest (d + 3) [vR r0, vI x1, vI x2, vI x3] h Q := by
  refine ct_enter (L0 := [some (vR r0), some (vI x1), some (vI x2), some (vI x3), none, none, none]) rfl rfl ?_
  unfold mX1_latest at hm
  refine wc_iconst (pc := 0) (dAt dtX1_latest 0 rfl) ⟨by decide, by decide⟩ (wc_istore (pc := 1) (dAt dtX1_latest 1 rfl) (by decide) (wc_L (L' := [some (vR r0), some (vI x1), some (vI x2), some (vI x3), some (vI (-1)), none, none]) rfl (wc_iconst (pc := 3) (dAt dtX1_latest 2 rfl) ⟨by decide, by decide⟩ (wc_istore (pc := 4) (dAt dtX1_latest 3 rfl) (by decide) (wc_L (L' := [some (vR r0), some (vI x1), some (vI x2), some (vI x3), some (vI (-1)), some (vI 0), none]) rfl (?_))))))
  refine wh2_ind (P := fun (x101 : Int) (x102 : Int) => Wc G tX1_latest (d + 3) h Q 6 [some (vR r0), some (vI x1), some (vI x2), some (vI x3), some (vI x101), some (vI x102), none] [] h) (fun C103 ih104 x101 x102 hm => ?_) hm
  obtain ⟨o105, o106, hm⟩ := hm
  refine wc_iload (pc := 6) (dAt dtX1_latest 4 rfl) rfl (wc_aload_n (pc := 8) (dAt dtX1_latest 5 rfl) rfl (wc_callF (k := 32) (x := ⟨"java/util/List", "size", "()I"⟩) (y' := tJ2_size) (P := eI (vJ2_size r0 h) h) (pc := 9) (dAt dtX1_latest 6 rfl) q364 q366 q365 ⟨by decide, by decide⟩ moJ2_size rfl q370 q371 q369 q367 q368 (by decide) o106 rfl rfl (Nat.le_of_ble_eq_true rfl) (wJ2_size hg o105 ⟨rfl, rfl⟩) (ep_I (wc_icmp_ge (pc := 14) (tgt := 70) (dAt dtX1_latest 7 rfl) (by decide) (fun c107 => ?_) (fun c107 => ?_))) ex_I))
  · replace hm := ite_f (fun z => z c107) hm
    exact wc_iload (pc := 70) (dAt dtX1_latest 30 rfl) rfl (wc_iret (pc := 72) (dAt dtX1_latest 31 rfl) rfl (nar_int _) hm)
  · replace hm := ite_t c107 hm
    obtain ⟨o108, o109, hm⟩ := hm
    obtain ⟨r110, er110⟩ : ∃ r110 : Nat, r110 = (vJ2_get r0 x102 h) := ⟨_, rfl⟩
    replace hm := hm r110 er110
    obtain ⟨o111, hm⟩ := hm
    obtain ⟨v112, ev112⟩ : ∃ v112 : Int, v112 = (if ¬ ((hI h r110 0) ≠ x1) ∧ (¬ ((hI h r110 1) ≠ x2) ∧ (¬ (x3 < (hI h r110 3)))) then (hI h r110 2) else x101) := ⟨_, rfl⟩
    replace hm := hm v112 ev112
    refine wc_aload_n (pc := 17) (dAt dtX1_latest 8 rfl) rfl (wc_iload (pc := 18) (dAt dtX1_latest 9 rfl) rfl (wc_callF (k := 32) (x := ⟨"java/util/List", "get", "(I)Ljava/lang/Object;"⟩) (y' := tJ2_get) (P := eR (vJ2_get r0 x102 h) h) (pc := 20) (dAt dtX1_latest 10 rfl) q506 q508 q507 ⟨by decide, by decide⟩ moJ2_get rfl q511 q512 q510 q367 q509 (by decide) o106 rfl rfl (Nat.le_of_ble_eq_true rfl) (wJ2_get hg o108 ⟨rfl, rfl⟩) (ep_R (wc_cast (pc := 25) (dAt dtX1_latest 11 rfl) q1502 (by decide) (Or.inl rfl) o109 (wc_vr er110 (wc_astore (pc := 28) (dAt dtX1_latest 12 rfl) (by decide) (wc_L (L' := [some (vR r0), some (vI x1), some (vI x2), some (vI x3), some (vI x101), some (vI x102), some (vR r110)]) rfl (wc_aload (pc := 30) (dAt dtX1_latest 13 rfl) rfl (wc_getI (pc := 32) (dAt dtX1_latest 14 rfl) flX1_71_18 rfl o111 (wc_iload_n (pc := 35) (dAt dtX1_latest 15 rfl) rfl (?_))))))))) ex_R))
    have kj115 : Wc G tX1_latest (d + 3) h Q 64 [some (vR r0), some (vI x1), some (vI x2), some (vI x3), some (vI v112), some (vI x102), none] [] h := by
      obtain ⟨o113, hm⟩ := hm
      obtain ⟨i114, ei114⟩ : ∃ i114 : Int, i114 = (x102 + 1) := ⟨_, rfl⟩
      replace hm := hm i114 ei114
      exact wc_iinc (v := i114) (pc := 64) (dAt dtX1_latest 28 rfl) rfl ei114 (ei114 ▸ o113) (by decide) (wc_L (L' := [some (vR r0), some (vI x1), some (vI x2), some (vI x3), some (vI v112), some (vI i114), none]) rfl (wc_goto (pc := 67) (tgt := 6) (dAt dtX1_latest 29 rfl) (by decide) (ih104 _ _ hm)))
    have k116 : (¬ ((hI h r110 0) ≠ x1) ∧ (¬ ((hI h r110 1) ≠ x2) ∧ (¬ (x3 < (hI h r110 3))))) → Wc G tX1_latest (d + 3) h Q 57 [some (vR r0), some (vI x1), some (vI x2), some (vI x3), some (vI x101), some (vI x102), some (vR r110)] [] h := fun c118 => by
      have z119 := kj115
      rw [show v112 = (hI h r110 2) from ev112.trans (if_pos c118)] at z119
      exact wc_aload (pc := 57) (dAt dtX1_latest 25 rfl) rfl (wc_getI (pc := 59) (dAt dtX1_latest 26 rfl) flX1_78_18 rfl o111 (wc_istore (pc := 62) (dAt dtX1_latest 27 rfl) (by decide) (wc_L (L' := [some (vR r0), some (vI x1), some (vI x2), some (vI x3), some (vI (hI h r110 2)), some (vI x102), some (vR r110)]) rfl (wc_drp [6] rfl (z119)))))
    have k117 : ¬ (¬ ((hI h r110 0) ≠ x1) ∧ (¬ ((hI h r110 1) ≠ x2) ∧ (¬ (x3 < (hI h r110 3))))) → Wc G tX1_latest (d + 3) h Q 64 [some (vR r0), some (vI x1), some (vI x2), some (vI x3), some (vI x101), some (vI x102), some (vR r110)] [] h := fun c118 => by
      have z121 := kj115
      rw [show v112 = x101 from ev112.trans (if_neg c118)] at z121
      exact wc_drp [6] rfl (z121)
    exact wc_icmp_ne (pc := 36) (tgt := 64) (dAt dtX1_latest 16 rfl) (by decide) (fun c123 => (k117 (fun z => z.1 c123))) (fun c123 => wc_aload (pc := 39) (dAt dtX1_latest 17 rfl) rfl (wc_getI (pc := 41) (dAt dtX1_latest 18 rfl) flX1_74_18 rfl o111 (wc_iload_n (pc := 44) (dAt dtX1_latest 19 rfl) rfl (wc_icmp_ne (pc := 45) (tgt := 64) (dAt dtX1_latest 20 rfl) (by decide) (fun c124 => (k117 (fun z => (fun z => z.1 c124) z.2))) (fun c124 => wc_aload (pc := 48) (dAt dtX1_latest 21 rfl) rfl (wc_getI (pc := 50) (dAt dtX1_latest 22 rfl) flX1_77_18 rfl o111 (wc_iload_n (pc := 53) (dAt dtX1_latest 23 rfl) rfl (wc_icmp_gt (pc := 54) (tgt := 64) (dAt dtX1_latest 24 rfl) (by decide) (fun c125 => (k117 (fun z => (fun z => (fun z => z c125) z.2) z.2))) (fun c125 => (k116 ⟨c123, ⟨c124, c125⟩⟩))))))))))
def tX1_wetOf : Mt := (⟨"FlyingDoctors", "wetOf", "(LFlyingDoctors$Place;II)I"⟩, prog_1_method_9_code, 6, (Option.some Jvm.ClassFile.FieldType.int), [])
def DX1_wetOf : List (Nat × Instr × Nat) := [(0, .iconst 0, 1), (1, .istore 4, 2), (3, .iconst 0, 1), (4, .istore 5, 2), (6, .iload 5, 2), (8, .iconst 3, 1), (9, .if_icmp .ge 55, 3), (12, .iload 4, 2), (14, .iload 5, 2), (16, .ifCond .ne 7, 3), (19, .iconst 4, 1), (20, .goto 14, 3), (23, .iload 5, 2), (25, .iconst 1, 1), (26, .if_icmp .ne 7, 3), (29, .iconst 2, 1), (30, .goto 4, 3), (33, .iconst 1, 1), (34, .iconst 0, 1), (35, .aload_n 0, 1), (36, .getfield 81, 3), (39, .aload_n 1, 1), (40, .getfield 84, 3), (43, .iload_n 2, 1), (44, .iload 5, 2), (46, .isub, 1), (47, .iload_n 3, 1), (48, .invokestatic 87, 3), (51, .invokestatic 91, 3), (54, .imul, 1), (55, .iadd, 1), (56, .istore 4, 2), (58, .iinc 5 1, 3), (61, .goto (-55), 3), (64, .iload 4, 2), (66, .ireturn, 1)]
theorem dtX1_wetOf : chkD (mB tX1_wetOf) DX1_wetOf = true := by decide +kernel
theorem moX1_wetOf : MethOk tX1_wetOf 3 := ⟨Or.inl ⟨rfl, q1535⟩, by decide +kernel, ⟨by decide, by decide⟩, by decide +kernel⟩
def mX1_wetOf (r1 : Nat) (x2 : Int) (x3 : Int) (h : Hp) (Q : Rs → Hp → Prop) : Prop := wh3 (fun (C104 : Int → Int → Hp → Prop) (x101 : Int) (x102 : Int) (h103 : Hp) => if ¬ (3 ≤ x102) then ∀ v107 : Int, v107 = (if ¬ (x102 ≠ 0) then 4 else (if ¬ (x102 ≠ 1) then 2 else 1)) → ob h103 r1 5 ∧ nm (x2 - x102) ∧ mX1_latest 59 (hI h103 r1 0) (x2 - x102) x3 h103 (kI Q (fun x111 h110 => nm (v107 * (vJ4_max 0 x111 h110)) ∧ nm (x101 + (v107 * (vJ4_max 0 x111 h110))) ∧ ∀ v114 : Int, v114 = (x101 + (v107 * (vJ4_max 0 x111 h110))) → nm (x102 + 1) ∧ ∀ i116 : Int, i116 = (x102 + 1) → C104 v114 i116 h110)) else Q (rV (vI x101)) h103) 0 0 h
theorem wX1_wetOf {G : Gx} (hg : gF G = true) {d : Nat} {r1 : Nat} {x2 : Int} {x3 : Int} {h : Hp} {Q : Rs → Hp → Prop} (hm : mX1_wetOf r1 x2 x3 h Q) : Ct G tX1_wetOf (d + 4) [vR 50, vR r1, vI x2, vI x3] h Q := by
  refine ct_enter (L0 := [some (vR 50), some (vR r1), some (vI x2), some (vI x3), none, none]) rfl rfl ?_
  unfold mX1_wetOf at hm
  refine wc_iconst (pc := 0) (dAt dtX1_wetOf 0 rfl) ⟨by decide, by decide⟩ (wc_istore (pc := 1) (dAt dtX1_wetOf 1 rfl) (by decide) (wc_L (L' := [some (vR 50), some (vR r1), some (vI x2), some (vI x3), some (vI 0), none]) rfl (wc_iconst (pc := 3) (dAt dtX1_wetOf 2 rfl) ⟨by decide, by decide⟩ (wc_istore (pc := 4) (dAt dtX1_wetOf 3 rfl) (by decide) (wc_L (L' := [some (vR 50), some (vR r1), some (vI x2), some (vI x3), some (vI 0), some (vI 0)]) rfl (?_))))))
  refine wh3_ind (P := fun (x101 : Int) (x102 : Int) (h103 : Hp) => Wc G tX1_wetOf (d + 4) h Q 6 [some (vR 50), some (vR r1), some (vI x2), some (vI x3), some (vI x101), some (vI x102)] [] h103) (fun C104 ih105 x101 x102 h103 hm => ?_) hm
  refine wc_iload (pc := 6) (dAt dtX1_wetOf 4 rfl) rfl (wc_iconst (pc := 8) (dAt dtX1_wetOf 5 rfl) ⟨by decide, by decide⟩ (wc_icmp_ge (pc := 9) (tgt := 64) (dAt dtX1_wetOf 6 rfl) (by decide) (fun c106 => ?_) (fun c106 => ?_)))
  · replace hm := ite_f (fun z => z c106) hm
    exact wc_iload (pc := 64) (dAt dtX1_wetOf 34 rfl) rfl (wc_iret (pc := 66) (dAt dtX1_wetOf 35 rfl) rfl (nar_int _) hm)
  · replace hm := ite_t c106 hm
    obtain ⟨v107, ev107⟩ : ∃ v107 : Int, v107 = (if ¬ (x102 ≠ 0) then 4 else (if ¬ (x102 ≠ 1) then 2 else 1)) := ⟨_, rfl⟩
    replace hm := hm v107 ev107
    refine wc_iload (pc := 12) (dAt dtX1_wetOf 7 rfl) rfl (wc_iload (pc := 14) (dAt dtX1_wetOf 8 rfl) rfl (?_))
    have kj117 : Wc G tX1_wetOf (d + 4) h Q 34 [some (vR 50), some (vR r1), some (vI x2), some (vI x3), none, some (vI x102)] [vI v107, vI x101] h103 := by
      obtain ⟨o108, o109, hm⟩ := hm
      refine wc_iconst (pc := 34) (dAt dtX1_wetOf 18 rfl) ⟨by decide, by decide⟩ (wc_aload_n (pc := 35) (dAt dtX1_wetOf 19 rfl) rfl (wc_getKR hg (pc := 36) (dAt dtX1_wetOf 20 rfl) flX1_81_1 rfl ka50 kf50_9 (wc_aload_n (pc := 39) (dAt dtX1_wetOf 21 rfl) rfl (wc_getI (pc := 40) (dAt dtX1_wetOf 22 rfl) flX1_84_5 rfl o108 (wc_iload_n (pc := 43) (dAt dtX1_wetOf 23 rfl) rfl (wc_iload (pc := 44) (dAt dtX1_wetOf 24 rfl) rfl (wc_isub (pc := 46) (dAt dtX1_wetOf 25 rfl) o109 (wc_iload_n (pc := 47) (dAt dtX1_wetOf 26 rfl) rfl (wc_callS (y' := tX1_latest) (av := [vR 59, vI (hI h103 r1 0), vI (x2 - x102), vI x3]) (st := [vI 0, vI v107, vI x101]) (pc := 48) (dAt dtX1_wetOf 27 rfl) lkX1_87 moX1_latest q1537 q128 rfl rfl (Nat.le_of_ble_eq_true rfl) (wX1_latest hg hm) (kr_I (fun x111 h110 hm => ?_)) (kx_I rfl))))))))))
      obtain ⟨o112, o113, hm⟩ := hm
      obtain ⟨v114, ev114⟩ : ∃ v114 : Int, v114 = (x101 + (v107 * (vJ4_max 0 x111 h110))) := ⟨_, rfl⟩
      replace hm := hm v114 ev114
      obtain ⟨o115, hm⟩ := hm
      obtain ⟨i116, ei116⟩ : ∃ i116 : Int, i116 = (x102 + 1) := ⟨_, rfl⟩
      replace hm := hm i116 ei116
      exact wc_callS (y' := tJ4_max) (P := eI (vJ4_max 0 x111 h110) h110) (pc := 51) (dAt dtX1_wetOf 28 rfl) lkX1_91 moJ4_max q446 q137 rfl rfl (Nat.le_of_ble_eq_true rfl) (wJ4_max hg ⟨rfl, rfl⟩) (ep_I (wc_imul (pc := 54) (dAt dtX1_wetOf 29 rfl) o112 (wc_iadd (pc := 55) (dAt dtX1_wetOf 30 rfl) o113 (wc_vi ev114 (wc_istore (pc := 56) (dAt dtX1_wetOf 31 rfl) (by decide) (wc_L (L' := [some (vR 50), some (vR r1), some (vI x2), some (vI x3), some (vI v114), some (vI x102)]) rfl (wc_iinc (v := i116) (pc := 58) (dAt dtX1_wetOf 32 rfl) rfl ei116 (ei116 ▸ o115) (by decide) (wc_L (L' := [some (vR 50), some (vR r1), some (vI x2), some (vI x3), some (vI v114), some (vI i116)]) rfl (wc_goto (pc := 61) (tgt := 6) (dAt dtX1_wetOf 33 rfl) (by decide) (ih105 _ _ _ hm)))))))))) ex_I
    have k118 : (¬ (x102 ≠ 0)) → Wc G tX1_wetOf (d + 4) h Q 19 [some (vR 50), some (vR r1), some (vI x2), some (vI x3), some (vI x101), some (vI x102)] [vI x101] h103 := fun c120 => by
      have z121 := kj117
      rw [show v107 = 4 from ev107.trans (if_pos c120)] at z121
      exact wc_iconst (pc := 19) (dAt dtX1_wetOf 10 rfl) ⟨by decide, by decide⟩ (wc_goto (pc := 20) (tgt := 34) (dAt dtX1_wetOf 11 rfl) (by decide) (wc_drp [4] rfl (z121)))
    have k119 : ¬ (¬ (x102 ≠ 0)) → Wc G tX1_wetOf (d + 4) h Q 23 [some (vR 50), some (vR r1), some (vI x2), some (vI x3), some (vI x101), some (vI x102)] [vI x101] h103 := fun c120 => by
      have k123 : (¬ (x102 ≠ 1)) → Wc G tX1_wetOf (d + 4) h Q 29 [some (vR 50), some (vR r1), some (vI x2), some (vI x3), some (vI x101), some (vI x102)] [vI x101] h103 := fun c125 => by
        have z126 := kj117
        rw [show v107 = 2 from ev107.trans ((if_neg c120).trans (if_pos c125))] at z126
        exact wc_iconst (pc := 29) (dAt dtX1_wetOf 15 rfl) ⟨by decide, by decide⟩ (wc_goto (pc := 30) (tgt := 34) (dAt dtX1_wetOf 16 rfl) (by decide) (wc_drp [4] rfl (z126)))
      have k124 : ¬ (¬ (x102 ≠ 1)) → Wc G tX1_wetOf (d + 4) h Q 33 [some (vR 50), some (vR r1), some (vI x2), some (vI x3), some (vI x101), some (vI x102)] [vI x101] h103 := fun c125 => by
        have z128 := kj117
        rw [show v107 = 1 from ev107.trans ((if_neg c120).trans (if_neg c125))] at z128
        exact wc_iconst (pc := 33) (dAt dtX1_wetOf 17 rfl) ⟨by decide, by decide⟩ (wc_drp [4] rfl (z128))
      exact wc_iload (pc := 23) (dAt dtX1_wetOf 12 rfl) rfl (wc_iconst (pc := 25) (dAt dtX1_wetOf 13 rfl) ⟨by decide, by decide⟩ (wc_icmp_ne (pc := 26) (tgt := 33) (dAt dtX1_wetOf 14 rfl) (by decide) (fun c130 => (k124 (fun z => z c130))) (fun c130 => (k123 c130))))
    exact wc_if_ne (pc := 16) (tgt := 23) (dAt dtX1_wetOf 9 rfl) (by decide) (fun c131 => (k119 (fun z => z c131))) (fun c131 => (k118 c131))
def tX1_wet : Mt := (⟨"FlyingDoctors", "wet", "(III)I"⟩, prog_1_method_34_code, 5, (Option.some Jvm.ClassFile.FieldType.int), [])
def DX1_wet : List (Nat × Instr × Nat) := [(0, .aload_n 0, 1), (1, .iload_n 1, 1), (2, .invokevirtual 334, 3), (5, .astore 4, 2), (7, .iload_n 2, 1), (8, .iconst 0, 1), (9, .bipush 30, 2), (11, .invokestatic 314, 3), (14, .ifCond .eq 19, 3), (17, .iload_n 3, 1), (18, .iconst 0, 1), (19, .aload_n 0, 1), (20, .getfield 173, 3), (23, .invokestatic 314, 3), (26, .ifCond .eq 7, 3), (29, .iconst 1, 1), (30, .goto 4, 3), (33, .iconst 0, 1), (34, .invokestatic 337, 3), (37, .aload_n 0, 1), (38, .aload 4, 2), (40, .iload_n 2, 1), (41, .iload_n 3, 1), (42, .invokevirtual 108, 3), (45, .ireturn, 1)]
theorem dtX1_wet : chkD (mB tX1_wet) DX1_wet = true := by decide +kernel
theorem moX1_wet : MethOk tX1_wet 3 := ⟨Or.inl ⟨rfl, q1531⟩, by decide +kernel, ⟨by decide, by decide⟩, by decide +kernel⟩
def mX1_wet (x1 : Int) (x2 : Int) (x3 : Int) (h : Hp) (Q : Rs → Hp → Prop) : Prop := mX1_placeAt x1 h (kR Q (fun r102 h101 => ∀ v103 : Int, v103 = (b2i (¬ ((vX1_in x2 0 30 h101) = 0) ∧ (¬ ((vX1_in x3 0 (hI h101 50 20) h101) = 0)))) → mX1_right v103 h101 (kN Q (fun h104 => mX1_wetOf r102 x2 x3 h104 (kI Q (fun x106 h105 => Q (rV (vI x106)) h105))))))
theorem wX1_wet {G : Gx} (hg : gF G = true) {d : Nat} {x1 : Int} {x2 : Int} {x3 : Int} {h : Hp} {Q : Rs → Hp → Prop} (hm : mX1_wet x1 x2 x3 h Q) : Ct G tX1_wet (d + 10) [vR 50, vI x1, vI x2, vI x3] h Q := by
  refine ct_enter (L0 := [some (vR 50), some (vI x1), some (vI x2), some (vI x3), none]) rfl rfl ?_
  unfold mX1_wet at hm
  refine wc_aload_n (pc := 0) (dAt dtX1_wet 0 rfl) rfl (wc_iload_n (pc := 1) (dAt dtX1_wet 1 rfl) rfl (wc_kf hg fun zk => wc_callV (k := 1) (y' := tX1_placeAt) (av := [vI x1]) (st := []) (pc := 2) (dAt dtX1_wet 2 rfl) lkX1_334 moX1_placeAt q684 qs5 (by decide) (zk.2 _ ka50).1 rfl rfl (Nat.le_of_ble_eq_true rfl) (wX1_placeAt hg hm) (kr_R (fun r102 h101 hm => ?_)) (kx_R rfl)))
  obtain ⟨v103, ev103⟩ : ∃ v103 : Int, v103 = (b2i (¬ ((vX1_in x2 0 30 h101) = 0) ∧ (¬ ((vX1_in x3 0 (hI h101 50 20) h101) = 0)))) := ⟨_, rfl⟩
  replace hm := hm v103 ev103
  refine wc_astore (pc := 5) (dAt dtX1_wet 3 rfl) (by decide) (wc_L (L' := [some (vR 50), some (vI x1), some (vI x2), some (vI x3), some (vR r102)]) rfl (wc_iload_n (pc := 7) (dAt dtX1_wet 4 rfl) rfl (wc_iconst (pc := 8) (dAt dtX1_wet 5 rfl) ⟨by decide, by decide⟩ (wc_bipush (pc := 9) (dAt dtX1_wet 6 rfl) ⟨by decide, by decide, by decide⟩ (wc_callS (y' := tX1_in) (P := eI (vX1_in x2 0 30 h101) h101) (pc := 11) (dAt dtX1_wet 7 rfl) lkX1_314 moX1_in q374 q128 rfl rfl (Nat.le_of_ble_eq_true rfl) (wX1_in hg ⟨rfl, rfl⟩) (ep_I (?_)) ex_I)))))
  have kj107 : Wc G tX1_wet (d + 10) h Q 34 [some (vR 50), none, some (vI x2), some (vI x3), some (vR r102)] [vI v103] h101 := by
    refine wc_callS (y' := tX1_right) (av := [vI v103]) (st := []) (pc := 34) (dAt dtX1_wet 18 rfl) lkX1_337 moX1_right q755 q128 rfl rfl (Nat.le_of_ble_eq_true rfl) (wX1_right hg hm) (kr_N (fun h104 hm => ?_)) (kx_N rfl)
    refine wc_aload_n (pc := 37) (dAt dtX1_wet 19 rfl) rfl (wc_aload (pc := 38) (dAt dtX1_wet 20 rfl) rfl (wc_iload_n (pc := 40) (dAt dtX1_wet 21 rfl) rfl (wc_iload_n (pc := 41) (dAt dtX1_wet 22 rfl) rfl (wc_kf hg fun zk => wc_callV (k := 1) (y' := tX1_wetOf) (av := [vR r102, vI x2, vI x3]) (st := []) (pc := 42) (dAt dtX1_wet 23 rfl) lkX1_108 moX1_wetOf q1534 qs34 (by decide) (zk.2 _ ka50).1 rfl rfl (Nat.le_of_ble_eq_true rfl) (wX1_wetOf hg hm) (kr_I (fun x106 h105 hm => ?_)) (kx_I rfl)))))
    exact wc_iret (pc := 45) (dAt dtX1_wet 24 rfl) rfl (nar_int _) hm
  have k108 : (¬ ((vX1_in x2 0 30 h101) = 0) ∧ (¬ ((vX1_in x3 0 (hI h101 50 20) h101) = 0))) → Wc G tX1_wet (d + 10) h Q 29 [some (vR 50), some (vI x1), some (vI x2), some (vI x3), some (vR r102)] [] h101 := fun c110 => by
    have z111 := kj107
    rw [show v103 = 1 from ev103.trans (b2i_t c110)] at z111
    exact wc_iconst (pc := 29) (dAt dtX1_wet 15 rfl) ⟨by decide, by decide⟩ (wc_goto (pc := 30) (tgt := 34) (dAt dtX1_wet 16 rfl) (by decide) (wc_drp [1] rfl (z111)))
  have k109 : ¬ (¬ ((vX1_in x2 0 30 h101) = 0) ∧ (¬ ((vX1_in x3 0 (hI h101 50 20) h101) = 0))) → Wc G tX1_wet (d + 10) h Q 33 [some (vR 50), some (vI x1), some (vI x2), some (vI x3), some (vR r102)] [] h101 := fun c110 => by
    have z113 := kj107
    rw [show v103 = 0 from ev103.trans (b2i_f c110)] at z113
    exact wc_iconst (pc := 33) (dAt dtX1_wet 17 rfl) ⟨by decide, by decide⟩ (wc_drp [1] rfl (z113))
  exact wc_if_eq (pc := 14) (tgt := 33) (dAt dtX1_wet 8 rfl) (by decide) (fun c115 => (k109 (fun z => z.1 c115))) (fun c115 => wc_iload_n (pc := 17) (dAt dtX1_wet 9 rfl) rfl (wc_iconst (pc := 18) (dAt dtX1_wet 10 rfl) ⟨by decide, by decide⟩ (wc_aload_n (pc := 19) (dAt dtX1_wet 11 rfl) rfl (wc_getKI hg (pc := 20) (dAt dtX1_wet 12 rfl) flX1_173_1 rfl ka50 (wc_callS (y' := tX1_in) (P := eI (vX1_in x3 0 (hI h101 50 20) h101) h101) (pc := 23) (dAt dtX1_wet 13 rfl) lkX1_314 moX1_in q374 q128 rfl rfl (Nat.le_of_ble_eq_true rfl) (wX1_in hg ⟨rfl, rfl⟩) (ep_I (wc_if_eq (pc := 26) (tgt := 33) (dAt dtX1_wet 14 rfl) (by decide) (fun c116 => (k109 (fun z => (fun z => z c116) z.2))) (fun c116 => (k108 ⟨c115, c116⟩)))) ex_I)))))
