set_option maxRecDepth 100000
set_option maxHeartbeats 1000000
/-! what methods do, and their walks, by program -/
def tX8_and : Mt := (⟨"FlyingDoctors$Reader", "and", "(I)LFlyingDoctors$Ex;"⟩, prog_16_method_21_code, 3, (Option.some (Jvm.ClassFile.FieldType.object "FlyingDoctors$Ex")), [])
def DX8_and : List (Nat × Instr × Nat) := [(0, .new 175, 3), (3, .dup, 1), (4, .aload_n 0, 1), (5, .iload_n 1, 1), (6, .invokevirtual 198, 3), (9, .invokespecial 180, 3), (12, .astore_n 2, 1), (13, .aload_n 0, 1), (14, .ldc 200, 2), (16, .invokevirtual 126, 3), (19, .ifCond .eq 21, 3), (22, .aload_n 0, 1), (23, .invokevirtual 115, 3), (26, .aload_n 2, 1), (27, .bipush 38, 2), (29, .aload_n 0, 1), (30, .iload_n 1, 1), (31, .invokevirtual 198, 3), (34, .invokevirtual 183, 3), (37, .goto (-24), 3), (40, .aload_n 2, 1), (41, .areturn, 1)]
theorem dtX8_and : chkD (mB tX8_and) DX8_and = true := by decide +kernel
theorem moX8_and : MethOk tX8_and 1 := ⟨Or.inl ⟨rfl, q1307⟩, by decide +kernel, ⟨by decide, by decide⟩, by decide +kernel⟩
def mX8_and (E : Nat → Int → Hp → (Rs → Hp → Prop) → Prop) (r0 : Nat) (x1 : Int) (h : Hp) (Q : Rs → Hp → Prop) : Prop := hn h + 1 ≤ 878547 ∧ hq h + 2 ≤ 6460613 ∧ ∀ r104 : Nat, r104 = hn h → ∀ h105 : Hp, h105 = nw h 11 0 2 → ob h105 r0 8 ∧ mX8_not E r0 x1 h105 (kR Q (fun r108 h107 => mX11_init r104 r108 h107 (kN Q (fun h109 => wh1 (fun (C111 : Hp → Prop) (h110 : Hp) => ob h110 r0 8 ∧ mX8_is r0 21 h110 (kI Q (fun x115 h114 => if ¬ (x115 = 0) then ob h114 r0 8 ∧ mX8_next r0 h114 (kN Q (fun h118 => ob h118 r0 8 ∧ mX8_not E r0 x1 h118 (kR Q (fun r121 h120 => ob h120 r104 11 ∧ mX11_add r104 38 r121 h120 (kN Q (fun h123 => C111 h123)))))) else Q (rV (vR r104)) h114))) h109))))
theorem wX8_and {G : Gx} (hg : gF G = true) {d : Nat} {E : Nat → Int → Hp → (Rs → Hp → Prop) → Prop} (hE : ∀ (r : Nat) (x : Int) (h : Hp) (P : Rs → Hp → Prop), E r x h P → Ct G tX8_expression d [vR r, vI x] h P) {r0 : Nat} {x1 : Int} {h : Hp} {Q : Rs → Hp → Prop} (hm : mX8_and E r0 x1 h Q) : Ct G tX8_and (d + 11) [vR r0, vI x1] h Q := by
  refine ct_enter (L0 := [some (vR r0), some (vI x1), none]) rfl rfl ?_
  unfold mX8_and at hm
  obtain ⟨o101, o102, hm⟩ := hm
  obtain ⟨r104, er104⟩ : ∃ r104 : Nat, r104 = hn h := ⟨_, rfl⟩
  replace hm := hm r104 er104
  obtain ⟨h105, eh105⟩ : ∃ h105 : Hp, h105 = nw h 11 0 2 := ⟨_, rfl⟩
  replace hm := hm h105 eh105
  obtain ⟨o106, hm⟩ := hm
  refine wc_k0 fun n103 => (wc_new (k := 11) (pc := 0) (dAt dtX8_and 0 rfl) q1302 q1303 q160 (by decide) o101 o102 (wc_hp eh105 (wc_vr er104 (wc_dup (pc := 3) (dAt dtX8_and 1 rfl) rfl (wc_aload_n (pc := 4) (dAt dtX8_and 2 rfl) rfl (wc_iload_n (pc := 5) (dAt dtX8_and 3 rfl) rfl (wc_callV (k := 8) (y' := tX8_not) (av := [vI x1]) (st := [vR r104, vR r104]) (pc := 6) (dAt dtX8_and 4 rfl) lkX8_198 moX8_not q1310 qs23 (by decide) o106 rfl rfl (Nat.le_of_ble_eq_true rfl) (wX8_not hg (d := d + 0) (fun r x h P z => (hE r x h P z).deep (by omega)) hm) (kr_R (fun r108 h107 hm => ?_)) (kx_R rfl))))))))
  refine wc_callI (y' := tX11_init) (av := [vR r108]) (st := [vR r104]) (pc := 9) (dAt dtX8_and 5 rfl) lkX8_180 moX11_init q1395 rfl q1396 (k0_at er104 n103) rfl rfl (Nat.le_of_ble_eq_true rfl) (wX11_init hg hm) (kr_N (fun h109 hm => ?_)) (kx_N rfl)
  refine wc_astore_n (pc := 12) (dAt dtX8_and 6 rfl) (by decide) (wc_L (L' := [some (vR r0), some (vI x1), some (vR r104)]) rfl (?_))
  refine wh1_ind (P := fun (h110 : Hp) => Wc G tX8_and (d + 11) h Q 13 [some (vR r0), some (vI x1), some (vR r104)] [] h110) (fun C111 ih112 h110 hm => ?_) hm
  obtain ⟨o113, hm⟩ := hm
  refine wc_aload_n (pc := 13) (dAt dtX8_and 7 rfl) rfl (wc_ldcS (a := 21) (tx := "and") (pc := 14) (dAt dtX8_and 8 rfl) (by decide +kernel) (by decide) (wc_callV (k := 8) (y' := tX8_is) (av := [vR 21]) (st := []) (pc := 16) (dAt dtX8_and 9 rfl) lkX8_126 moX8_is q936 qs12 (by decide) o113 rfl rfl (Nat.le_of_ble_eq_true rfl) (wX8_is hg hm) (kr_I (fun x115 h114 hm => ?_)) (kx_I rfl)))
  refine wc_if_eq (pc := 19) (tgt := 40) (dAt dtX8_and 10 rfl) (by decide) (fun c116 => ?_) (fun c116 => ?_)
  · replace hm := ite_f (fun z => z c116) hm
    exact wc_aload_n (pc := 40) (dAt dtX8_and 20 rfl) rfl (wc_aret (pc := 41) (dAt dtX8_and 21 rfl) rfl (Or.inl ⟨_, rfl⟩) hm)
  · replace hm := ite_t c116 hm
    obtain ⟨o117, hm⟩ := hm
    refine wc_aload_n (pc := 22) (dAt dtX8_and 11 rfl) rfl (wc_callV (k := 8) (y' := tX8_next) (av := []) (st := []) (pc := 23) (dAt dtX8_and 12 rfl) lkX8_115 moX8_next q829 qs7 (by decide) o117 rfl rfl (Nat.le_of_ble_eq_true rfl) (wX8_next hg hm) (kr_N (fun h118 hm => ?_)) (kx_N rfl))
    obtain ⟨o119, hm⟩ := hm
    refine wc_aload_n (pc := 26) (dAt dtX8_and 13 rfl) rfl (wc_bipush (pc := 27) (dAt dtX8_and 14 rfl) ⟨by decide, by decide, by decide⟩ (wc_aload_n (pc := 29) (dAt dtX8_and 15 rfl) rfl (wc_iload_n (pc := 30) (dAt dtX8_and 16 rfl) rfl (wc_callV (k := 8) (y' := tX8_not) (av := [vI x1]) (st := [vI 38, vR r104]) (pc := 31) (dAt dtX8_and 17 rfl) lkX8_198 moX8_not q1310 qs23 (by decide) o119 rfl rfl (Nat.le_of_ble_eq_true rfl) (wX8_not hg (d := d + 0) (fun r x h P z => (hE r x h P z).deep (by omega)) hm) (kr_R (fun r121 h120 hm => ?_)) (kx_R rfl)))))
    obtain ⟨o122, hm⟩ := hm
    refine wc_callV (k := 11) (y' := tX11_add) (av := [vI 38, vR r121]) (st := []) (pc := 34) (dAt dtX8_and 18 rfl) lkX8_183 moX11_add q1412 q1413 (by decide) o122 rfl rfl (Nat.le_of_ble_eq_true rfl) (wX11_add hg hm) (kr_N (fun h123 hm => ?_)) (kx_N rfl)
    exact wc_goto (pc := 37) (tgt := 13) (dAt dtX8_and 19 rfl) (by decide) (ih112 _ hm)
def mX8_expression (E : Nat → Int → Hp → (Rs → Hp → Prop) → Prop) (r0 : Nat) (x1 : Int) (h : Hp) (Q : Rs → Hp → Prop) : Prop := ob h r0 8 ∧ ((¬ ((hI h r0 4) = 2) → (¬ ((hI h r0 4) = 1) → oX8_isSign r0 40 h))) ∧ ∀ v104 : Int, v104 = (b2i (((hI h r0 4) = 2) ∨ (((hI h r0 4) = 1) ∨ (¬ ((vX8_isSign r0 40 h) = 0))))) → mX8_want r0 v104 h (kN Q (fun h105 => if ¬ (x1 ≠ 6) then hn h105 + 1 ≤ 878547 ∧ hq h105 + 7 ≤ 6460613 ∧ ∀ r110 : Nat, r110 = hn h105 → ∀ h111 : Hp, h111 = nw h105 9 0 7 → mX9_init r110 2 h111 (kN Q (fun h112 => ob h112 r110 9 ∧ Q (rX r110) h112)) else hn h105 + 1 ≤ 878547 ∧ hq h105 + 2 ≤ 6460613 ∧ ∀ r117 : Nat, r117 = hn h105 → ∀ h118 : Hp, h118 = nw h105 11 0 2 → ob h118 r0 8 ∧ mX8_and E r0 x1 h118 (kR Q (fun r121 h120 => mX11_init r117 r121 h120 (kN Q (fun h122 => wh1 (fun (C124 : Hp → Prop) (h123 : Hp) => ob h123 r0 8 ∧ mX8_is r0 22 h123 (kI Q (fun x128 h127 => if ¬ (x128 = 0) then ob h127 r0 8 ∧ mX8_next r0 h127 (kN Q (fun h131 => ob h131 r0 8 ∧ mX8_and E r0 x1 h131 (kR Q (fun r134 h133 => ob h133 r117 11 ∧ mX11_add r117 124 r134 h133 (kN Q (fun h136 => C124 h136)))))) else Q (rV (vR r117)) h127))) h122))))))
theorem wX8_expression {G : Gx} (hg : gF G = true) {d : Nat} {E : Nat → Int → Hp → (Rs → Hp → Prop) → Prop} (hE : ∀ (r : Nat) (x : Int) (h : Hp) (P : Rs → Hp → Prop), E r x h P → Ct G tX8_expression d [vR r, vI x] h P) {r0 : Nat} {x1 : Int} {h : Hp} {Q : Rs → Hp → Prop} (hm : mX8_expression E r0 x1 h Q) : Ct G tX8_expression (d + 12) [vR r0, vI x1] h Q := by
  refine ct_enter (L0 := [some (vR r0), some (vI x1), none]) rfl rfl ?_
  unfold mX8_expression at hm
  obtain ⟨o101, o103, hm⟩ := hm
  obtain ⟨v104, ev104⟩ : ∃ v104 : Int, v104 = (b2i (((hI h r0 4) = 2) ∨ (((hI h r0 4) = 1) ∨ (¬ ((vX8_isSign r0 40 h) = 0))))) := ⟨_, rfl⟩
  replace hm := hm v104 ev104
  refine wc_aload_n (pc := 0) (dAt dtX8_expression 0 rfl) rfl (wc_aload_n (pc := 1) (dAt dtX8_expression 1 rfl) rfl (wc_getI (pc := 2) (dAt dtX8_expression 2 rfl) flX8_47_8 rfl o101 (wc_iconst (pc := 5) (dAt dtX8_expression 3 rfl) ⟨by decide, by decide⟩ (?_))))
  have kj137 : Wc G tX8_expression (d + 12) h Q 31 [some (vR r0), some (vI x1), none] [vI v104, vR r0] h := by
    refine wc_callV (k := 8) (y' := tX8_want) (av := [vI v104]) (st := []) (pc := 31) (dAt dtX8_expression 16 rfl) lkX8_111 moX8_want q963 qs13 (by decide) o101 rfl rfl (Nat.le_of_ble_eq_true rfl) (wX8_want hg hm) (kr_N (fun h105 hm => ?_)) (kx_N rfl)
    refine wc_iload_n (pc := 34) (dAt dtX8_expression 17 rfl) rfl (wc_bipush (pc := 35) (dAt dtX8_expression 18 rfl) ⟨by decide, by decide, by decide⟩ (wc_icmp_ne (pc := 37) (tgt := 49) (dAt dtX8_expression 19 rfl) (by decide) (fun c106 => ?_) (fun c106 => ?_)))
    · replace hm := ite_f (fun z => z c106) hm
      obtain ⟨o114, o115, hm⟩ := hm
      obtain ⟨r117, er117⟩ : ∃ r117 : Nat, r117 = hn h105 := ⟨_, rfl⟩
      replace hm := hm r117 er117
      obtain ⟨h118, eh118⟩ : ∃ h118 : Hp, h118 = nw h105 11 0 2 := ⟨_, rfl⟩
      replace hm := hm h118 eh118
      obtain ⟨o119, hm⟩ := hm
      refine wc_k0 fun n116 => (wc_new (k := 11) (pc := 49) (dAt dtX8_expression 25 rfl) q1302 q1303 q160 (by decide) o114 o115 (wc_hp eh118 (wc_vr er117 (wc_dup (pc := 52) (dAt dtX8_expression 26 rfl) rfl (wc_aload_n (pc := 53) (dAt dtX8_expression 27 rfl) rfl (wc_iload_n (pc := 54) (dAt dtX8_expression 28 rfl) rfl (wc_callV (k := 8) (y' := tX8_and) (av := [vI x1]) (st := [vR r117, vR r117]) (pc := 55) (dAt dtX8_expression 29 rfl) lkX8_202 moX8_and q1306 qs22 (by decide) o119 rfl rfl (Nat.le_of_ble_eq_true rfl) (wX8_and hg (d := d + 0) (fun r x h P z => (hE r x h P z).deep (by omega)) hm) (kr_R (fun r121 h120 hm => ?_)) (kx_R rfl))))))))
      refine wc_callI (y' := tX11_init) (av := [vR r121]) (st := [vR r117]) (pc := 58) (dAt dtX8_expression 30 rfl) lkX8_180 moX11_init q1395 rfl q1396 (k0_at er117 n116) rfl rfl (Nat.le_of_ble_eq_true rfl) (wX11_init hg hm) (kr_N (fun h122 hm => ?_)) (kx_N rfl)
      refine wc_astore_n (pc := 61) (dAt dtX8_expression 31 rfl) (by decide) (wc_L (L' := [some (vR r0), some (vI x1), some (vR r117)]) rfl (?_))
      refine wh1_ind (P := fun (h123 : Hp) => Wc G tX8_expression (d + 12) h Q 62 [some (vR r0), some (vI x1), some (vR r117)] [] h123) (fun C124 ih125 h123 hm => ?_) hm
      obtain ⟨o126, hm⟩ := hm
      refine wc_aload_n (pc := 62) (dAt dtX8_expression 32 rfl) rfl (wc_ldcS (a := 22) (tx := "or") (pc := 63) (dAt dtX8_expression 33 rfl) (by decide +kernel) (by decide) (wc_callV (k := 8) (y' := tX8_is) (av := [vR 22]) (st := []) (pc := 65) (dAt dtX8_expression 34 rfl) lkX8_126 moX8_is q936 qs12 (by decide) o126 rfl rfl (Nat.le_of_ble_eq_true rfl) (wX8_is hg hm) (kr_I (fun x128 h127 hm => ?_)) (kx_I rfl)))
      refine wc_if_eq (pc := 68) (tgt := 89) (dAt dtX8_expression 35 rfl) (by decide) (fun c129 => ?_) (fun c129 => ?_)
      · replace hm := ite_f (fun z => z c129) hm
        exact wc_aload_n (pc := 89) (dAt dtX8_expression 45 rfl) rfl (wc_aret (pc := 90) (dAt dtX8_expression 46 rfl) rfl (Or.inl ⟨_, rfl⟩) hm)
      · replace hm := ite_t c129 hm
        obtain ⟨o130, hm⟩ := hm
        refine wc_aload_n (pc := 71) (dAt dtX8_expression 36 rfl) rfl (wc_callV (k := 8) (y' := tX8_next) (av := []) (st := []) (pc := 72) (dAt dtX8_expression 37 rfl) lkX8_115 moX8_next q829 qs7 (by decide) o130 rfl rfl (Nat.le_of_ble_eq_true rfl) (wX8_next hg hm) (kr_N (fun h131 hm => ?_)) (kx_N rfl))
        obtain ⟨o132, hm⟩ := hm
        refine wc_aload_n (pc := 75) (dAt dtX8_expression 38 rfl) rfl (wc_bipush (pc := 76) (dAt dtX8_expression 39 rfl) ⟨by decide, by decide, by decide⟩ (wc_aload_n (pc := 78) (dAt dtX8_expression 40 rfl) rfl (wc_iload_n (pc := 79) (dAt dtX8_expression 41 rfl) rfl (wc_callV (k := 8) (y' := tX8_and) (av := [vI x1]) (st := [vI 124, vR r117]) (pc := 80) (dAt dtX8_expression 42 rfl) lkX8_202 moX8_and q1306 qs22 (by decide) o132 rfl rfl (Nat.le_of_ble_eq_true rfl) (wX8_and hg (d := d + 0) (fun r x h P z => (hE r x h P z).deep (by omega)) hm) (kr_R (fun r134 h133 hm => ?_)) (kx_R rfl)))))
        obtain ⟨o135, hm⟩ := hm
        refine wc_callV (k := 11) (y' := tX11_add) (av := [vI 124, vR r134]) (st := []) (pc := 83) (dAt dtX8_expression 43 rfl) lkX8_183 moX11_add q1412 q1413 (by decide) o135 rfl rfl (Nat.le_of_ble_eq_true rfl) (wX11_add hg hm) (kr_N (fun h136 hm => ?_)) (kx_N rfl)
        exact wc_goto (pc := 86) (tgt := 62) (dAt dtX8_expression 44 rfl) (by decide) (ih125 _ hm)
    · replace hm := ite_t c106 hm
      obtain ⟨o107, o108, hm⟩ := hm
      obtain ⟨r110, er110⟩ : ∃ r110 : Nat, r110 = hn h105 := ⟨_, rfl⟩
      replace hm := hm r110 er110
      obtain ⟨h111, eh111⟩ : ∃ h111 : Hp, h111 = nw h105 9 0 7 := ⟨_, rfl⟩
      replace hm := hm h111 eh111
      refine wc_k0 fun n109 => (wc_new (k := 9) (pc := 40) (dAt dtX8_expression 20 rfl) q965 q966 q154 (by decide) o107 o108 (wc_hp eh111 (wc_vr er110 (wc_dup (pc := 43) (dAt dtX8_expression 21 rfl) rfl (wc_iconst (pc := 44) (dAt dtX8_expression 22 rfl) ⟨by decide, by decide⟩ (wc_callI (y' := tX9_init) (av := [vI 2]) (st := [vR r110]) (pc := 45) (dAt dtX8_expression 23 rfl) lkX8_104 moX9_init q975 rfl q976 (k0_at er110 n109) rfl rfl (Nat.le_of_ble_eq_true rfl) (wX9_init hg hm) (kr_N (fun h112 hm => ?_)) (kx_N rfl)))))))
      obtain ⟨o113, hm⟩ := hm
      exact wc_athrow (pc := 48) (dAt dtX8_expression 24 rfl) (by decide) o113 rfl hm
  have p138 := o103
  have k139 : (((hI h r0 4) = 2) ∨ (((hI h r0 4) = 1) ∨ (¬ ((vX8_isSign r0 40 h) = 0)))) → Wc G tX8_expression (d + 12) h Q 26 [some (vR r0), some (vI x1), none] [vR r0] h := fun c141 => by
    have z142 := kj137
    rw [show v104 = 1 from ev104.trans (b2i_t c141)] at z142
    exact wc_iconst (pc := 26) (dAt dtX8_expression 13 rfl) ⟨by decide, by decide⟩ (wc_goto (pc := 27) (tgt := 31) (dAt dtX8_expression 14 rfl) (by decide) (z142))
  have k140 : ¬ (((hI h r0 4) = 2) ∨ (((hI h r0 4) = 1) ∨ (¬ ((vX8_isSign r0 40 h) = 0)))) → Wc G tX8_expression (d + 12) h Q 30 [some (vR r0), some (vI x1), none] [vR r0] h := fun c141 => by
    have z144 := kj137
    rw [show v104 = 0 from ev104.trans (b2i_f c141)] at z144
    exact wc_iconst (pc := 30) (dAt dtX8_expression 15 rfl) ⟨by decide, by decide⟩ (z144)
  exact wc_icmp_eq (pc := 6) (tgt := 26) (dAt dtX8_expression 4 rfl) (by decide) (fun c146 => (k139 (Or.inl c146))) (fun c146 => wc_aload_n (pc := 9) (dAt dtX8_expression 5 rfl) rfl (wc_getI (pc := 10) (dAt dtX8_expression 6 rfl) flX8_47_8 rfl o101 (wc_iconst (pc := 13) (dAt dtX8_expression 7 rfl) ⟨by decide, by decide⟩ (wc_icmp_eq (pc := 14) (tgt := 26) (dAt dtX8_expression 8 rfl) (by decide) (fun c147 => (k139 (Or.inr (Or.inl c147)))) (fun c147 => wc_aload_n (pc := 17) (dAt dtX8_expression 9 rfl) rfl (wc_bipush (pc := 18) (dAt dtX8_expression 10 rfl) ⟨by decide, by decide, by decide⟩ (wc_callV (k := 8) (y' := tX8_isSign) (P := eI (vX8_isSign r0 40 h) h) (pc := 20) (dAt dtX8_expression 11 rfl) lkX8_107 moX8_isSign q1292 qs19 (by decide) o101 rfl rfl (Nat.le_of_ble_eq_true rfl) (wX8_isSign hg ((p138 c146) c147) ⟨rfl, rfl⟩) (ep_I (wc_if_eq (pc := 23) (tgt := 30) (dAt dtX8_expression 12 rfl) (by decide) (fun c148 => (k140 (fun z => z.elim c146 (fun z => z.elim c147 (fun z => z c148))))) (fun c148 => (k139 (Or.inr (Or.inr c148)))))) ex_I)))))))
/-- an expression that is read -/
def mEx : Nat → Nat → Int → Hp → (Rs → Hp → Prop) → Prop
  | 0, _, _, _, _ => False
  | n + 1, r, x, h, Q => mX8_expression (mEx n) r x h Q
theorem hExn {G : Gx} (hg : gF G = true) : ∀ (n d : Nat) {r : Nat} {x : Int} {h : Hp} {P : Rs → Hp → Prop}, mEx n r x h P → Ct G tX8_expression (d + 13 * n) [vR r, vI x] h P := by
  intro n
  induction n with
  | zero => intro d r x h P hm; exact hm.elim
  | succ n ih =>
    intro d r x h P hm
    exact Ct.deep (wX8_expression hg (fun r x h P z => ih d z) hm) (by omega)
theorem hEx {G : Gx} (hg : gF G = true) {d r : Nat} {x : Int} {h : Hp} {P : Rs → Hp → Prop} (hm : mEx 7 r x h P) : Ct G tX8_expression (d + 91) [vR r, vI x] h P := hExn hg 7 d hm

def tX8_clauseOf : Mt := (⟨"FlyingDoctors$Reader", "clauseOf", "()LFlyingDoctors$Ex;"⟩, prog_16_method_26_code, 2, (Option.some (Jvm.ClassFile.FieldType.object "FlyingDoctors$Ex")), [])
def DX8_clauseOf : List (Nat × Instr × Nat) := [(0, .aload_n 0, 1), (1, .invokevirtual 115, 3), (4, .aload_n 0, 1), (5, .iconst 0, 1), (6, .invokevirtual 149, 3), (9, .astore_n 1, 1), (10, .aload_n 0, 1), (11, .bipush 59, 2), (13, .invokevirtual 153, 3), (16, .aload_n 1, 1), (17, .areturn, 1)]
theorem dtX8_clauseOf : chkD (mB tX8_clauseOf) DX8_clauseOf = true := by decide +kernel
theorem moX8_clauseOf : MethOk tX8_clauseOf 0 := ⟨Or.inl ⟨rfl, q1297⟩, by decide +kernel, ⟨by decide, by decide⟩, by decide +kernel⟩
def mX8_clauseOf (r0 : Nat) (h : Hp) (Q : Rs → Hp → Prop) : Prop := ob h r0 8 ∧ mX8_next r0 h (kN Q (fun h102 => ob h102 r0 8 ∧ mEx 7 r0 0 h102 (kR Q (fun r105 h104 => ob h104 r0 8 ∧ mX8_need r0 59 h104 (kN Q (fun h107 => Q (rV (vR r105)) h107))))))
theorem wX8_clauseOf {G : Gx} (hg : gF G = true) {d : Nat} {r0 : Nat} {h : Hp} {Q : Rs → Hp → Prop} (hm : mX8_clauseOf r0 h Q) : Ct G tX8_clauseOf (d + 92) [vR r0] h Q := by
  refine ct_enter (L0 := [some (vR r0), none]) rfl rfl ?_
  unfold mX8_clauseOf at hm
  obtain ⟨o101, hm⟩ := hm
  refine wc_aload_n (pc := 0) (dAt dtX8_clauseOf 0 rfl) rfl (wc_callV (k := 8) (y' := tX8_next) (av := []) (st := []) (pc := 1) (dAt dtX8_clauseOf 1 rfl) lkX8_115 moX8_next q829 qs7 (by decide) o101 rfl rfl (Nat.le_of_ble_eq_true rfl) (wX8_next hg hm) (kr_N (fun h102 hm => ?_)) (kx_N rfl))
  obtain ⟨o103, hm⟩ := hm
  refine wc_aload_n (pc := 4) (dAt dtX8_clauseOf 2 rfl) rfl (wc_iconst (pc := 5) (dAt dtX8_clauseOf 3 rfl) ⟨by decide, by decide⟩ (wc_callV (k := 8) (y' := tX8_expression) (av := [vI 0]) (st := []) (pc := 6) (dAt dtX8_clauseOf 4 rfl) lkX8_149 moX8_expression q1300 qs21 (by decide) o103 rfl rfl (Nat.le_of_ble_eq_true rfl) (hEx hg hm) (kr_R (fun r105 h104 hm => ?_)) (kx_R rfl)))
  obtain ⟨o106, hm⟩ := hm
  refine wc_astore_n (pc := 9) (dAt dtX8_clauseOf 5 rfl) (by decide) (wc_L (L' := [some (vR r0), some (vR r105)]) rfl (wc_aload_n (pc := 10) (dAt dtX8_clauseOf 6 rfl) rfl (wc_bipush (pc := 11) (dAt dtX8_clauseOf 7 rfl) ⟨by decide, by decide, by decide⟩ (wc_callV (k := 8) (y' := tX8_need) (av := [vI 59]) (st := []) (pc := 13) (dAt dtX8_clauseOf 8 rfl) lkX8_153 moX8_need q1288 qs18 (by decide) o106 rfl rfl (Nat.le_of_ble_eq_true rfl) (wX8_need hg hm) (kr_N (fun h107 hm => ?_)) (kx_N rfl)))))
  exact wc_aload_n (pc := 16) (dAt dtX8_clauseOf 9 rfl) rfl (wc_aret (pc := 17) (dAt dtX8_clauseOf 10 rfl) rfl (Or.inl ⟨_, rfl⟩) hm)
def tX17_init : Mt := (⟨"FlyingDoctors$Dose", "<init>", "(II)V"⟩, prog_6_method_1_code, 3, (Option.none : Option Jvm.ClassFile.FieldType), [])
def DX17_init : List (Nat × Instr × Nat) := [(0, .aload_n 0, 1), (1, .invokespecial 3, 3), (4, .aload_n 0, 1), (5, .iload_n 1, 1), (6, .putfield 9, 3), (9, .aload_n 0, 1), (10, .iload_n 2, 1), (11, .putfield 15, 3), (14, .return_, 1)]
theorem dtX17_init : chkD (mB tX17_init) DX17_init = true := by decide +kernel
theorem moX17_init : MethOk tX17_init 2 := ⟨Or.inl ⟨rfl, q1439⟩, by decide +kernel, ⟨by decide, by decide⟩, by decide +kernel⟩
def mX17_init (r0 : Nat) (x1 : Int) (x2 : Int) (h : Hp) (Q : Rs → Hp → Prop) : Prop := 50 ≤ r0 ∧ ob h r0 17 ∧ ∀ h103 : Hp, h103 = sI h r0 0 x1 → ∀ h104 : Hp, h104 = sI h103 r0 1 x2 → Q rN h104
theorem wX17_init {G : Gx} (hg : gF G = true) {d : Nat} {r0 : Nat} {x1 : Int} {x2 : Int} {h : Hp} {Q : Rs → Hp → Prop} (hm : mX17_init r0 x1 x2 h Q) : Ct G tX17_init (d + 1) [vR r0, vI x1, vI x2] h Q := by
  refine ct_enter (L0 := [some (vR r0), some (vI x1), some (vI x2)]) rfl rfl ?_
  unfold mX17_init at hm
  obtain ⟨o101, o102, hm⟩ := hm
  obtain ⟨h103, eh103⟩ : ∃ h103 : Hp, h103 = sI h r0 0 x1 := ⟨_, rfl⟩
  replace hm := hm h103 eh103
  obtain ⟨h104, eh104⟩ : ∃ h104 : Hp, h104 = sI h103 r0 1 x2 := ⟨_, rfl⟩
  replace hm := hm h104 eh104
  exact wc_aload_n (pc := 0) (dAt dtX17_init 0 rfl) rfl (wc_obj (pc := 1) (dAt dtX17_init 1 rfl) q1440 q180 q181 o101 (Nat.le_of_ble_eq_true rfl) (wc_aload_n (pc := 4) (dAt dtX17_init 2 rfl) rfl (wc_iload_n (pc := 5) (dAt dtX17_init 3 rfl) rfl (wc_putI (pc := 6) (dAt dtX17_init 4 rfl) flX17_9_17 (Or.inr ⟨rfl, rfl, rfl⟩) rfl o102 o101 (okI_int _) (wc_hp eh103 (wc_aload_n (pc := 9) (dAt dtX17_init 5 rfl) rfl (wc_iload_n (pc := 10) (dAt dtX17_init 6 rfl) rfl (wc_putI (pc := 11) (dAt dtX17_init 7 rfl) flX17_15_17 (Or.inr ⟨rfl, rfl, rfl⟩) rfl (ob_sI eh103 o102) o101 (okI_int _) (wc_hp eh104 (wc_vret (pc := 14) (dAt dtX17_init 8 rfl) rfl hm))))))))))
def tX8_chest : Mt := (⟨"FlyingDoctors$Reader", "chest", "(LFlyingDoctors$Rules;)V"⟩, prog_16_method_24_code, 4, (Option.none : Option Jvm.ClassFile.FieldType), [])
def DX8_chest : List (Nat × Instr × Nat) := [(0, .aload_n 0, 1), (1, .invokevirtual 115, 3), (4, .aload_n 0, 1), (5, .aload_n 0, 1), (6, .getfield 47, 3), (9, .iconst 2, 1), (10, .if_icmp .ne 7, 3), (13, .iconst 1, 1), (14, .goto 4, 3), (17, .iconst 0, 1), (18, .invokevirtual 111, 3), (21, .aload_n 0, 1), (22, .getfield 75, 3), (25, .aload_n 0, 1), (26, .getfield 44, 3), (29, .isub, 1), (30, .iconst 5, 1), (31, .if_icmp .gt 16, 3), (34, .aload_n 0, 1), (35, .getfield 57, 3), (38, .iconst 1, 1), (39, .bipush 30, 2), (41, .invokestatic 40, 3), (44, .ifCond .ne 12, 3), (47, .new 102, 3), (50, .dup, 1), (51, .iconst 2, 1), (52, .invokespecial 104, 3), (55, .athrow, 1), (56, .aload_n 0, 1), (57, .getfield 57, 3), (60, .istore_n 2, 1), (61, .aload_n 0, 1), (62, .invokevirtual 115, 3), (65, .aload_n 0, 1), (66, .aload_n 0, 1), (67, .ldc 217, 2), (69, .invokevirtual 126, 3), (72, .ifCond .ne 21, 3), (75, .aload_n 0, 1), (76, .ldc 219, 2), (78, .invokevirtual 126, 3), (81, .ifCond .ne 12, 3), (84, .aload_n 0, 1), (85, .ldc 221, 2), (87, .invokevirtual 126, 3), (90, .ifCond .eq 7, 3), (93, .iconst 1, 1), (94, .goto 4, 3), (97, .iconst 0, 1), (98, .invokevirtual 111, 3), (101, .new 223, 3), (104, .dup, 1), (105, .iload_n 2, 1), (106, .aload_n 0, 1), (107, .ldc 217, 2), (109, .invokevirtual 126, 3), (112, .ifCond .eq 7, 3), (115, .iconst 0, 1), (116, .goto 17, 3), (119, .aload_n 0, 1), (120, .ldc 219, 2), (122, .invokevirtual 126, 3), (125, .ifCond .eq 7, 3), (128, .iconst 1, 1), (129, .goto 4, 3), (132, .iconst (-1), 1), (133, .invokespecial 225, 3), (136, .astore_n 3, 1), (137, .aload_n 0, 1), (138, .invokevirtual 115, 3), (141, .aload_n 0, 1), (142, .ldc 228, 2), (144, .invokevirtual 126, 3), (147, .ifCond .eq 16, 3), (150, .aload_n 0, 1), (151, .invokevirtual 115, 3), (154, .aload_n 3, 1), (155, .aload_n 0, 1), (156, .iconst 0, 1), (157, .invokevirtual 149, 3), (160, .putfield 230, 3), (163, .aload_n 0, 1), (164, .bipush 59, 2), (166, .invokevirtual 153, 3), (169, .aload_n 1, 1), (170, .getfield 234, 3), (173, .aload_n 3, 1), (174, .invokeinterface 215 2, 5), (179, .pop, 1), (180, .return_, 1)]
theorem dtX8_chest : chkD (mB tX8_chest) DX8_chest = true := by decide +kernel
theorem moX8_chest : MethOk tX8_chest 1 := ⟨Or.inl ⟨rfl, q1431⟩, by decide +kernel, ⟨by decide, by decide⟩, by decide +kernel⟩
def mX8_chest (r0 : Nat) (r1 : Nat) (h : Hp) (Q : Rs → Hp → Prop) : Prop := ob h r0 8 ∧ mX8_next r0 h (kN Q (fun h102 => ob h102 r0 8 ∧ ∀ v104 : Int, v104 = (b2i (¬ ((hI h102 r0 4) ≠ 2))) → mX8_want r0 v104 h102 (kN Q (fun h105 => ob h105 r0 8 ∧ nm ((hI h105 r0 6) - (hI h105 r0 5)) ∧ if (5 < ((hI h105 r0 6) - (hI h105 r0 5))) ∨ (¬ ((vX1_in (hI h105 r0 7) 1 30 h105) ≠ 0)) then hn h105 + 1 ≤ 878547 ∧ hq h105 + 7 ≤ 6460613 ∧ ∀ r112 : Nat, r112 = hn h105 → ∀ h113 : Hp, h113 = nw h105 9 0 7 → mX9_init r112 2 h113 (kN Q (fun h114 => ob h114 r112 9 ∧ Q (rX r112) h114)) else ∀ v116 : Int, v116 = (hI h105 r0 7) → mX8_next r0 h105 (kN Q (fun h117 => ob h117 r0 8 ∧ mX8_is r0 23 h117 (kI Q (fun x120 h119 => jn (fun (h123 : Hp) => ob h123 r0 8 ∧ mX8_want r0 1 h123 (kN Q (fun h185 => hn h185 + 1 ≤ 878547 ∧ hq h185 + 3 ≤ 6460613 ∧ ∀ r189 : Nat, r189 = hn h185 → ∀ h190 : Hp, h190 = nw h185 17 0 3 → ob h190 r0 8 ∧ mX8_is r0 23 h190 (kI Q (fun x193 h192 => jn (fun (x198 : Int) (h196 : Hp) => mX17_init r189 v116 x198 h196 (kN Q (fun h212 => ob h212 r0 8 ∧ mX8_next r0 h212 (kN Q (fun h214 => ob h214 r0 8 ∧ mX8_is r0 26 h214 (kI Q (fun x217 h216 => jn (fun (h220 : Hp) => ob h220 r0 8 ∧ mX8_need r0 59 h220 (kN Q (fun h230 => ob h230 r1 2 ∧ ob h230 (hR h230 r1 2) 32 ∧ mJ2_add (hR h230 r1 2) r189 h230 (kI Q (fun x234 h233 => Q rN h233))))) (fun K218 => if ¬ (x217 = 0) then ob h216 r0 8 ∧ mX8_next r0 h216 (kN Q (fun h223 => ob h223 r0 8 ∧ mEx 7 r0 0 h223 (kR Q (fun r226 h225 => ob h225 r189 17 ∧ ∀ h228 : Hp, h228 = sR h225 r189 2 r226 → K218 h228)))) else K218 h216)))))))) (fun K194 => if ¬ (x193 = 0) then K194 0 h192 else ob h192 r0 8 ∧ mX8_is r0 24 h192 (kI Q (fun x201 h200 => ∀ v202 : Int, v202 = (if ¬ (x201 = 0) then 1 else (-1)) → K194 v202 h200)))))))) (fun K121 => if ¬ (x120 ≠ 0) then ob h119 r0 8 ∧ mX8_is r0 24 h119 (kI Q (fun x127 h126 => if ¬ (x127 ≠ 0) then ob h126 r0 8 ∧ mX8_is r0 25 h126 (kI Q (fun x131 h130 => if ¬ (x131 = 0) then K121 h130 else ob h130 r0 8 ∧ mX8_want r0 0 h130 (kN Q (fun h134 => hn h134 + 1 ≤ 878547 ∧ hq h134 + 3 ≤ 6460613 ∧ ∀ r138 : Nat, r138 = hn h134 → ∀ h139 : Hp, h139 = nw h134 17 0 3 → ob h139 r0 8 ∧ mX8_is r0 23 h139 (kI Q (fun x142 h141 => jn (fun (x147 : Int) (h145 : Hp) => mX17_init r138 v116 x147 h145 (kN Q (fun h161 => ob h161 r0 8 ∧ mX8_next r0 h161 (kN Q (fun h163 => ob h163 r0 8 ∧ mX8_is r0 26 h163 (kI Q (fun x166 h165 => jn (fun (h169 : Hp) => ob h169 r0 8 ∧ mX8_need r0 59 h169 (kN Q (fun h179 => ob h179 r1 2 ∧ ob h179 (hR h179 r1 2) 32 ∧ mJ2_add (hR h179 r1 2) r138 h179 (kI Q (fun x183 h182 => Q rN h182))))) (fun K167 => if ¬ (x166 = 0) then ob h165 r0 8 ∧ mX8_next r0 h165 (kN Q (fun h172 => ob h172 r0 8 ∧ mEx 7 r0 0 h172 (kR Q (fun r175 h174 => ob h174 r138 17 ∧ ∀ h177 : Hp, h177 = sR h174 r138 2 r175 → K167 h177)))) else K167 h165)))))))) (fun K143 => if ¬ (x142 = 0) then K143 0 h141 else ob h141 r0 8 ∧ mX8_is r0 24 h141 (kI Q (fun x150 h149 => ∀ v151 : Int, v151 = (if ¬ (x150 = 0) then 1 else (-1)) → K143 v151 h149))))))))) else K121 h126)) else K121 h119)))))))))
theorem wX8_chest {G : Gx} (hg : gF G = true) {d : Nat} {r0 : Nat} {r1 : Nat} {h : Hp} {Q : Rs → Hp → Prop} (hm : mX8_chest r0 r1 h Q) : Ct G tX8_chest (d + 92) [vR r0, vR r1] h Q := by
  refine ct_enter (L0 := [some (vR r0), some (vR r1), none, none]) rfl rfl ?_
  unfold mX8_chest at hm
  obtain ⟨o101, hm⟩ := hm
  refine wc_aload_n (pc := 0) (dAt dtX8_chest 0 rfl) rfl (wc_callV (k := 8) (y' := tX8_next) (av := []) (st := []) (pc := 1) (dAt dtX8_chest 1 rfl) lkX8_115 moX8_next q829 qs7 (by decide) o101 rfl rfl (Nat.le_of_ble_eq_true rfl) (wX8_next hg hm) (kr_N (fun h102 hm => ?_)) (kx_N rfl))
  obtain ⟨o103, hm⟩ := hm
  obtain ⟨v104, ev104⟩ : ∃ v104 : Int, v104 = (b2i (¬ ((hI h102 r0 4) ≠ 2))) := ⟨_, rfl⟩
  replace hm := hm v104 ev104
  refine wc_aload_n (pc := 4) (dAt dtX8_chest 2 rfl) rfl (wc_aload_n (pc := 5) (dAt dtX8_chest 3 rfl) rfl (wc_getI (pc := 6) (dAt dtX8_chest 4 rfl) flX8_47_8 rfl o103 (wc_iconst (pc := 9) (dAt dtX8_chest 5 rfl) ⟨by decide, by decide⟩ (?_))))
  have kj239 : Wc G tX8_chest (d + 92) h Q 18 [some (vR r0), some (vR r1), none, none] [vI v104, vR r0] h102 := by
    refine wc_callV (k := 8) (y' := tX8_want) (av := [vI v104]) (st := []) (pc := 18) (dAt dtX8_chest 10 rfl) lkX8_111 moX8_want q963 qs13 (by decide) o103 rfl rfl (Nat.le_of_ble_eq_true rfl) (wX8_want hg hm) (kr_N (fun h105 hm => ?_)) (kx_N rfl)
    obtain ⟨o106, o107, hm⟩ := hm
    refine wc_aload_n (pc := 21) (dAt dtX8_chest 11 rfl) rfl (wc_getI (pc := 22) (dAt dtX8_chest 12 rfl) flX8_75_8 rfl o106 (wc_aload_n (pc := 25) (dAt dtX8_chest 13 rfl) rfl (wc_getI (pc := 26) (dAt dtX8_chest 14 rfl) flX8_44_8 rfl o106 (wc_isub (pc := 29) (dAt dtX8_chest 15 rfl) o107 (wc_iconst (pc := 30) (dAt dtX8_chest 16 rfl) ⟨by decide, by decide⟩ (?_))))))
    have k235 : ((5 < ((hI h105 r0 6) - (hI h105 r0 5))) ∨ (¬ ((vX1_in (hI h105 r0 7) 1 30 h105) ≠ 0))) → Wc G tX8_chest (d + 92) h Q 47 [some (vR r0), some (vR r1), none, none] [] h105 := fun c108 => by
      replace hm := ite_t c108 hm
      obtain ⟨o109, o110, hm⟩ := hm
      obtain ⟨r112, er112⟩ : ∃ r112 : Nat, r112 = hn h105 := ⟨_, rfl⟩
      replace hm := hm r112 er112
      obtain ⟨h113, eh113⟩ : ∃ h113 : Hp, h113 = nw h105 9 0 7 := ⟨_, rfl⟩
      replace hm := hm h113 eh113
      refine wc_k0 fun n111 => (wc_new (k := 9) (pc := 47) (dAt dtX8_chest 24 rfl) q965 q966 q154 (by decide) o109 o110 (wc_hp eh113 (wc_vr er112 (wc_dup (pc := 50) (dAt dtX8_chest 25 rfl) rfl (wc_iconst (pc := 51) (dAt dtX8_chest 26 rfl) ⟨by decide, by decide⟩ (wc_callI (y' := tX9_init) (av := [vI 2]) (st := [vR r112]) (pc := 52) (dAt dtX8_chest 27 rfl) lkX8_104 moX9_init q975 rfl q976 (k0_at er112 n111) rfl rfl (Nat.le_of_ble_eq_true rfl) (wX9_init hg hm) (kr_N (fun h114 hm => ?_)) (kx_N rfl)))))))
      obtain ⟨o115, hm⟩ := hm
      exact wc_athrow (pc := 55) (dAt dtX8_chest 28 rfl) (by decide) o115 rfl hm
    have k236 : ¬ ((5 < ((hI h105 r0 6) - (hI h105 r0 5))) ∨ (¬ ((vX1_in (hI h105 r0 7) 1 30 h105) ≠ 0))) → Wc G tX8_chest (d + 92) h Q 56 [some (vR r0), some (vR r1), none, none] [] h105 := fun c108 => by
      replace hm := ite_f c108 hm
      obtain ⟨v116, ev116⟩ : ∃ v116 : Int, v116 = (hI h105 r0 7) := ⟨_, rfl⟩
      replace hm := hm v116 ev116
      refine wc_aload_n (pc := 56) (dAt dtX8_chest 29 rfl) rfl (wc_getI (pc := 57) (dAt dtX8_chest 30 rfl) flX8_57_8 rfl o106 (wc_vi ev116 (wc_istore_n (pc := 60) (dAt dtX8_chest 31 rfl) (by decide) (wc_L (L' := [some (vR r0), some (vR r1), some (vI v116), none]) rfl (wc_aload_n (pc := 61) (dAt dtX8_chest 32 rfl) rfl (wc_callV (k := 8) (y' := tX8_next) (av := []) (st := []) (pc := 62) (dAt dtX8_chest 33 rfl) lkX8_115 moX8_next q829 qs7 (by decide) o106 rfl rfl (Nat.le_of_ble_eq_true rfl) (wX8_next hg hm) (kr_N (fun h117 hm => ?_)) (kx_N rfl)))))))
      obtain ⟨o118, hm⟩ := hm
      refine wc_aload_n (pc := 65) (dAt dtX8_chest 34 rfl) rfl (wc_aload_n (pc := 66) (dAt dtX8_chest 35 rfl) rfl (wc_ldcS (a := 23) (tx := "doctor") (pc := 67) (dAt dtX8_chest 36 rfl) (by decide +kernel) (by decide) (wc_callV (k := 8) (y' := tX8_is) (av := [vR 23]) (st := [vR r0]) (pc := 69) (dAt dtX8_chest 37 rfl) lkX8_126 moX8_is q936 qs12 (by decide) o118 rfl rfl (Nat.le_of_ble_eq_true rfl) (wX8_is hg hm) (kr_I (fun x120 h119 hm => ?_)) (kx_I rfl))))
      refine jn1_ind (P := fun (h123 : Hp) => Wc G tX8_chest (d + 92) h Q 93 [some (vR r0), some (vR r1), some (vI v116), none] [vR r0] h123) (fun h123 hm => ?_) (fun K121 kj122 hm => ?_) hm
      · obtain ⟨o184, hm⟩ := hm
        refine wc_iconst (pc := 93) (dAt dtX8_chest 47 rfl) ⟨by decide, by decide⟩ (wc_goto (pc := 94) (tgt := 98) (dAt dtX8_chest 48 rfl) (by decide) (wc_callV (k := 8) (y' := tX8_want) (av := [vI 1]) (st := []) (pc := 98) (dAt dtX8_chest 50 rfl) lkX8_111 moX8_want q963 qs13 (by decide) o184 rfl rfl (Nat.le_of_ble_eq_true rfl) (wX8_want hg hm) (kr_N (fun h185 hm => ?_)) (kx_N rfl)))
        obtain ⟨o186, o187, hm⟩ := hm
        obtain ⟨r189, er189⟩ : ∃ r189 : Nat, r189 = hn h185 := ⟨_, rfl⟩
        replace hm := hm r189 er189
        obtain ⟨h190, eh190⟩ : ∃ h190 : Hp, h190 = nw h185 17 0 3 := ⟨_, rfl⟩
        replace hm := hm h190 eh190
        obtain ⟨o191, hm⟩ := hm
        refine wc_k0 fun n188 => (wc_new (k := 17) (pc := 101) (dAt dtX8_chest 51 rfl) q1435 q1436 q166 (by decide) o186 o187 (wc_hp eh190 (wc_vr er189 (wc_dup (pc := 104) (dAt dtX8_chest 52 rfl) rfl (wc_iload_n (pc := 105) (dAt dtX8_chest 53 rfl) rfl (wc_aload_n (pc := 106) (dAt dtX8_chest 54 rfl) rfl (wc_ldcS (a := 23) (tx := "doctor") (pc := 107) (dAt dtX8_chest 55 rfl) (by decide +kernel) (by decide) (wc_callV (k := 8) (y' := tX8_is) (av := [vR 23]) (st := [vI v116, vR r189, vR r189]) (pc := 109) (dAt dtX8_chest 56 rfl) lkX8_126 moX8_is q936 qs12 (by decide) o191 rfl rfl (Nat.le_of_ble_eq_true rfl) (wX8_is hg hm) (kr_I (fun x193 h192 hm => ?_)) (kx_I rfl)))))))))
        refine jn2_ind (P := fun (x198 : Int) (h196 : Hp) => Wc G tX8_chest (d + 92) h Q 133 [some (vR r0), some (vR r1), none, none] [vI x198, vI v116, vR r189, vR r189] h196) (fun x198 h196 hm => ?_) (fun K194 kj195 hm => ?_) hm
        · refine wc_callI (y' := tX17_init) (av := [vI v116, vI x198]) (st := [vR r189]) (pc := 133) (dAt dtX8_chest 67 rfl) lkX8_225 moX17_init q1438 rfl q1439 (k0_at er189 n188) rfl rfl (Nat.le_of_ble_eq_true rfl) (wX17_init hg hm) (kr_N (fun h212 hm => ?_)) (kx_N rfl)
          obtain ⟨o213, hm⟩ := hm
          refine wc_astore_n (pc := 136) (dAt dtX8_chest 68 rfl) (by decide) (wc_L (L' := [some (vR r0), some (vR r1), none, some (vR r189)]) rfl (wc_aload_n (pc := 137) (dAt dtX8_chest 69 rfl) rfl (wc_callV (k := 8) (y' := tX8_next) (av := []) (st := []) (pc := 138) (dAt dtX8_chest 70 rfl) lkX8_115 moX8_next q829 qs7 (by decide) o213 rfl rfl (Nat.le_of_ble_eq_true rfl) (wX8_next hg hm) (kr_N (fun h214 hm => ?_)) (kx_N rfl))))
          obtain ⟨o215, hm⟩ := hm
          refine wc_aload_n (pc := 141) (dAt dtX8_chest 71 rfl) rfl (wc_ldcS (a := 26) (tx := "if") (pc := 142) (dAt dtX8_chest 72 rfl) (by decide +kernel) (by decide) (wc_callV (k := 8) (y' := tX8_is) (av := [vR 26]) (st := []) (pc := 144) (dAt dtX8_chest 73 rfl) lkX8_126 moX8_is q936 qs12 (by decide) o215 rfl rfl (Nat.le_of_ble_eq_true rfl) (wX8_is hg hm) (kr_I (fun x217 h216 hm => ?_)) (kx_I rfl)))
          refine jn1_ind (P := fun (h220 : Hp) => Wc G tX8_chest (d + 92) h Q 163 [some (vR r0), some (vR r1), none, some (vR r189)] [] h220) (fun h220 hm => ?_) (fun K218 kj219 hm => ?_) hm
          · obtain ⟨o229, hm⟩ := hm
            refine wc_aload_n (pc := 163) (dAt dtX8_chest 82 rfl) rfl (wc_bipush (pc := 164) (dAt dtX8_chest 83 rfl) ⟨by decide, by decide, by decide⟩ (wc_callV (k := 8) (y' := tX8_need) (av := [vI 59]) (st := []) (pc := 166) (dAt dtX8_chest 84 rfl) lkX8_153 moX8_need q1288 qs18 (by decide) o229 rfl rfl (Nat.le_of_ble_eq_true rfl) (wX8_need hg hm) (kr_N (fun h230 hm => ?_)) (kx_N rfl)))
            obtain ⟨o231, o232, hm⟩ := hm
            refine wc_aload_n (pc := 169) (dAt dtX8_chest 85 rfl) rfl (wc_getR (pc := 170) (dAt dtX8_chest 86 rfl) flX8_234_2 rfl o231 (wc_aload_n (pc := 173) (dAt dtX8_chest 87 rfl) rfl (wc_callF (k := 32) (x := ⟨"java/util/List", "add", "(Ljava/lang/Object;)Z"⟩) (y' := tJ2_add) (av := [vR r189]) (st := []) (pc := 174) (dAt dtX8_chest 88 rfl) q1285 q424 q423 ⟨by decide, by decide⟩ moJ2_add rfl q427 q428 q426 q367 q425 (by decide) o232 rfl rfl (Nat.le_of_ble_eq_true rfl) (wJ2_add hg hm) (kr_I (fun x234 h233 hm => ?_)) (kx_I rfl))))
            exact wc_pop (pc := 179) (dAt dtX8_chest 89 rfl) rfl (wc_vret (pc := 180) (dAt dtX8_chest 90 rfl) rfl hm)
          · refine wc_if_eq (pc := 147) (tgt := 163) (dAt dtX8_chest 74 rfl) (by decide) (fun c221 => ?_) (fun c221 => ?_)
            · replace hm := ite_f (fun z => z c221) hm
              exact kj219 _ hm
            · replace hm := ite_t c221 hm
              obtain ⟨o222, hm⟩ := hm
              refine wc_aload_n (pc := 150) (dAt dtX8_chest 75 rfl) rfl (wc_callV (k := 8) (y' := tX8_next) (av := []) (st := []) (pc := 151) (dAt dtX8_chest 76 rfl) lkX8_115 moX8_next q829 qs7 (by decide) o222 rfl rfl (Nat.le_of_ble_eq_true rfl) (wX8_next hg hm) (kr_N (fun h223 hm => ?_)) (kx_N rfl))
              obtain ⟨o224, hm⟩ := hm
              refine wc_aload_n (pc := 154) (dAt dtX8_chest 77 rfl) rfl (wc_aload_n (pc := 155) (dAt dtX8_chest 78 rfl) rfl (wc_iconst (pc := 156) (dAt dtX8_chest 79 rfl) ⟨by decide, by decide⟩ (wc_callV (k := 8) (y' := tX8_expression) (av := [vI 0]) (st := [vR r189]) (pc := 157) (dAt dtX8_chest 80 rfl) lkX8_149 moX8_expression q1300 qs21 (by decide) o224 rfl rfl (Nat.le_of_ble_eq_true rfl) (hEx hg hm) (kr_R (fun r226 h225 hm => ?_)) (kx_R rfl))))
              obtain ⟨o227, hm⟩ := hm
              obtain ⟨h228, eh228⟩ : ∃ h228 : Hp, h228 = sR h225 r189 2 r226 := ⟨_, rfl⟩
              replace hm := hm h228 eh228
              exact wc_putR (pc := 160) (dAt dtX8_chest 81 rfl) flX8_230_17 (Or.inl rfl) rfl o227 (k0_at er189 n188) (fun _ => ⟨by decide, by decide, by decide⟩) (wc_hp eh228 (kj219 _ hm))
        · refine wc_if_eq (pc := 112) (tgt := 119) (dAt dtX8_chest 57 rfl) (by decide) (fun c197 => ?_) (fun c197 => ?_)
          · replace hm := ite_f (fun z => z c197) hm
            obtain ⟨o199, hm⟩ := hm
            refine wc_aload_n (pc := 119) (dAt dtX8_chest 60 rfl) rfl (wc_ldcS (a := 24) (tx := "nurse") (pc := 120) (dAt dtX8_chest 61 rfl) (by decide +kernel) (by decide) (wc_callV (k := 8) (y' := tX8_is) (av := [vR 24]) (st := [vI v116, vR r189, vR r189]) (pc := 122) (dAt dtX8_chest 62 rfl) lkX8_126 moX8_is q936 qs12 (by decide) o199 rfl rfl (Nat.le_of_ble_eq_true rfl) (wX8_is hg hm) (kr_I (fun x201 h200 hm => ?_)) (kx_I rfl)))
            obtain ⟨v202, ev202⟩ : ∃ v202 : Int, v202 = (if ¬ (x201 = 0) then 1 else (-1)) := ⟨_, rfl⟩
            replace hm := hm v202 ev202
            have kj203 : Wc G tX8_chest (d + 92) h Q 133 [some (vR r0), some (vR r1), none, none] [vI v202, vI v116, vR r189, vR r189] h200 := by
              exact kj195 _ _ hm
            have k204 : (¬ (x201 = 0)) → Wc G tX8_chest (d + 92) h Q 128 [some (vR r0), some (vR r1), some (vI v116), none] [vI v116, vR r189, vR r189] h200 := fun c206 => by
              have z207 := kj203
              rw [show v202 = 1 from ev202.trans (if_pos c206)] at z207
              exact wc_iconst (pc := 128) (dAt dtX8_chest 64 rfl) ⟨by decide, by decide⟩ (wc_goto (pc := 129) (tgt := 133) (dAt dtX8_chest 65 rfl) (by decide) (wc_drp [2] rfl (z207)))
            have k205 : ¬ (¬ (x201 = 0)) → Wc G tX8_chest (d + 92) h Q 132 [some (vR r0), some (vR r1), some (vI v116), none] [vI v116, vR r189, vR r189] h200 := fun c206 => by
              have z209 := kj203
              rw [show v202 = (-1) from ev202.trans (if_neg c206)] at z209
              exact wc_iconst (pc := 132) (dAt dtX8_chest 66 rfl) ⟨by decide, by decide⟩ (wc_drp [2] rfl (z209))
            exact wc_if_eq (pc := 125) (tgt := 132) (dAt dtX8_chest 63 rfl) (by decide) (fun c211 => (k205 (fun z => z c211))) (fun c211 => (k204 c211))
          · replace hm := ite_t c197 hm
            exact wc_iconst (pc := 115) (dAt dtX8_chest 58 rfl) ⟨by decide, by decide⟩ (wc_goto (pc := 116) (tgt := 133) (dAt dtX8_chest 59 rfl) (by decide) (wc_drp [2] rfl (kj195 _ _ hm)))
      · refine wc_if_ne (pc := 72) (tgt := 93) (dAt dtX8_chest 38 rfl) (by decide) (fun c124 => ?_) (fun c124 => ?_)
        · replace hm := ite_f (fun z => z c124) hm
          exact kj122 _ hm
        · replace hm := ite_t c124 hm
          obtain ⟨o125, hm⟩ := hm
          refine wc_aload_n (pc := 75) (dAt dtX8_chest 39 rfl) rfl (wc_ldcS (a := 24) (tx := "nurse") (pc := 76) (dAt dtX8_chest 40 rfl) (by decide +kernel) (by decide) (wc_callV (k := 8) (y' := tX8_is) (av := [vR 24]) (st := [vR r0]) (pc := 78) (dAt dtX8_chest 41 rfl) lkX8_126 moX8_is q936 qs12 (by decide) o125 rfl rfl (Nat.le_of_ble_eq_true rfl) (wX8_is hg hm) (kr_I (fun x127 h126 hm => ?_)) (kx_I rfl)))
          refine wc_if_ne (pc := 81) (tgt := 93) (dAt dtX8_chest 42 rfl) (by decide) (fun c128 => ?_) (fun c128 => ?_)
          · replace hm := ite_f (fun z => z c128) hm
            exact kj122 _ hm
          · replace hm := ite_t c128 hm
            obtain ⟨o129, hm⟩ := hm
            refine wc_aload_n (pc := 84) (dAt dtX8_chest 43 rfl) rfl (wc_ldcS (a := 25) (tx := "any") (pc := 85) (dAt dtX8_chest 44 rfl) (by decide +kernel) (by decide) (wc_callV (k := 8) (y' := tX8_is) (av := [vR 25]) (st := [vR r0]) (pc := 87) (dAt dtX8_chest 45 rfl) lkX8_126 moX8_is q936 qs12 (by decide) o129 rfl rfl (Nat.le_of_ble_eq_true rfl) (wX8_is hg hm) (kr_I (fun x131 h130 hm => ?_)) (kx_I rfl)))
            refine wc_if_eq (pc := 90) (tgt := 97) (dAt dtX8_chest 46 rfl) (by decide) (fun c132 => ?_) (fun c132 => ?_)
            · replace hm := ite_f (fun z => z c132) hm
              obtain ⟨o133, hm⟩ := hm
              refine wc_iconst (pc := 97) (dAt dtX8_chest 49 rfl) ⟨by decide, by decide⟩ (wc_callV (k := 8) (y' := tX8_want) (av := [vI 0]) (st := []) (pc := 98) (dAt dtX8_chest 50 rfl) lkX8_111 moX8_want q963 qs13 (by decide) o133 rfl rfl (Nat.le_of_ble_eq_true rfl) (wX8_want hg hm) (kr_N (fun h134 hm => ?_)) (kx_N rfl))
              obtain ⟨o135, o136, hm⟩ := hm
              obtain ⟨r138, er138⟩ : ∃ r138 : Nat, r138 = hn h134 := ⟨_, rfl⟩
              replace hm := hm r138 er138
              obtain ⟨h139, eh139⟩ : ∃ h139 : Hp, h139 = nw h134 17 0 3 := ⟨_, rfl⟩
              replace hm := hm h139 eh139
              obtain ⟨o140, hm⟩ := hm
              refine wc_k0 fun n137 => (wc_new (k := 17) (pc := 101) (dAt dtX8_chest 51 rfl) q1435 q1436 q166 (by decide) o135 o136 (wc_hp eh139 (wc_vr er138 (wc_dup (pc := 104) (dAt dtX8_chest 52 rfl) rfl (wc_iload_n (pc := 105) (dAt dtX8_chest 53 rfl) rfl (wc_aload_n (pc := 106) (dAt dtX8_chest 54 rfl) rfl (wc_ldcS (a := 23) (tx := "doctor") (pc := 107) (dAt dtX8_chest 55 rfl) (by decide +kernel) (by decide) (wc_callV (k := 8) (y' := tX8_is) (av := [vR 23]) (st := [vI v116, vR r138, vR r138]) (pc := 109) (dAt dtX8_chest 56 rfl) lkX8_126 moX8_is q936 qs12 (by decide) o140 rfl rfl (Nat.le_of_ble_eq_true rfl) (wX8_is hg hm) (kr_I (fun x142 h141 hm => ?_)) (kx_I rfl)))))))))
              refine jn2_ind (P := fun (x147 : Int) (h145 : Hp) => Wc G tX8_chest (d + 92) h Q 133 [some (vR r0), some (vR r1), none, none] [vI x147, vI v116, vR r138, vR r138] h145) (fun x147 h145 hm => ?_) (fun K143 kj144 hm => ?_) hm
              · refine wc_callI (y' := tX17_init) (av := [vI v116, vI x147]) (st := [vR r138]) (pc := 133) (dAt dtX8_chest 67 rfl) lkX8_225 moX17_init q1438 rfl q1439 (k0_at er138 n137) rfl rfl (Nat.le_of_ble_eq_true rfl) (wX17_init hg hm) (kr_N (fun h161 hm => ?_)) (kx_N rfl)
                obtain ⟨o162, hm⟩ := hm
                refine wc_astore_n (pc := 136) (dAt dtX8_chest 68 rfl) (by decide) (wc_L (L' := [some (vR r0), some (vR r1), none, some (vR r138)]) rfl (wc_aload_n (pc := 137) (dAt dtX8_chest 69 rfl) rfl (wc_callV (k := 8) (y' := tX8_next) (av := []) (st := []) (pc := 138) (dAt dtX8_chest 70 rfl) lkX8_115 moX8_next q829 qs7 (by decide) o162 rfl rfl (Nat.le_of_ble_eq_true rfl) (wX8_next hg hm) (kr_N (fun h163 hm => ?_)) (kx_N rfl))))
                obtain ⟨o164, hm⟩ := hm
                refine wc_aload_n (pc := 141) (dAt dtX8_chest 71 rfl) rfl (wc_ldcS (a := 26) (tx := "if") (pc := 142) (dAt dtX8_chest 72 rfl) (by decide +kernel) (by decide) (wc_callV (k := 8) (y' := tX8_is) (av := [vR 26]) (st := []) (pc := 144) (dAt dtX8_chest 73 rfl) lkX8_126 moX8_is q936 qs12 (by decide) o164 rfl rfl (Nat.le_of_ble_eq_true rfl) (wX8_is hg hm) (kr_I (fun x166 h165 hm => ?_)) (kx_I rfl)))
                refine jn1_ind (P := fun (h169 : Hp) => Wc G tX8_chest (d + 92) h Q 163 [some (vR r0), some (vR r1), none, some (vR r138)] [] h169) (fun h169 hm => ?_) (fun K167 kj168 hm => ?_) hm
                · obtain ⟨o178, hm⟩ := hm
                  refine wc_aload_n (pc := 163) (dAt dtX8_chest 82 rfl) rfl (wc_bipush (pc := 164) (dAt dtX8_chest 83 rfl) ⟨by decide, by decide, by decide⟩ (wc_callV (k := 8) (y' := tX8_need) (av := [vI 59]) (st := []) (pc := 166) (dAt dtX8_chest 84 rfl) lkX8_153 moX8_need q1288 qs18 (by decide) o178 rfl rfl (Nat.le_of_ble_eq_true rfl) (wX8_need hg hm) (kr_N (fun h179 hm => ?_)) (kx_N rfl)))
                  obtain ⟨o180, o181, hm⟩ := hm
                  refine wc_aload_n (pc := 169) (dAt dtX8_chest 85 rfl) rfl (wc_getR (pc := 170) (dAt dtX8_chest 86 rfl) flX8_234_2 rfl o180 (wc_aload_n (pc := 173) (dAt dtX8_chest 87 rfl) rfl (wc_callF (k := 32) (x := ⟨"java/util/List", "add", "(Ljava/lang/Object;)Z"⟩) (y' := tJ2_add) (av := [vR r138]) (st := []) (pc := 174) (dAt dtX8_chest 88 rfl) q1285 q424 q423 ⟨by decide, by decide⟩ moJ2_add rfl q427 q428 q426 q367 q425 (by decide) o181 rfl rfl (Nat.le_of_ble_eq_true rfl) (wJ2_add hg hm) (kr_I (fun x183 h182 hm => ?_)) (kx_I rfl))))
                  exact wc_pop (pc := 179) (dAt dtX8_chest 89 rfl) rfl (wc_vret (pc := 180) (dAt dtX8_chest 90 rfl) rfl hm)
                · refine wc_if_eq (pc := 147) (tgt := 163) (dAt dtX8_chest 74 rfl) (by decide) (fun c170 => ?_) (fun c170 => ?_)
                  · replace hm := ite_f (fun z => z c170) hm
                    exact kj168 _ hm
                  · replace hm := ite_t c170 hm
                    obtain ⟨o171, hm⟩ := hm
                    refine wc_aload_n (pc := 150) (dAt dtX8_chest 75 rfl) rfl (wc_callV (k := 8) (y' := tX8_next) (av := []) (st := []) (pc := 151) (dAt dtX8_chest 76 rfl) lkX8_115 moX8_next q829 qs7 (by decide) o171 rfl rfl (Nat.le_of_ble_eq_true rfl) (wX8_next hg hm) (kr_N (fun h172 hm => ?_)) (kx_N rfl))
                    obtain ⟨o173, hm⟩ := hm
                    refine wc_aload_n (pc := 154) (dAt dtX8_chest 77 rfl) rfl (wc_aload_n (pc := 155) (dAt dtX8_chest 78 rfl) rfl (wc_iconst (pc := 156) (dAt dtX8_chest 79 rfl) ⟨by decide, by decide⟩ (wc_callV (k := 8) (y' := tX8_expression) (av := [vI 0]) (st := [vR r138]) (pc := 157) (dAt dtX8_chest 80 rfl) lkX8_149 moX8_expression q1300 qs21 (by decide) o173 rfl rfl (Nat.le_of_ble_eq_true rfl) (hEx hg hm) (kr_R (fun r175 h174 hm => ?_)) (kx_R rfl))))
                    obtain ⟨o176, hm⟩ := hm
                    obtain ⟨h177, eh177⟩ : ∃ h177 : Hp, h177 = sR h174 r138 2 r175 := ⟨_, rfl⟩
                    replace hm := hm h177 eh177
                    exact wc_putR (pc := 160) (dAt dtX8_chest 81 rfl) flX8_230_17 (Or.inl rfl) rfl o176 (k0_at er138 n137) (fun _ => ⟨by decide, by decide, by decide⟩) (wc_hp eh177 (kj168 _ hm))
              · refine wc_if_eq (pc := 112) (tgt := 119) (dAt dtX8_chest 57 rfl) (by decide) (fun c146 => ?_) (fun c146 => ?_)
                · replace hm := ite_f (fun z => z c146) hm
                  obtain ⟨o148, hm⟩ := hm
                  refine wc_aload_n (pc := 119) (dAt dtX8_chest 60 rfl) rfl (wc_ldcS (a := 24) (tx := "nurse") (pc := 120) (dAt dtX8_chest 61 rfl) (by decide +kernel) (by decide) (wc_callV (k := 8) (y' := tX8_is) (av := [vR 24]) (st := [vI v116, vR r138, vR r138]) (pc := 122) (dAt dtX8_chest 62 rfl) lkX8_126 moX8_is q936 qs12 (by decide) o148 rfl rfl (Nat.le_of_ble_eq_true rfl) (wX8_is hg hm) (kr_I (fun x150 h149 hm => ?_)) (kx_I rfl)))
                  obtain ⟨v151, ev151⟩ : ∃ v151 : Int, v151 = (if ¬ (x150 = 0) then 1 else (-1)) := ⟨_, rfl⟩
                  replace hm := hm v151 ev151
                  have kj152 : Wc G tX8_chest (d + 92) h Q 133 [some (vR r0), some (vR r1), none, none] [vI v151, vI v116, vR r138, vR r138] h149 := by
                    exact kj144 _ _ hm
                  have k153 : (¬ (x150 = 0)) → Wc G tX8_chest (d + 92) h Q 128 [some (vR r0), some (vR r1), some (vI v116), none] [vI v116, vR r138, vR r138] h149 := fun c155 => by
                    have z156 := kj152
                    rw [show v151 = 1 from ev151.trans (if_pos c155)] at z156
                    exact wc_iconst (pc := 128) (dAt dtX8_chest 64 rfl) ⟨by decide, by decide⟩ (wc_goto (pc := 129) (tgt := 133) (dAt dtX8_chest 65 rfl) (by decide) (wc_drp [2] rfl (z156)))
                  have k154 : ¬ (¬ (x150 = 0)) → Wc G tX8_chest (d + 92) h Q 132 [some (vR r0), some (vR r1), some (vI v116), none] [vI v116, vR r138, vR r138] h149 := fun c155 => by
                    have z158 := kj152
                    rw [show v151 = (-1) from ev151.trans (if_neg c155)] at z158
                    exact wc_iconst (pc := 132) (dAt dtX8_chest 66 rfl) ⟨by decide, by decide⟩ (wc_drp [2] rfl (z158))
                  exact wc_if_eq (pc := 125) (tgt := 132) (dAt dtX8_chest 63 rfl) (by decide) (fun c160 => (k154 (fun z => z c160))) (fun c160 => (k153 c160))
                · replace hm := ite_t c146 hm
                  exact wc_iconst (pc := 115) (dAt dtX8_chest 58 rfl) ⟨by decide, by decide⟩ (wc_goto (pc := 116) (tgt := 133) (dAt dtX8_chest 59 rfl) (by decide) (wc_drp [2] rfl (kj144 _ _ hm)))
            · replace hm := ite_t c132 hm
              exact kj122 _ hm
    exact wc_icmp_gt (pc := 31) (tgt := 47) (dAt dtX8_chest 17 rfl) (by decide) (fun c237 => (k235 (Or.inl c237))) (fun c237 => wc_aload_n (pc := 34) (dAt dtX8_chest 18 rfl) rfl (wc_getI (pc := 35) (dAt dtX8_chest 19 rfl) flX8_57_8 rfl o106 (wc_iconst (pc := 38) (dAt dtX8_chest 20 rfl) ⟨by decide, by decide⟩ (wc_bipush (pc := 39) (dAt dtX8_chest 21 rfl) ⟨by decide, by decide, by decide⟩ (wc_callS (y' := tX1_in) (P := eI (vX1_in (hI h105 r0 7) 1 30 h105) h105) (pc := 41) (dAt dtX8_chest 22 rfl) lkX8_40 moX1_in q374 q128 rfl rfl (Nat.le_of_ble_eq_true rfl) (wX1_in hg ⟨rfl, rfl⟩) (ep_I (wc_if_ne (pc := 44) (tgt := 56) (dAt dtX8_chest 23 rfl) (by decide) (fun c238 => (k236 (fun z => z.elim c237 (fun z => z c238)))) (fun c238 => (k235 (Or.inr c238))))) ex_I)))))
  have k240 : (¬ ((hI h102 r0 4) ≠ 2)) → Wc G tX8_chest (d + 92) h Q 13 [some (vR r0), some (vR r1), none, none] [vR r0] h102 := fun c242 => by
    have z243 := kj239
    rw [show v104 = 1 from ev104.trans (b2i_t c242)] at z243
    exact wc_iconst (pc := 13) (dAt dtX8_chest 7 rfl) ⟨by decide, by decide⟩ (wc_goto (pc := 14) (tgt := 18) (dAt dtX8_chest 8 rfl) (by decide) (z243))
  have k241 : ¬ (¬ ((hI h102 r0 4) ≠ 2)) → Wc G tX8_chest (d + 92) h Q 17 [some (vR r0), some (vR r1), none, none] [vR r0] h102 := fun c242 => by
    have z245 := kj239
    rw [show v104 = 0 from ev104.trans (b2i_f c242)] at z245
    exact wc_iconst (pc := 17) (dAt dtX8_chest 9 rfl) ⟨by decide, by decide⟩ (z245)
  exact wc_icmp_ne (pc := 10) (tgt := 17) (dAt dtX8_chest 6 rfl) (by decide) (fun c247 => (k241 (fun z => z c247))) (fun c247 => (k240 c247))
def tX8_set : Mt := (⟨"FlyingDoctors$Reader", "set", "(LFlyingDoctors$Rules;)V"⟩, prog_16_method_25_code, 3, (Option.none : Option Jvm.ClassFile.FieldType), [])
def DX8_set : List (Nat × Instr × Nat) := [(0, .aload_n 0, 1), (1, .invokevirtual 115, 3), (4, .aload_n 0, 1), (5, .aload_n 0, 1), (6, .getfield 47, 3), (9, .iconst 1, 1), (10, .if_icmp .ne 7, 3), (13, .iconst 1, 1), (14, .goto 4, 3), (17, .iconst 0, 1), (18, .invokevirtual 111, 3), (21, .aload_n 0, 1), (22, .ldc 164, 2), (24, .invokevirtual 158, 3), (27, .istore_n 2, 1), (28, .iload_n 2, 1), (29, .iconst (-1), 1), (30, .if_icmp .ne 12, 3), (33, .new 102, 3), (36, .dup, 1), (37, .iconst 3, 1), (38, .invokespecial 104, 3), (41, .athrow, 1), (42, .aload_n 0, 1), (43, .invokevirtual 115, 3), (46, .aload_n 1, 1), (47, .getfield 239, 3), (50, .iload_n 2, 1), (51, .aload_n 0, 1), (52, .invokevirtual 142, 3), (55, .iastore, 1), (56, .aload_n 0, 1), (57, .bipush 59, 2), (59, .invokevirtual 153, 3), (62, .return_, 1)]
theorem dtX8_set : chkD (mB tX8_set) DX8_set = true := by decide +kernel
theorem moX8_set : MethOk tX8_set 1 := ⟨Or.inl ⟨rfl, q1456⟩, by decide +kernel, ⟨by decide, by decide⟩, by decide +kernel⟩
def mX8_set (r0 : Nat) (r1 : Nat) (h : Hp) (Q : Rs → Hp → Prop) : Prop := ob h r0 8 ∧ mX8_next r0 h (kN Q (fun h102 => ob h102 r0 8 ∧ ∀ v104 : Int, v104 = (b2i (¬ ((hI h102 r0 4) ≠ 1))) → mX8_want r0 v104 h102 (kN Q (fun h105 => ob h105 r0 8 ∧ mX8_among r0 18 h105 (kI Q (fun x108 h107 => if ¬ (x108 ≠ (-1)) then hn h107 + 1 ≤ 878547 ∧ hq h107 + 7 ≤ 6460613 ∧ ∀ r113 : Nat, r113 = hn h107 → ∀ h114 : Hp, h114 = nw h107 9 0 7 → mX9_init r113 3 h114 (kN Q (fun h115 => ob h115 r113 9 ∧ Q (rX r113) h115)) else ob h107 r0 8 ∧ mX8_next r0 h107 (kN Q (fun h118 => ob h118 r1 2 ∧ ob h118 r0 8 ∧ mX8_number r0 h118 (kI Q (fun x122 h121 => ob h121 (hR h118 r1 0) 70 ∧ 50 ≤ (hR h118 r1 0) ∧ 0 ≤ x108 ∧ x108 < (hN h121 (hR h118 r1 0)) ∧ ∀ h127 : Hp, h127 = sI h121 (hR h118 r1 0) (Int.toNat x108) x122 → ob h127 r0 8 ∧ mX8_need r0 59 h127 (kN Q (fun h129 => Q rN h129))))))))))))
theorem wX8_set {G : Gx} (hg : gF G = true) {d : Nat} {r0 : Nat} {r1 : Nat} {h : Hp} {Q : Rs → Hp → Prop} (hm : mX8_set r0 r1 h Q) : Ct G tX8_set (d + 6) [vR r0, vR r1] h Q := by
  refine ct_enter (L0 := [some (vR r0), some (vR r1), none]) rfl rfl ?_
  unfold mX8_set at hm
  obtain ⟨o101, hm⟩ := hm
  refine wc_aload_n (pc := 0) (dAt dtX8_set 0 rfl) rfl (wc_callV (k := 8) (y' := tX8_next) (av := []) (st := []) (pc := 1) (dAt dtX8_set 1 rfl) lkX8_115 moX8_next q829 qs7 (by decide) o101 rfl rfl (Nat.le_of_ble_eq_true rfl) (wX8_next hg hm) (kr_N (fun h102 hm => ?_)) (kx_N rfl))
  obtain ⟨o103, hm⟩ := hm
  obtain ⟨v104, ev104⟩ : ∃ v104 : Int, v104 = (b2i (¬ ((hI h102 r0 4) ≠ 1))) := ⟨_, rfl⟩
  replace hm := hm v104 ev104
  refine wc_aload_n (pc := 4) (dAt dtX8_set 2 rfl) rfl (wc_aload_n (pc := 5) (dAt dtX8_set 3 rfl) rfl (wc_getI (pc := 6) (dAt dtX8_set 4 rfl) flX8_47_8 rfl o103 (wc_iconst (pc := 9) (dAt dtX8_set 5 rfl) ⟨by decide, by decide⟩ (?_))))
  have kj130 : Wc G tX8_set (d + 6) h Q 18 [some (vR r0), some (vR r1), none] [vI v104, vR r0] h102 := by
    refine wc_callV (k := 8) (y' := tX8_want) (av := [vI v104]) (st := []) (pc := 18) (dAt dtX8_set 10 rfl) lkX8_111 moX8_want q963 qs13 (by decide) o103 rfl rfl (Nat.le_of_ble_eq_true rfl) (wX8_want hg hm) (kr_N (fun h105 hm => ?_)) (kx_N rfl)
    obtain ⟨o106, hm⟩ := hm
    refine wc_aload_n (pc := 21) (dAt dtX8_set 11 rfl) rfl (wc_ldcS (a := 18) (tx := " rest duty reserve ground fetch ") (pc := 22) (dAt dtX8_set 12 rfl) (by decide +kernel) (by decide) (wc_callV (k := 8) (y' := tX8_among) (av := [vR 18]) (st := []) (pc := 24) (dAt dtX8_set 13 rfl) lkX8_158 moX8_among q998 qs15 (by decide) o106 rfl rfl (Nat.le_of_ble_eq_true rfl) (wX8_among hg hm) (kr_I (fun x108 h107 hm => ?_)) (kx_I rfl)))
    refine wc_istore_n (pc := 27) (dAt dtX8_set 14 rfl) (by decide) (wc_L (L' := [some (vR r0), some (vR r1), some (vI x108)]) rfl (wc_iload_n (pc := 28) (dAt dtX8_set 15 rfl) rfl (wc_iconst (pc := 29) (dAt dtX8_set 16 rfl) ⟨by decide, by decide⟩ (wc_icmp_ne (pc := 30) (tgt := 42) (dAt dtX8_set 17 rfl) (by decide) (fun c109 => ?_) (fun c109 => ?_)))))
    · replace hm := ite_f (fun z => z c109) hm
      obtain ⟨o117, hm⟩ := hm
      refine wc_aload_n (pc := 42) (dAt dtX8_set 23 rfl) rfl (wc_callV (k := 8) (y' := tX8_next) (av := []) (st := []) (pc := 43) (dAt dtX8_set 24 rfl) lkX8_115 moX8_next q829 qs7 (by decide) o117 rfl rfl (Nat.le_of_ble_eq_true rfl) (wX8_next hg hm) (kr_N (fun h118 hm => ?_)) (kx_N rfl))
      obtain ⟨o119, o120, hm⟩ := hm
      refine wc_aload_n (pc := 46) (dAt dtX8_set 25 rfl) rfl (wc_getR (pc := 47) (dAt dtX8_set 26 rfl) flX8_239_2 rfl o119 (wc_iload_n (pc := 50) (dAt dtX8_set 27 rfl) rfl (wc_aload_n (pc := 51) (dAt dtX8_set 28 rfl) rfl (wc_callV (k := 8) (y' := tX8_number) (av := []) (st := [vI x108, vR (hR h118 r1 0)]) (pc := 52) (dAt dtX8_set 29 rfl) lkX8_142 moX8_number q1329 qs27 (by decide) o120 rfl rfl (Nat.le_of_ble_eq_true rfl) (wX8_number hg hm) (kr_I (fun x122 h121 hm => ?_)) (kx_I rfl)))))
      obtain ⟨o123, o124, o125, o126, hm⟩ := hm
      obtain ⟨h127, eh127⟩ : ∃ h127 : Hp, h127 = sI h121 (hR h118 r1 0) (Int.toNat x108) x122 := ⟨_, rfl⟩
      replace hm := hm h127 eh127
      obtain ⟨o128, hm⟩ := hm
      refine wc_iast (pc := 55) (dAt dtX8_set 30 rfl) o123 o124 o125 o126 (wc_hp eh127 (wc_aload_n (pc := 56) (dAt dtX8_set 31 rfl) rfl (wc_bipush (pc := 57) (dAt dtX8_set 32 rfl) ⟨by decide, by decide, by decide⟩ (wc_callV (k := 8) (y' := tX8_need) (av := [vI 59]) (st := []) (pc := 59) (dAt dtX8_set 33 rfl) lkX8_153 moX8_need q1288 qs18 (by decide) o128 rfl rfl (Nat.le_of_ble_eq_true rfl) (wX8_need hg hm) (kr_N (fun h129 hm => ?_)) (kx_N rfl)))))
      exact wc_vret (pc := 62) (dAt dtX8_set 34 rfl) rfl hm
    · replace hm := ite_t c109 hm
      obtain ⟨o110, o111, hm⟩ := hm
      obtain ⟨r113, er113⟩ : ∃ r113 : Nat, r113 = hn h107 := ⟨_, rfl⟩
      replace hm := hm r113 er113
      obtain ⟨h114, eh114⟩ : ∃ h114 : Hp, h114 = nw h107 9 0 7 := ⟨_, rfl⟩
      replace hm := hm h114 eh114
      refine wc_k0 fun n112 => (wc_new (k := 9) (pc := 33) (dAt dtX8_set 18 rfl) q965 q966 q154 (by decide) o110 o111 (wc_hp eh114 (wc_vr er113 (wc_dup (pc := 36) (dAt dtX8_set 19 rfl) rfl (wc_iconst (pc := 37) (dAt dtX8_set 20 rfl) ⟨by decide, by decide⟩ (wc_callI (y' := tX9_init) (av := [vI 3]) (st := [vR r113]) (pc := 38) (dAt dtX8_set 21 rfl) lkX8_104 moX9_init q975 rfl q976 (k0_at er113 n112) rfl rfl (Nat.le_of_ble_eq_true rfl) (wX9_init hg hm) (kr_N (fun h115 hm => ?_)) (kx_N rfl)))))))
      obtain ⟨o116, hm⟩ := hm
      exact wc_athrow (pc := 41) (dAt dtX8_set 22 rfl) (by decide) o116 rfl hm
  have k131 : (¬ ((hI h102 r0 4) ≠ 1)) → Wc G tX8_set (d + 6) h Q 13 [some (vR r0), some (vR r1), none] [vR r0] h102 := fun c133 => by
    have z134 := kj130
    rw [show v104 = 1 from ev104.trans (b2i_t c133)] at z134
    exact wc_iconst (pc := 13) (dAt dtX8_set 7 rfl) ⟨by decide, by decide⟩ (wc_goto (pc := 14) (tgt := 18) (dAt dtX8_set 8 rfl) (by decide) (z134))
  have k132 : ¬ (¬ ((hI h102 r0 4) ≠ 1)) → Wc G tX8_set (d + 6) h Q 17 [some (vR r0), some (vR r1), none] [vR r0] h102 := fun c133 => by
    have z136 := kj130
    rw [show v104 = 0 from ev104.trans (b2i_f c133)] at z136
    exact wc_iconst (pc := 17) (dAt dtX8_set 9 rfl) ⟨by decide, by decide⟩ (z136)
  exact wc_icmp_ne (pc := 10) (tgt := 17) (dAt dtX8_set 6 rfl) (by decide) (fun c138 => (k132 (fun z => z c138))) (fun c138 => (k131 c138))
