set_option maxRecDepth 100000
set_option maxHeartbeats 1000000
/-! what methods do, and their walks, by program -/
def tX8_init : Mt := (⟨"FlyingDoctors$Reader", "<init>", "(LFlyingDoctors;I)V"⟩, prog_16_method_1_code, 3, (Option.none : Option Jvm.ClassFile.FieldType), [])
def DX8_init : List (Nat × Instr × Nat) := [(0, .aload_n 0, 1), (1, .aload_n 1, 1), (2, .putfield 3, 3), (5, .aload_n 0, 1), (6, .invokespecial 9, 3), (9, .aload_n 0, 1), (10, .new 15, 3), (13, .dup, 1), (14, .invokespecial 17, 3), (17, .putfield 18, 3), (20, .aload_n 0, 1), (21, .new 15, 3), (24, .dup, 1), (25, .invokespecial 17, 3), (28, .putfield 22, 3), (31, .aload_n 0, 1), (32, .iload_n 2, 1), (33, .putfield 25, 3), (36, .return_, 1)]
theorem dtX8_init : chkD (mB tX8_init) DX8_init = true := by decide +kernel
theorem moX8_init : MethOk tX8_init 2 := ⟨Or.inl ⟨rfl, q784⟩, by decide +kernel, ⟨by decide, by decide⟩, by decide +kernel⟩
def mX8_init (r0 : Nat) (x2 : Int) (h : Hp) (Q : Rs → Hp → Prop) : Prop := ob h r0 8 ∧ ∀ h103 : Hp, h103 = sR h r0 9 50 → hn h103 + 1 ≤ 878547 ∧ hq h103 + 3 ≤ 6460613 ∧ ∀ r107 : Nat, r107 = hn h103 → ∀ h108 : Hp, h108 = nw h103 32 0 3 → mJ2_init r107 h108 (kN Q (fun h109 => ob h109 r0 8 ∧ ∀ h111 : Hp, h111 = sR h109 r0 1 r107 → hn h111 + 1 ≤ 878547 ∧ hq h111 + 3 ≤ 6460613 ∧ ∀ r115 : Nat, r115 = hn h111 → ∀ h116 : Hp, h116 = nw h111 32 0 3 → mJ2_init r115 h116 (kN Q (fun h117 => ob h117 r0 8 ∧ ∀ h119 : Hp, h119 = sR h117 r0 2 r115 → ∀ h120 : Hp, h120 = sI h119 r0 0 x2 → Q rN h120))))
theorem wX8_init {G : Gx} (hg : gF G = true) {d : Nat} {r0 : Nat} {x2 : Int} {h : Hp} {Q : Rs → Hp → Prop} (hm : mX8_init r0 x2 h Q) : Ct G tX8_init (d + 4) [vR r0, vR 50, vI x2] h Q := by
  refine ct_enter (L0 := [some (vR r0), some (vR 50), some (vI x2)]) rfl rfl ?_
  unfold mX8_init at hm
  obtain ⟨o101, hm⟩ := hm
  obtain ⟨h103, eh103⟩ : ∃ h103 : Hp, h103 = sR h r0 9 50 := ⟨_, rfl⟩
  replace hm := hm h103 eh103
  obtain ⟨o104, o105, hm⟩ := hm
  obtain ⟨r107, er107⟩ : ∃ r107 : Nat, r107 = hn h103 := ⟨_, rfl⟩
  replace hm := hm r107 er107
  obtain ⟨h108, eh108⟩ : ∃ h108 : Hp, h108 = nw h103 32 0 3 := ⟨_, rfl⟩
  replace hm := hm h108 eh108
  refine wc_aload_n (pc := 0) (dAt dtX8_init 0 rfl) rfl (wc_aload_n (pc := 1) (dAt dtX8_init 1 rfl) rfl (wc_newer o101 (by decide) fun n102 => (wc_putR (pc := 2) (dAt dtX8_init 2 rfl) flX8_3_8 (Or.inr ⟨rfl, rfl, rfl⟩) rfl o101 n102 (fun _ => ⟨by decide, by decide, by decide⟩) (wc_hp eh103 (wc_aload_n (pc := 5) (dAt dtX8_init 3 rfl) rfl (wc_obj (pc := 6) (dAt dtX8_init 4 rfl) q785 q180 q181 n102 (Nat.le_of_ble_eq_true rfl) (wc_aload_n (pc := 9) (dAt dtX8_init 5 rfl) rfl (wc_k0 fun n106 => (wc_new (k := 32) (pc := 10) (dAt dtX8_init 6 rfl) q786 q185 q131 (by decide) o104 o105 (wc_hp eh108 (wc_vr er107 (wc_dup (pc := 13) (dAt dtX8_init 7 rfl) rfl (wc_callI (y' := tJ2_init) (av := []) (st := [vR r107, vR r0]) (pc := 14) (dAt dtX8_init 8 rfl) lkX8_17 moJ2_init q187 rfl q188 (k0_at er107 n106) rfl rfl (Nat.le_of_ble_eq_true rfl) (wJ2_init hg hm) (kr_N (fun h109 hm => ?_)) (kx_N rfl))))))))))))))
  obtain ⟨o110, hm⟩ := hm
  obtain ⟨h111, eh111⟩ : ∃ h111 : Hp, h111 = sR h109 r0 1 r107 := ⟨_, rfl⟩
  replace hm := hm h111 eh111
  obtain ⟨o112, o113, hm⟩ := hm
  obtain ⟨r115, er115⟩ : ∃ r115 : Nat, r115 = hn h111 := ⟨_, rfl⟩
  replace hm := hm r115 er115
  obtain ⟨h116, eh116⟩ : ∃ h116 : Hp, h116 = nw h111 32 0 3 := ⟨_, rfl⟩
  replace hm := hm h116 eh116
  refine wc_putR (pc := 17) (dAt dtX8_init 9 rfl) flX8_18_8 (Or.inr ⟨rfl, rfl, rfl⟩) rfl o110 n102 (fun _ => ⟨by decide, by decide, by decide⟩) (wc_hp eh111 (wc_aload_n (pc := 20) (dAt dtX8_init 10 rfl) rfl (wc_k0 fun n114 => (wc_new (k := 32) (pc := 21) (dAt dtX8_init 11 rfl) q786 q185 q131 (by decide) o112 o113 (wc_hp eh116 (wc_vr er115 (wc_dup (pc := 24) (dAt dtX8_init 12 rfl) rfl (wc_callI (y' := tJ2_init) (av := []) (st := [vR r115, vR r0]) (pc := 25) (dAt dtX8_init 13 rfl) lkX8_17 moJ2_init q187 rfl q188 (k0_at er115 n114) rfl rfl (Nat.le_of_ble_eq_true rfl) (wJ2_init hg hm) (kr_N (fun h117 hm => ?_)) (kx_N rfl)))))))))
  obtain ⟨o118, hm⟩ := hm
  obtain ⟨h119, eh119⟩ : ∃ h119 : Hp, h119 = sR h117 r0 2 r115 := ⟨_, rfl⟩
  replace hm := hm h119 eh119
  obtain ⟨h120, eh120⟩ : ∃ h120 : Hp, h120 = sI h119 r0 0 x2 := ⟨_, rfl⟩
  replace hm := hm h120 eh120
  exact wc_putR (pc := 28) (dAt dtX8_init 14 rfl) flX8_22_8 (Or.inr ⟨rfl, rfl, rfl⟩) rfl o118 n102 (fun _ => ⟨by decide, by decide, by decide⟩) (wc_hp eh119 (wc_aload_n (pc := 31) (dAt dtX8_init 15 rfl) rfl (wc_iload_n (pc := 32) (dAt dtX8_init 16 rfl) rfl (wc_putI (pc := 33) (dAt dtX8_init 17 rfl) flX8_25_8 (Or.inr ⟨rfl, rfl, rfl⟩) rfl (ob_sR eh119 o118) n102 (okI_int _) (wc_hp eh120 (wc_vret (pc := 36) (dAt dtX8_init 18 rfl) rfl hm))))))
def tX8_here : Mt := (⟨"FlyingDoctors$Reader", "here", "()I"⟩, prog_16_method_2_code, 1, (Option.some Jvm.ClassFile.FieldType.int), [])
def DX8_here : List (Nat × Instr × Nat) := [(0, .aload_n 0, 1), (1, .getfield 29, 3), (4, .aload_n 0, 1), (5, .getfield 25, 3), (8, .if_icmp .ge 22, 3), (11, .aload_n 0, 1), (12, .getfield 3, 3), (15, .getfield 32, 3), (18, .aload_n 0, 1), (19, .getfield 29, 3), (22, .baload, 1), (23, .sipush 255, 3), (26, .iand, 1), (27, .goto 4, 3), (30, .iconst (-1), 1), (31, .ireturn, 1)]
theorem dtX8_here : chkD (mB tX8_here) DX8_here = true := by decide +kernel
theorem moX8_here : MethOk tX8_here 0 := ⟨Or.inl ⟨rfl, q834⟩, by decide +kernel, ⟨by decide, by decide⟩, by decide +kernel⟩
def vX8_here (r0 : Nat) (h : Hp) : Int := (if ¬ ((hI h r0 0) ≤ (hI h r0 3)) then (iand (hI h 65 (Int.toNat (hI h r0 3))) 255) else (-1))
def oX8_here (r0 : Nat) (h : Hp) : Prop := ob h r0 8 ∧ ((¬ ((hI h r0 0) ≤ (hI h r0 3))) → hR h r0 9 = 50 ∧ 0 ≤ (hI h r0 3) ∧ (hI h r0 3) < 800)
theorem wX8_here {G : Gx} (hg : gF G = true) {d : Nat} {r0 : Nat} {h : Hp} {Q : Rs → Hp → Prop} (hm : oX8_here r0 h) (hq : Q (rV (vI (vX8_here r0 h))) h) : Ct G tX8_here (d + 0) [vR r0] h Q := by
  refine ct_enter (L0 := [some (vR r0)]) rfl rfl ?_
  obtain ⟨o101, p105⟩ := hm
  have k106 : (¬ ((hI h r0 0) ≤ (hI h r0 3))) → Wc G tX8_here (d + 0) h Q 11 [some (vR r0)] [] h := fun c108 => by
    obtain ⟨o102, o103, o104⟩ := (p105 c108)
    have z : Q (rV (vI (iand (hI h 65 (Int.toNat (hI h r0 3))) 255))) h := by
      rw [show (vX8_here r0 h) = (iand (hI h 65 (Int.toNat (hI h r0 3))) 255) from (if_pos c108)] at hq
      exact hq
    exact wc_aload_n (pc := 11) (dAt dtX8_here 5 rfl) rfl (wc_getR (pc := 12) (dAt dtX8_here 6 rfl) flX8_3_8 rfl o101 (wc_vr o102.symm (wc_getKR hg (pc := 15) (dAt dtX8_here 7 rfl) flX8_32_1 rfl ka50 kf50_15 (wc_aload_n (pc := 18) (dAt dtX8_here 8 rfl) rfl (wc_getI (pc := 19) (dAt dtX8_here 9 rfl) flX8_29_8 rfl o101 (wc_baldK hg (pc := 22) (dAt dtX8_here 10 rfl) kr65 o103 o104 (wc_sipush (pc := 23) (dAt dtX8_here 11 rfl) ⟨by decide, by decide, by decide⟩ (wc_iand (pc := 26) (dAt dtX8_here 12 rfl) (wc_goto (pc := 27) (tgt := 31) (dAt dtX8_here 13 rfl) (by decide) (wc_iret (pc := 31) (dAt dtX8_here 15 rfl) rfl (nar_int _) z))))))))))
  have k107 : ¬ (¬ ((hI h r0 0) ≤ (hI h r0 3))) → Wc G tX8_here (d + 0) h Q 30 [some (vR r0)] [] h := fun c108 => by
    have z : Q (rV (vI (-1))) h := by
      rw [show (vX8_here r0 h) = (-1) from (if_neg c108)] at hq
      exact hq
    exact wc_iconst (pc := 30) (dAt dtX8_here 14 rfl) ⟨by decide, by decide⟩ (wc_iret (pc := 31) (dAt dtX8_here 15 rfl) rfl (nar_int _) z)
  exact wc_aload_n (pc := 0) (dAt dtX8_here 0 rfl) rfl (wc_getI (pc := 1) (dAt dtX8_here 1 rfl) flX8_29_8 rfl o101 (wc_aload_n (pc := 4) (dAt dtX8_here 2 rfl) rfl (wc_getI (pc := 5) (dAt dtX8_here 3 rfl) flX8_25_8 rfl o101 (wc_icmp_ge (pc := 8) (tgt := 30) (dAt dtX8_here 4 rfl) (by decide) (fun c109 => (k107 (fun z => z c109))) (fun c109 => (k106 c109))))))
def tX8_isLetter : Mt := (⟨"FlyingDoctors$Reader", "isLetter", "()Z"⟩, prog_16_method_3_code, 1, (Option.some Jvm.ClassFile.FieldType.boolean), [])
def DX8_isLetter : List (Nat × Instr × Nat) := [(0, .aload_n 0, 1), (1, .invokevirtual 36, 3), (4, .bipush 97, 2), (6, .bipush 122, 2), (8, .invokestatic 40, 3), (11, .ireturn, 1)]
theorem dtX8_isLetter : chkD (mB tX8_isLetter) DX8_isLetter = true := by decide +kernel
theorem moX8_isLetter : MethOk tX8_isLetter 0 := ⟨Or.inl ⟨rfl, q838⟩, by decide +kernel, ⟨by decide, by decide⟩, by decide +kernel⟩
def vX8_isLetter (r0 : Nat) (h : Hp) : Int := (vX1_in (vX8_here r0 h) 97 122 h)
def oX8_isLetter (r0 : Nat) (h : Hp) : Prop := oX8_here r0 h ∧ ob h r0 8
theorem wX8_isLetter {G : Gx} (hg : gF G = true) {d : Nat} {r0 : Nat} {h : Hp} {Q : Rs → Hp → Prop} (hm : oX8_isLetter r0 h) (hq : Q (rV (vI (vX8_isLetter r0 h))) h) : Ct G tX8_isLetter (d + 1) [vR r0] h Q := by
  refine ct_enter (L0 := [some (vR r0)]) rfl rfl ?_
  obtain ⟨o101, o102⟩ := hm
  have z : Q (rV (vI (vX1_in (vX8_here r0 h) 97 122 h))) h := by
    rw [show (vX8_isLetter r0 h) = (vX1_in (vX8_here r0 h) 97 122 h) from rfl] at hq
    exact hq
  exact wc_aload_n (pc := 0) (dAt dtX8_isLetter 0 rfl) rfl (wc_callV (k := 8) (y' := tX8_here) (P := eI (vX8_here r0 h) h) (pc := 1) (dAt dtX8_isLetter 1 rfl) lkX8_36 moX8_here q833 qs8 (by decide) o102 rfl rfl (Nat.le_of_ble_eq_true rfl) (wX8_here hg o101 ⟨rfl, rfl⟩) (ep_I (wc_bipush (pc := 4) (dAt dtX8_isLetter 2 rfl) ⟨by decide, by decide, by decide⟩ (wc_bipush (pc := 6) (dAt dtX8_isLetter 3 rfl) ⟨by decide, by decide, by decide⟩ (wc_callS (y' := tX1_in) (P := eI (vX1_in (vX8_here r0 h) 97 122 h) h) (pc := 8) (dAt dtX8_isLetter 4 rfl) lkX8_40 moX1_in q374 q128 rfl rfl (Nat.le_of_ble_eq_true rfl) (wX1_in hg ⟨rfl, rfl⟩) (ep_I (wc_iret (pc := 11) (dAt dtX8_isLetter 5 rfl) rfl (nar_bool (bX1_in (vX8_here r0 h) 97 122 h)) z)) ex_I)))) ex_I)
theorem bX8_isLetter (r0 : Nat) (h : Hp) : (vX8_isLetter r0 h) = 0 ∨ (vX8_isLetter r0 h) = 1 := (bX1_in (vX8_here r0 h) 97 122 h)
def tX8_isDigit : Mt := (⟨"FlyingDoctors$Reader", "isDigit", "()Z"⟩, prog_16_method_4_code, 1, (Option.some Jvm.ClassFile.FieldType.boolean), [])
def DX8_isDigit : List (Nat × Instr × Nat) := [(0, .aload_n 0, 1), (1, .invokevirtual 36, 3), (4, .bipush 48, 2), (6, .bipush 57, 2), (8, .invokestatic 40, 3), (11, .ireturn, 1)]
theorem dtX8_isDigit : chkD (mB tX8_isDigit) DX8_isDigit = true := by decide +kernel
theorem moX8_isDigit : MethOk tX8_isDigit 0 := ⟨Or.inl ⟨rfl, q843⟩, by decide +kernel, ⟨by decide, by decide⟩, by decide +kernel⟩
def vX8_isDigit (r0 : Nat) (h : Hp) : Int := (vX1_in (vX8_here r0 h) 48 57 h)
def oX8_isDigit (r0 : Nat) (h : Hp) : Prop := oX8_here r0 h ∧ ob h r0 8
theorem wX8_isDigit {G : Gx} (hg : gF G = true) {d : Nat} {r0 : Nat} {h : Hp} {Q : Rs → Hp → Prop} (hm : oX8_isDigit r0 h) (hq : Q (rV (vI (vX8_isDigit r0 h))) h) : Ct G tX8_isDigit (d + 1) [vR r0] h Q := by
  refine ct_enter (L0 := [some (vR r0)]) rfl rfl ?_
  obtain ⟨o101, o102⟩ := hm
  have z : Q (rV (vI (vX1_in (vX8_here r0 h) 48 57 h))) h := by
    rw [show (vX8_isDigit r0 h) = (vX1_in (vX8_here r0 h) 48 57 h) from rfl] at hq
    exact hq
  exact wc_aload_n (pc := 0) (dAt dtX8_isDigit 0 rfl) rfl (wc_callV (k := 8) (y' := tX8_here) (P := eI (vX8_here r0 h) h) (pc := 1) (dAt dtX8_isDigit 1 rfl) lkX8_36 moX8_here q833 qs8 (by decide) o102 rfl rfl (Nat.le_of_ble_eq_true rfl) (wX8_here hg o101 ⟨rfl, rfl⟩) (ep_I (wc_bipush (pc := 4) (dAt dtX8_isDigit 2 rfl) ⟨by decide, by decide, by decide⟩ (wc_bipush (pc := 6) (dAt dtX8_isDigit 3 rfl) ⟨by decide, by decide, by decide⟩ (wc_callS (y' := tX1_in) (P := eI (vX1_in (vX8_here r0 h) 48 57 h) h) (pc := 8) (dAt dtX8_isDigit 4 rfl) lkX8_40 moX1_in q374 q128 rfl rfl (Nat.le_of_ble_eq_true rfl) (wX1_in hg ⟨rfl, rfl⟩) (ep_I (wc_iret (pc := 11) (dAt dtX8_isDigit 5 rfl) rfl (nar_bool (bX1_in (vX8_here r0 h) 48 57 h)) z)) ex_I)))) ex_I)
theorem bX8_isDigit (r0 : Nat) (h : Hp) : (vX8_isDigit r0 h) = 0 ∨ (vX8_isDigit r0 h) = 1 := (bX1_in (vX8_here r0 h) 48 57 h)
def tJ13_isLatin1 : Mt := (⟨"java/lang/String", "isLatin1", "()Z"⟩, prog_40_method_154_code, 1, (Option.some Jvm.ClassFile.FieldType.boolean), [])
def DJ13_isLatin1 : List (Nat × Instr × Nat) := [(0, .getstatic 38, 3), (3, .ifCond .eq 14, 3), (6, .aload_n 0, 1), (7, .getfield 15, 3), (10, .ifCond .ne 7, 3), (13, .iconst 1, 1), (14, .goto 4, 3), (17, .iconst 0, 1), (18, .ireturn, 1)]
theorem dtJ13_isLatin1 : chkD (mB tJ13_isLatin1) DJ13_isLatin1 = true := by decide +kernel
theorem moJ13_isLatin1 : MethOk tJ13_isLatin1 0 := ⟨Or.inl ⟨rfl, q858⟩, by decide +kernel, ⟨by decide, by decide⟩, by decide +kernel⟩
def vJ13_isLatin1 (r0 : Nat) (h : Hp) : Int := (b2i (¬ ((hI h r0 1) ≠ 0)))
def oJ13_isLatin1 (r0 : Nat) (h : Hp) : Prop := ob h r0 43
theorem wJ13_isLatin1 {G : Gx} (hg : gF G = true) {d : Nat} {r0 : Nat} {h : Hp} {Q : Rs → Hp → Prop} (hm : oJ13_isLatin1 r0 h) (hq : Q (rV (vI (vJ13_isLatin1 r0 h))) h) : Ct G tJ13_isLatin1 (d + 0) [vR r0] h Q := by
  refine ct_enter (L0 := [some (vR r0)]) rfl rfl ?_
  have o102 := hm
  have k103 : (¬ ((hI h r0 1) ≠ 0)) → Wc G tJ13_isLatin1 (d + 0) h Q 13 [some (vR r0)] [] h := fun c105 => by
    have z : Q (rV (vI 1)) h := by
      rw [show (vJ13_isLatin1 r0 h) = 1 from (b2i_t c105)] at hq
      exact hq
    exact wc_iconst (pc := 13) (dAt dtJ13_isLatin1 5 rfl) ⟨by decide, by decide⟩ (wc_goto (pc := 14) (tgt := 18) (dAt dtJ13_isLatin1 6 rfl) (by decide) (wc_iret (pc := 18) (dAt dtJ13_isLatin1 8 rfl) rfl (nar_bool (Or.inr rfl)) z))
  have k104 : ¬ (¬ ((hI h r0 1) ≠ 0)) → Wc G tJ13_isLatin1 (d + 0) h Q 17 [some (vR r0)] [] h := fun c105 => by
    have z : Q (rV (vI 0)) h := by
      rw [show (vJ13_isLatin1 r0 h) = 0 from (b2i_f c105)] at hq
      exact hq
    exact wc_iconst (pc := 17) (dAt dtJ13_isLatin1 7 rfl) ⟨by decide, by decide⟩ (wc_iret (pc := 18) (dAt dtJ13_isLatin1 8 rfl) rfl (nar_bool (Or.inl rfl)) z)
  exact wc_getsI (v := 1) (pc := 0) (dAt dtJ13_isLatin1 0 rfl) q859 (by decide +kernel) ⟨by decide, by decide⟩ (wc_if_eq (pc := 3) (tgt := 17) (dAt dtJ13_isLatin1 1 rfl) (by decide) (fun c101 => absurd c101 (by decide)) (fun c101 =>  (wc_aload_n (pc := 6) (dAt dtJ13_isLatin1 2 rfl) rfl (wc_getI (pc := 7) (dAt dtJ13_isLatin1 3 rfl) flJ13_15_43 rfl o102 (wc_if_ne (pc := 10) (tgt := 17) (dAt dtJ13_isLatin1 4 rfl) (by decide) (fun c106 => (k104 (fun z => z c106))) (fun c106 => (k103 c106)))))))
theorem bJ13_isLatin1 (r0 : Nat) (h : Hp) : (vJ13_isLatin1 r0 h) = 0 ∨ (vJ13_isLatin1 r0 h) = 1 := (bool_b2i _)
def tJ13_coder : Mt := (⟨"java/lang/String", "coder", "()B"⟩, prog_40_method_152_code, 1, (Option.some Jvm.ClassFile.FieldType.byte), [])
def DJ13_coder : List (Nat × Instr × Nat) := [(0, .getstatic 38, 3), (3, .ifCond .eq 10, 3), (6, .aload_n 0, 1), (7, .getfield 15, 3), (10, .goto 4, 3), (13, .iconst 1, 1), (14, .ireturn, 1)]
theorem dtJ13_coder : chkD (mB tJ13_coder) DJ13_coder = true := by decide +kernel
theorem moJ13_coder : MethOk tJ13_coder 0 := ⟨Or.inl ⟨rfl, q868⟩, by decide +kernel, ⟨by decide, by decide⟩, by decide +kernel⟩
def vJ13_coder (r0 : Nat) (h : Hp) : Int := (hI h r0 1)
def oJ13_coder (r0 : Nat) (h : Hp) : Prop := ob h r0 43 ∧ (narrow .byte (.int (Int32.ofInt (hI h r0 1))) = .int (Int32.ofInt (hI h r0 1)))
theorem wJ13_coder {G : Gx} (hg : gF G = true) {d : Nat} {r0 : Nat} {h : Hp} {Q : Rs → Hp → Prop} (hm : oJ13_coder r0 h) (hq : Q (rV (vI (vJ13_coder r0 h))) h) : Ct G tJ13_coder (d + 0) [vR r0] h Q := by
  refine ct_enter (L0 := [some (vR r0)]) rfl rfl ?_
  obtain ⟨w0, ob⟩ := hm
  have hm := w0
  have o102 := hm
  have z : Q (rV (vI (hI h r0 1))) h := by
    rw [show (vJ13_coder r0 h) = (hI h r0 1) from rfl] at hq
    exact hq
  exact wc_getsI (v := 1) (pc := 0) (dAt dtJ13_coder 0 rfl) q859 (by decide +kernel) ⟨by decide, by decide⟩ (wc_if_eq (pc := 3) (tgt := 13) (dAt dtJ13_coder 1 rfl) (by decide) (fun c101 => absurd c101 (by decide)) (fun c101 =>  (wc_aload_n (pc := 6) (dAt dtJ13_coder 2 rfl) rfl (wc_getI (pc := 7) (dAt dtJ13_coder 3 rfl) flJ13_15_43 rfl o102 (wc_goto (pc := 10) (tgt := 14) (dAt dtJ13_coder 4 rfl) (by decide) (wc_iret (pc := 14) (dAt dtJ13_coder 6 rfl) rfl (nar_tr (show (vJ13_coder r0 h) = (hI h r0 1) from rfl) ob) z))))))
def tJ13_length : Mt := (⟨"java/lang/String", "length", "()I"⟩, prog_40_method_54_code, 1, (Option.some Jvm.ClassFile.FieldType.int), [])
def DJ13_length : List (Nat × Instr × Nat) := [(0, .aload_n 0, 1), (1, .getfield 9, 3), (4, .arraylength, 1), (5, .aload_n 0, 1), (6, .invokevirtual 335, 3), (9, .ishr, 1), (10, .ireturn, 1)]
theorem dtJ13_length : chkD (mB tJ13_length) DJ13_length = true := by decide +kernel
theorem moJ13_length : MethOk tJ13_length 0 := ⟨Or.inl ⟨rfl, q864⟩, by decide +kernel, ⟨by decide, by decide⟩, by decide +kernel⟩
def vJ13_length (r0 : Nat) (h : Hp) : Int := (ishr (hN h (hR h r0 0) : Int) (vJ13_coder r0 h))
def oJ13_length (r0 : Nat) (h : Hp) : Prop := ob h r0 43 ∧ ob h (hR h r0 0) 71 ∧ nm (hN h (hR h r0 0) : Int) ∧ oJ13_coder r0 h
theorem wJ13_length {G : Gx} (hg : gF G = true) {d : Nat} {r0 : Nat} {h : Hp} {Q : Rs → Hp → Prop} (hm : oJ13_length r0 h) (hq : Q (rV (vI (vJ13_length r0 h))) h) : Ct G tJ13_length (d + 1) [vR r0] h Q := by
  refine ct_enter (L0 := [some (vR r0)]) rfl rfl ?_
  obtain ⟨o101, o102, o103, o104⟩ := hm
  have z : Q (rV (vI (ishr (hN h (hR h r0 0) : Int) (vJ13_coder r0 h)))) h := by
    rw [show (vJ13_length r0 h) = (ishr (hN h (hR h r0 0) : Int) (vJ13_coder r0 h)) from rfl] at hq
    exact hq
  exact wc_aload_n (pc := 0) (dAt dtJ13_length 0 rfl) rfl (wc_getR (pc := 1) (dAt dtJ13_length 1 rfl) flJ13_9_43 rfl o101 (wc_alen (pc := 4) (dAt dtJ13_length 2 rfl) ⟨by decide, by decide⟩ o102 o103 (wc_aload_n (pc := 5) (dAt dtJ13_length 3 rfl) rfl (wc_callV (k := 43) (y' := tJ13_coder) (P := eI (vJ13_coder r0 h) h) (pc := 6) (dAt dtJ13_length 4 rfl) lkJ13_335 moJ13_coder q866 q867 (by decide) o101 rfl rfl (Nat.le_of_ble_eq_true rfl) (wJ13_coder hg o104 ⟨rfl, rfl⟩) (ep_I (wc_ishr (pc := 9) (dAt dtJ13_length 5 rfl) (wc_iret (pc := 10) (dAt dtJ13_length 6 rfl) rfl (nar_int _) z))) ex_I))))
def tJ14_canEncode : Mt := (⟨"java/lang/StringLatin1", "canEncode", "(I)Z"⟩, prog_42_method_4_code, 1, (Option.some Jvm.ClassFile.FieldType.boolean), [])
def DJ14_canEncode : List (Nat × Instr × Nat) := [(0, .iload_n 0, 1), (1, .ifCond .lt 14, 3), (4, .iload_n 0, 1), (5, .sipush 255, 3), (8, .if_icmp .gt 7, 3), (11, .iconst 1, 1), (12, .goto 4, 3), (15, .iconst 0, 1), (16, .ireturn, 1)]
theorem dtJ14_canEncode : chkD (mB tJ14_canEncode) DJ14_canEncode = true := by decide +kernel
theorem moJ14_canEncode : MethOk tJ14_canEncode 1 := ⟨Or.inl ⟨rfl, q874⟩, by decide +kernel, ⟨by decide, by decide⟩, by decide +kernel⟩
def vJ14_canEncode (x0 : Int) (h : Hp) : Int := (b2i (¬ (x0 < 0) ∧ (¬ (255 < x0))))
theorem wJ14_canEncode {G : Gx} (hg : gF G = true) {d : Nat} {x0 : Int} {h : Hp} {Q : Rs → Hp → Prop} (hq : Q (rV (vI (vJ14_canEncode x0 h))) h) : Ct G tJ14_canEncode (d + 0) [vI x0] h Q := by
  refine ct_enter (L0 := [some (vI x0)]) rfl rfl ?_
  have k101 : (¬ (x0 < 0) ∧ (¬ (255 < x0))) → Wc G tJ14_canEncode (d + 0) h Q 11 [some (vI x0)] [] h := fun c103 => by
    have z : Q (rV (vI 1)) h := by
      rw [show (vJ14_canEncode x0 h) = 1 from (b2i_t c103)] at hq
      exact hq
    exact wc_iconst (pc := 11) (dAt dtJ14_canEncode 5 rfl) ⟨by decide, by decide⟩ (wc_goto (pc := 12) (tgt := 16) (dAt dtJ14_canEncode 6 rfl) (by decide) (wc_iret (pc := 16) (dAt dtJ14_canEncode 8 rfl) rfl (nar_bool (Or.inr rfl)) z))
  have k102 : ¬ (¬ (x0 < 0) ∧ (¬ (255 < x0))) → Wc G tJ14_canEncode (d + 0) h Q 15 [some (vI x0)] [] h := fun c103 => by
    have z : Q (rV (vI 0)) h := by
      rw [show (vJ14_canEncode x0 h) = 0 from (b2i_f c103)] at hq
      exact hq
    exact wc_iconst (pc := 15) (dAt dtJ14_canEncode 7 rfl) ⟨by decide, by decide⟩ (wc_iret (pc := 16) (dAt dtJ14_canEncode 8 rfl) rfl (nar_bool (Or.inl rfl)) z)
  exact wc_iload_n (pc := 0) (dAt dtJ14_canEncode 0 rfl) rfl (wc_if_lt (pc := 1) (tgt := 15) (dAt dtJ14_canEncode 1 rfl) (by decide) (fun c104 => (k102 (fun z => z.1 c104))) (fun c104 => wc_iload_n (pc := 4) (dAt dtJ14_canEncode 2 rfl) rfl (wc_sipush (pc := 5) (dAt dtJ14_canEncode 3 rfl) ⟨by decide, by decide, by decide⟩ (wc_icmp_gt (pc := 8) (tgt := 15) (dAt dtJ14_canEncode 4 rfl) (by decide) (fun c105 => (k102 (fun z => (fun z => z c105) z.2))) (fun c105 => (k101 ⟨c104, c105⟩))))))
theorem bJ14_canEncode (x0 : Int) (h : Hp) : (vJ14_canEncode x0 h) = 0 ∨ (vJ14_canEncode x0 h) = 1 := (bool_b2i _)
def tJ14_indexOfChar : Mt := (⟨"java/lang/StringLatin1", "indexOfChar", "([BIII)I"⟩, prog_42_method_23_code, 6, (Option.some Jvm.ClassFile.FieldType.int), [])
def DJ14_indexOfChar : List (Nat × Instr × Nat) := [(0, .iload_n 1, 1), (1, .i2b, 1), (2, .istore 4, 2), (4, .iload_n 2, 1), (5, .istore 5, 2), (7, .iload 5, 2), (9, .iload_n 3, 1), (10, .if_icmp .ge 21, 3), (13, .aload_n 0, 1), (14, .iload 5, 2), (16, .baload, 1), (17, .iload 4, 2), (19, .if_icmp .ne 6, 3), (22, .iload 5, 2), (24, .ireturn, 1), (25, .iinc 5 1, 3), (28, .goto (-21), 3), (31, .iconst (-1), 1), (32, .ireturn, 1)]
theorem dtJ14_indexOfChar : chkD (mB tJ14_indexOfChar) DJ14_indexOfChar = true := by decide +kernel
theorem moJ14_indexOfChar : MethOk tJ14_indexOfChar 4 := ⟨Or.inl ⟨rfl, q879⟩, by decide +kernel, ⟨by decide, by decide⟩, by decide +kernel⟩
def mJ14_indexOfChar (r0 : Nat) (x1 : Int) (x2 : Int) (x3 : Int) (h : Hp) (Q : Rs → Hp → Prop) : Prop := ∀ v101 : Int, v101 = (i2b x1) → wh1 (fun (C103 : Int → Prop) (x102 : Int) => if ¬ (x3 ≤ x102) then ob h r0 71 ∧ 0 ≤ x102 ∧ x102 < (hN h r0) ∧ if ¬ ((hI h r0 (Int.toNat x102)) ≠ v101) then Q (rV (vI x102)) h else nm (x102 + 1) ∧ ∀ i111 : Int, i111 = (x102 + 1) → C103 i111 else Q (rV (vI (-1))) h) x2
theorem wJ14_indexOfChar {G : Gx} (hg : gF G = true) {d : Nat} {r0 : Nat} {x1 : Int} {x2 : Int} {x3 : Int} {h : Hp} {Q : Rs → Hp → Prop} (hm : mJ14_indexOfChar r0 x1 x2 x3 h Q) : Ct G tJ14_indexOfChar (d + 0) [vR r0, vI x1, vI x2, vI x3] h Q := by
  refine ct_enter (L0 := [some (vR r0), some (vI x1), some (vI x2), some (vI x3), none, none]) rfl rfl ?_
  unfold mJ14_indexOfChar at hm
  obtain ⟨v101, ev101⟩ : ∃ v101 : Int, v101 = (i2b x1) := ⟨_, rfl⟩
  replace hm := hm v101 ev101
  refine wc_iload_n (pc := 0) (dAt dtJ14_indexOfChar 0 rfl) rfl (wc_i2b (pc := 1) (dAt dtJ14_indexOfChar 1 rfl) (wc_vi ev101 (wc_istore (pc := 2) (dAt dtJ14_indexOfChar 2 rfl) (by decide) (wc_L (L' := [some (vR r0), some (vI x1), some (vI x2), some (vI x3), some (vI v101), none]) rfl (wc_iload_n (pc := 4) (dAt dtJ14_indexOfChar 3 rfl) rfl (wc_istore (pc := 5) (dAt dtJ14_indexOfChar 4 rfl) (by decide) (wc_L (L' := [some (vR r0), some (vI x1), some (vI x2), some (vI x3), some (vI v101), some (vI x2)]) rfl (wc_drp [1, 2] rfl (wc_L (L' := [some (vR r0), none, none, some (vI x3), some (vI v101), some (vI x2)]) rfl (?_))))))))))
  refine wh1_ind (P := fun (x102 : Int) => Wc G tJ14_indexOfChar (d + 0) h Q 7 [some (vR r0), none, none, some (vI x3), some (vI v101), some (vI x102)] [] h) (fun C103 ih104 x102 hm => ?_) hm
  refine wc_iload (pc := 7) (dAt dtJ14_indexOfChar 5 rfl) rfl (wc_iload_n (pc := 9) (dAt dtJ14_indexOfChar 6 rfl) rfl (wc_icmp_ge (pc := 10) (tgt := 31) (dAt dtJ14_indexOfChar 7 rfl) (by decide) (fun c105 => ?_) (fun c105 => ?_)))
  · replace hm := ite_f (fun z => z c105) hm
    exact wc_iconst (pc := 31) (dAt dtJ14_indexOfChar 17 rfl) ⟨by decide, by decide⟩ (wc_iret (pc := 32) (dAt dtJ14_indexOfChar 18 rfl) rfl (nar_int _) hm)
  · replace hm := ite_t c105 hm
    obtain ⟨o106, o107, o108, hm⟩ := hm
    refine wc_aload_n (pc := 13) (dAt dtJ14_indexOfChar 8 rfl) rfl (wc_iload (pc := 14) (dAt dtJ14_indexOfChar 9 rfl) rfl (wc_bald (pc := 16) (dAt dtJ14_indexOfChar 10 rfl) o106 o107 o108 (wc_iload (pc := 17) (dAt dtJ14_indexOfChar 11 rfl) rfl (wc_icmp_ne (pc := 19) (tgt := 25) (dAt dtJ14_indexOfChar 12 rfl) (by decide) (fun c109 => ?_) (fun c109 => ?_)))))
    · replace hm := ite_f (fun z => z c109) hm
      obtain ⟨o110, hm⟩ := hm
      obtain ⟨i111, ei111⟩ : ∃ i111 : Int, i111 = (x102 + 1) := ⟨_, rfl⟩
      replace hm := hm i111 ei111
      exact wc_iinc (v := i111) (pc := 25) (dAt dtJ14_indexOfChar 15 rfl) rfl ei111 (ei111 ▸ o110) (by decide) (wc_L (L' := [some (vR r0), none, none, some (vI x3), some (vI v101), some (vI i111)]) rfl (wc_goto (pc := 28) (tgt := 7) (dAt dtJ14_indexOfChar 16 rfl) (by decide) (ih104 _ hm)))
    · replace hm := ite_t c109 hm
      exact wc_iload (pc := 22) (dAt dtJ14_indexOfChar 13 rfl) rfl (wc_iret (pc := 24) (dAt dtJ14_indexOfChar 14 rfl) rfl (nar_int _) hm)
def tJ14_indexOf : Mt := (⟨"java/lang/StringLatin1", "indexOf", "([BIII)I"⟩, prog_42_method_22_code, 4, (Option.some Jvm.ClassFile.FieldType.int), [])
def DJ14_indexOf : List (Nat × Instr × Nat) := [(0, .iload_n 1, 1), (1, .invokestatic 88, 3), (4, .ifCond .ne 5, 3), (7, .iconst (-1), 1), (8, .ireturn, 1), (9, .iload_n 2, 1), (10, .iconst 0, 1), (11, .invokestatic 92, 3), (14, .istore_n 2, 1), (15, .iload_n 3, 1), (16, .aload_n 0, 1), (17, .arraylength, 1), (18, .invokestatic 38, 3), (21, .istore_n 3, 1), (22, .iload_n 2, 1), (23, .iload_n 3, 1), (24, .if_icmp .lt 5, 3), (27, .iconst (-1), 1), (28, .ireturn, 1), (29, .aload_n 0, 1), (30, .iload_n 1, 1), (31, .iload_n 2, 1), (32, .iload_n 3, 1), (33, .invokestatic 95, 3), (36, .ireturn, 1)]
theorem dtJ14_indexOf : chkD (mB tJ14_indexOf) DJ14_indexOf = true := by decide +kernel
theorem moJ14_indexOf : MethOk tJ14_indexOf 4 := ⟨Or.inl ⟨rfl, q871⟩, by decide +kernel, ⟨by decide, by decide⟩, by decide +kernel⟩
def mJ14_indexOf (r0 : Nat) (x1 : Int) (x2 : Int) (x3 : Int) (h : Hp) (Q : Rs → Hp → Prop) : Prop := (vJ14_canEncode x1 h) ≠ 0 ∧ ∀ v103 : Int, v103 = (vJ4_max x2 0 h) → ob h r0 71 ∧ nm (hN h r0 : Int) ∧ ∀ v106 : Int, v106 = (vJ4_min x3 (hN h r0 : Int) h) → if ¬ (v103 < v106) then Q (rV (vI (-1))) h else mJ14_indexOfChar r0 x1 v103 v106 h (kI Q (fun x109 h108 => Q (rV (vI x109)) h108))
theorem wJ14_indexOf {G : Gx} (hg : gF G = true) {d : Nat} {r0 : Nat} {x1 : Int} {x2 : Int} {x3 : Int} {h : Hp} {Q : Rs → Hp → Prop} (hm : mJ14_indexOf r0 x1 x2 x3 h Q) : Ct G tJ14_indexOf (d + 1) [vR r0, vI x1, vI x2, vI x3] h Q := by
  refine ct_enter (L0 := [some (vR r0), some (vI x1), some (vI x2), some (vI x3)]) rfl rfl ?_
  unfold mJ14_indexOf at hm
  obtain ⟨o101, hm⟩ := hm
  obtain ⟨v103, ev103⟩ : ∃ v103 : Int, v103 = (vJ4_max x2 0 h) := ⟨_, rfl⟩
  replace hm := hm v103 ev103
  obtain ⟨o104, o105, hm⟩ := hm
  obtain ⟨v106, ev106⟩ : ∃ v106 : Int, v106 = (vJ4_min x3 (hN h r0 : Int) h) := ⟨_, rfl⟩
  replace hm := hm v106 ev106
  refine wc_iload_n (pc := 0) (dAt dtJ14_indexOf 0 rfl) rfl (wc_callS (y' := tJ14_canEncode) (P := eI (vJ14_canEncode x1 h) h) (pc := 1) (dAt dtJ14_indexOf 1 rfl) lkJ14_88 moJ14_canEncode q873 q151 rfl rfl (Nat.le_of_ble_eq_true rfl) (wJ14_canEncode hg ⟨rfl, rfl⟩) (ep_I (wc_if_ne (pc := 4) (tgt := 9) (dAt dtJ14_indexOf 2 rfl) (by decide) (fun c102 =>  (wc_iload_n (pc := 9) (dAt dtJ14_indexOf 5 rfl) rfl (wc_iconst (pc := 10) (dAt dtJ14_indexOf 6 rfl) ⟨by decide, by decide⟩ (wc_callS (y' := tJ4_max) (P := eI (vJ4_max x2 0 h) h) (pc := 11) (dAt dtJ14_indexOf 7 rfl) lkJ14_92 moJ4_max q446 q137 rfl rfl (Nat.le_of_ble_eq_true rfl) (wJ4_max hg ⟨rfl, rfl⟩) (ep_I (wc_vi ev103 (wc_istore_n (pc := 14) (dAt dtJ14_indexOf 8 rfl) (by decide) (wc_L (L' := [some (vR r0), some (vI x1), some (vI v103), some (vI x3)]) rfl (wc_iload_n (pc := 15) (dAt dtJ14_indexOf 9 rfl) rfl (wc_aload_n (pc := 16) (dAt dtJ14_indexOf 10 rfl) rfl (wc_alen (pc := 17) (dAt dtJ14_indexOf 11 rfl) ⟨by decide, by decide⟩ o104 o105 (wc_callS (y' := tJ4_min) (P := eI (vJ4_min x3 (hN h r0 : Int) h) h) (pc := 18) (dAt dtJ14_indexOf 12 rfl) lkJ14_38 moJ4_min q494 q137 rfl rfl (Nat.le_of_ble_eq_true rfl) (wJ4_min hg ⟨rfl, rfl⟩) (ep_I (wc_vi ev106 (wc_istore_n (pc := 21) (dAt dtJ14_indexOf 13 rfl) (by decide) (wc_L (L' := [some (vR r0), some (vI x1), some (vI v103), some (vI v106)]) rfl (wc_iload_n (pc := 22) (dAt dtJ14_indexOf 14 rfl) rfl (wc_iload_n (pc := 23) (dAt dtJ14_indexOf 15 rfl) rfl (wc_icmp_lt (pc := 24) (tgt := 29) (dAt dtJ14_indexOf 16 rfl) (by decide) (fun c107 => ?_) (fun c107 => ?_)))))))) ex_I)))))))) ex_I)))) (fun c102 => absurd o101 c102))) ex_I)
  · replace hm := ite_f (fun z => z c107) hm
    refine wc_aload_n (pc := 29) (dAt dtJ14_indexOf 19 rfl) rfl (wc_iload_n (pc := 30) (dAt dtJ14_indexOf 20 rfl) rfl (wc_iload_n (pc := 31) (dAt dtJ14_indexOf 21 rfl) rfl (wc_iload_n (pc := 32) (dAt dtJ14_indexOf 22 rfl) rfl (wc_callS (y' := tJ14_indexOfChar) (av := [vR r0, vI x1, vI v103, vI v106]) (st := []) (pc := 33) (dAt dtJ14_indexOf 23 rfl) lkJ14_95 moJ14_indexOfChar q878 q151 rfl rfl (Nat.le_of_ble_eq_true rfl) (wJ14_indexOfChar hg hm) (kr_I (fun x109 h108 hm => ?_)) (kx_I rfl)))))
    exact wc_iret (pc := 36) (dAt dtJ14_indexOf 24 rfl) rfl (nar_int _) hm
  · replace hm := ite_t c107 hm
    exact wc_iconst (pc := 27) (dAt dtJ14_indexOf 17 rfl) ⟨by decide, by decide⟩ (wc_iret (pc := 28) (dAt dtJ14_indexOf 18 rfl) rfl (nar_int _) hm)
def tJ13_indexOf_2 : Mt := (⟨"java/lang/String", "indexOf", "(II)I"⟩, prog_40_method_80_code, 3, (Option.some Jvm.ClassFile.FieldType.int), [])
def DJ13_indexOf_2 : List (Nat × Instr × Nat) := [(0, .aload_n 0, 1), (1, .invokevirtual 492, 3), (4, .ifCond .eq 19, 3), (7, .aload_n 0, 1), (8, .getfield 9, 3), (11, .iload_n 1, 1), (12, .iload_n 2, 1), (13, .aload_n 0, 1), (14, .invokevirtual 505, 3), (17, .invokestatic 637, 3), (20, .goto 16, 3), (23, .aload_n 0, 1), (24, .getfield 9, 3), (27, .iload_n 1, 1), (28, .iload_n 2, 1), (29, .aload_n 0, 1), (30, .invokevirtual 505, 3), (33, .invokestatic 640, 3), (36, .ireturn, 1)]
theorem dtJ13_indexOf_2 : chkD (mB tJ13_indexOf_2) DJ13_indexOf_2 = true := by decide +kernel
theorem moJ13_indexOf_2 : MethOk tJ13_indexOf_2 2 := ⟨Or.inl ⟨rfl, q854⟩, by decide +kernel, ⟨by decide, by decide⟩, by decide +kernel⟩
def mJ13_indexOf_2 (r0 : Nat) (x1 : Int) (x2 : Int) (h : Hp) (Q : Rs → Hp → Prop) : Prop := oJ13_isLatin1 r0 h ∧ ob h r0 43 ∧ ¬ ((vJ13_isLatin1 r0 h) = 0) ∧ oJ13_length r0 h ∧ mJ14_indexOf (hR h r0 0) x1 x2 (vJ13_length r0 h) h (kI Q (fun x107 h106 => Q (rV (vI x107)) h106))
theorem wJ13_indexOf_2 {G : Gx} (hg : gF G = true) {d : Nat} {r0 : Nat} {x1 : Int} {x2 : Int} {h : Hp} {Q : Rs → Hp → Prop} (hm : mJ13_indexOf_2 r0 x1 x2 h Q) : Ct G tJ13_indexOf_2 (d + 2) [vR r0, vI x1, vI x2] h Q := by
  refine ct_enter (L0 := [some (vR r0), some (vI x1), some (vI x2)]) rfl rfl ?_
  unfold mJ13_indexOf_2 at hm
  obtain ⟨o101, o102, o103, o105, hm⟩ := hm
  refine wc_aload_n (pc := 0) (dAt dtJ13_indexOf_2 0 rfl) rfl (wc_callV (k := 43) (y' := tJ13_isLatin1) (P := eI (vJ13_isLatin1 r0 h) h) (pc := 1) (dAt dtJ13_indexOf_2 1 rfl) lkJ13_492 moJ13_isLatin1 q856 q857 (by decide) o102 rfl rfl (Nat.le_of_ble_eq_true rfl) (wJ13_isLatin1 hg o101 ⟨rfl, rfl⟩) (ep_I (wc_if_eq (pc := 4) (tgt := 23) (dAt dtJ13_indexOf_2 2 rfl) (by decide) (fun c104 => absurd c104 o103) (fun c104 =>  (wc_aload_n (pc := 7) (dAt dtJ13_indexOf_2 3 rfl) rfl (wc_getR (pc := 8) (dAt dtJ13_indexOf_2 4 rfl) flJ13_9_43 rfl o102 (wc_iload_n (pc := 11) (dAt dtJ13_indexOf_2 5 rfl) rfl (wc_iload_n (pc := 12) (dAt dtJ13_indexOf_2 6 rfl) rfl (wc_aload_n (pc := 13) (dAt dtJ13_indexOf_2 7 rfl) rfl (wc_callV (k := 43) (y' := tJ13_length) (P := eI (vJ13_length r0 h) h) (pc := 14) (dAt dtJ13_indexOf_2 8 rfl) lkJ13_505 moJ13_length q862 q863 (by decide) o102 rfl rfl (Nat.le_of_ble_eq_true rfl) (wJ13_length hg o105 ⟨rfl, rfl⟩) (ep_I (wc_callS (y' := tJ14_indexOf) (av := [vR (hR h r0 0), vI x1, vI x2, vI (vJ13_length r0 h)]) (st := []) (pc := 17) (dAt dtJ13_indexOf_2 9 rfl) lkJ13_637 moJ14_indexOf q870 q151 rfl rfl (Nat.le_of_ble_eq_true rfl) (wJ14_indexOf hg hm) (kr_I (fun x107 h106 hm => ?_)) (kx_I rfl))) ex_I))))))))) ex_I)
  exact wc_goto (pc := 20) (tgt := 36) (dAt dtJ13_indexOf_2 10 rfl) (by decide) (wc_iret (pc := 36) (dAt dtJ13_indexOf_2 18 rfl) rfl (nar_int _) hm)
def tJ13_indexOf : Mt := (⟨"java/lang/String", "indexOf", "(I)I"⟩, prog_40_method_79_code, 2, (Option.some Jvm.ClassFile.FieldType.int), [])
def DJ13_indexOf : List (Nat × Instr × Nat) := [(0, .aload_n 0, 1), (1, .iload_n 1, 1), (2, .iconst 0, 1), (3, .invokevirtual 633, 3), (6, .ireturn, 1)]
theorem dtJ13_indexOf : chkD (mB tJ13_indexOf) DJ13_indexOf = true := by decide +kernel
theorem moJ13_indexOf : MethOk tJ13_indexOf 1 := ⟨Or.inl ⟨rfl, q850⟩, by decide +kernel, ⟨by decide, by decide⟩, by decide +kernel⟩
def mJ13_indexOf (r0 : Nat) (x1 : Int) (h : Hp) (Q : Rs → Hp → Prop) : Prop := ob h r0 43 ∧ mJ13_indexOf_2 r0 x1 0 h (kI Q (fun x103 h102 => Q (rV (vI x103)) h102))
theorem wJ13_indexOf {G : Gx} (hg : gF G = true) {d : Nat} {r0 : Nat} {x1 : Int} {h : Hp} {Q : Rs → Hp → Prop} (hm : mJ13_indexOf r0 x1 h Q) : Ct G tJ13_indexOf (d + 3) [vR r0, vI x1] h Q := by
  refine ct_enter (L0 := [some (vR r0), some (vI x1)]) rfl rfl ?_
  unfold mJ13_indexOf at hm
  obtain ⟨o101, hm⟩ := hm
  refine wc_aload_n (pc := 0) (dAt dtJ13_indexOf 0 rfl) rfl (wc_iload_n (pc := 1) (dAt dtJ13_indexOf 1 rfl) rfl (wc_iconst (pc := 2) (dAt dtJ13_indexOf 2 rfl) ⟨by decide, by decide⟩ (wc_callV (k := 43) (y' := tJ13_indexOf_2) (av := [vI x1, vI 0]) (st := []) (pc := 3) (dAt dtJ13_indexOf 3 rfl) lkJ13_633 moJ13_indexOf_2 q852 q853 (by decide) o101 rfl rfl (Nat.le_of_ble_eq_true rfl) (wJ13_indexOf_2 hg hm) (kr_I (fun x103 h102 hm => ?_)) (kx_I rfl))))
  exact wc_iret (pc := 6) (dAt dtJ13_indexOf 4 rfl) rfl (nar_int _) hm
def tX8_next : Mt := (⟨"FlyingDoctors$Reader", "next", "()V"⟩, prog_16_method_5_code, 1, (Option.none : Option Jvm.ClassFile.FieldType), [])
def DX8_next : List (Nat × Instr × Nat) := [(0, .aload_n 0, 1), (1, .invokevirtual 36, 3), (4, .bipush 32, 2), (6, .if_icmp .eq 12, 3), (9, .aload_n 0, 1), (10, .invokevirtual 36, 3), (13, .bipush 10, 2), (15, .if_icmp .ne 16, 3), (18, .aload_n 0, 1), (19, .dup, 1), (20, .getfield 29, 3), (23, .iconst 1, 1), (24, .iadd, 1), (25, .putfield 29, 3), (28, .goto (-28), 3), (31, .aload_n 0, 1), (32, .aload_n 0, 1), (33, .getfield 29, 3), (36, .putfield 44, 3), (39, .aload_n 0, 1), (40, .invokevirtual 36, 3), (43, .iconst (-1), 1), (44, .if_icmp .ne 11, 3), (47, .aload_n 0, 1), (48, .iconst 0, 1), (49, .putfield 47, 3), (52, .goto 133, 3), (55, .aload_n 0, 1), (56, .invokevirtual 50, 3), (59, .ifCond .eq 31, 3), (62, .aload_n 0, 1), (63, .invokevirtual 50, 3), (66, .ifCond .eq 16, 3), (69, .aload_n 0, 1), (70, .dup, 1), (71, .getfield 29, 3), (74, .iconst 1, 1), (75, .iadd, 1), (76, .putfield 29, 3), (79, .goto (-17), 3), (82, .aload_n 0, 1), (83, .iconst 1, 1), (84, .putfield 47, 3), (87, .goto 98, 3), (90, .aload_n 0, 1), (91, .invokevirtual 54, 3), (94, .ifCond .eq 60, 3), (97, .aload_n 0, 1), (98, .iconst 0, 1), (99, .putfield 57, 3), (102, .aload_n 0, 1), (103, .invokevirtual 54, 3), (106, .ifCond .eq 40, 3), (109, .aload_n 0, 1), (110, .ldc 60, 2), (112, .bipush 10, 2), (114, .aload_n 0, 1), (115, .getfield 57, 3), (118, .imul, 1), (119, .aload_n 0, 1), (120, .invokevirtual 36, 3), (123, .iadd, 1), (124, .bipush 48, 2), (126, .isub, 1), (127, .invokestatic 61, 3), (130, .putfield 57, 3), (133, .aload_n 0, 1), (134, .dup, 1), (135, .getfield 29, 3), (138, .iconst 1, 1), (139, .iadd, 1), (140, .putfield 29, 3), (143, .goto (-41), 3), (146, .aload_n 0, 1), (147, .iconst 2, 1), (148, .putfield 47, 3), (151, .goto 34, 3), (154, .aload_n 0, 1), (155, .ldc 67, 2), (157, .aload_n 0, 1), (158, .invokevirtual 36, 3), (161, .invokevirtual 69, 3), (164, .ifCond .lt 7, 3), (167, .iconst 3, 1), (168, .goto 4, 3), (171, .iconst 4, 1), (172, .putfield 47, 3), (175, .aload_n 0, 1), (176, .dup, 1), (177, .getfield 29, 3), (180, .iconst 1, 1), (181, .iadd, 1), (182, .putfield 29, 3), (185, .aload_n 0, 1), (186, .aload_n 0, 1), (187, .getfield 29, 3), (190, .putfield 75, 3), (193, .return_, 1)]
theorem dtX8_next : chkD (mB tX8_next) DX8_next = true := by decide +kernel
theorem moX8_next : MethOk tX8_next 0 := ⟨Or.inl ⟨rfl, q830⟩, by decide +kernel, ⟨by decide, by decide⟩, by decide +kernel⟩
def mX8_next (r0 : Nat) (h : Hp) (Q : Rs → Hp → Prop) : Prop := wh1 (fun (C102 : Hp → Prop) (h101 : Hp) => oX8_here r0 h101 ∧ ob h101 r0 8 ∧ if ((vX8_here r0 h101) = 32) ∨ (¬ ((vX8_here r0 h101) ≠ 10)) then nm ((hI h101 r0 3) + 1) ∧ ∀ h109 : Hp, h109 = sI h101 r0 3 ((hI h101 r0 3) + 1) → C102 h109 else ∀ h111 : Hp, h111 = sI h101 r0 5 (hI h101 r0 3) → oX8_here r0 h111 ∧ jn (fun (h115 : Hp) => ob h115 r0 8 ∧ ∀ h164 : Hp, h164 = sI h115 r0 6 (hI h115 r0 3) → Q rN h164) (fun K113 => if ¬ ((vX8_here r0 h111) ≠ (-1)) then ∀ h117 : Hp, h117 = sI h111 r0 4 0 → K113 h117 else oX8_isLetter r0 h111 ∧ if ¬ ((vX8_isLetter r0 h111) = 0) then wh1 (fun (C121 : Hp → Prop) (h120 : Hp) => oX8_isLetter r0 h120 ∧ ob h120 r0 8 ∧ if ¬ ((vX8_isLetter r0 h120) = 0) then nm ((hI h120 r0 3) + 1) ∧ ∀ h127 : Hp, h127 = sI h120 r0 3 ((hI h120 r0 3) + 1) → C121 h127 else ∀ h128 : Hp, h128 = sI h120 r0 4 1 → K113 h128) h111 else oX8_isDigit r0 h111 ∧ if ¬ ((vX8_isDigit r0 h111) = 0) then ∀ h131 : Hp, h131 = sI h111 r0 7 0 → wh1 (fun (C133 : Hp → Prop) (h132 : Hp) => oX8_isDigit r0 h132 ∧ ob h132 r0 8 ∧ if ¬ ((vX8_isDigit r0 h132) = 0) then nm (10 * (hI h132 r0 7)) ∧ oX8_here r0 h132 ∧ nm ((10 * (hI h132 r0 7)) + (vX8_here r0 h132)) ∧ nm (((10 * (hI h132 r0 7)) + (vX8_here r0 h132)) - 48) ∧ ∀ h142 : Hp, h142 = sI h132 r0 7 (vJ4_min 1000000 (((10 * (hI h132 r0 7)) + (vX8_here r0 h132)) - 48) h132) → nm ((hI h142 r0 3) + 1) ∧ ∀ h144 : Hp, h144 = sI h142 r0 3 ((hI h142 r0 3) + 1) → C133 h144 else ∀ h145 : Hp, h145 = sI h132 r0 4 2 → K113 h145) h131 else ob h111 11 43 ∧ mJ13_indexOf 11 (vX8_here r0 h111) h111 (kI Q (fun x148 h147 => ∀ v149 : Int, v149 = (if ¬ (x148 < 0) then 3 else 4) → ob h147 r0 8 ∧ ∀ h151 : Hp, h151 = sI h147 r0 4 v149 → nm ((hI h151 r0 3) + 1) ∧ ∀ h153 : Hp, h153 = sI h151 r0 3 ((hI h151 r0 3) + 1) → K113 h153)))) h
theorem wX8_next {G : Gx} (hg : gF G = true) {d : Nat} {r0 : Nat} {h : Hp} {Q : Rs → Hp → Prop} (hm : mX8_next r0 h Q) : Ct G tX8_next (d + 4) [vR r0] h Q := by
  refine ct_enter (L0 := [some (vR r0)]) rfl rfl ?_
  unfold mX8_next at hm
  refine wh1_ind (P := fun (h101 : Hp) => Wc G tX8_next (d + 4) h Q 0 [some (vR r0)] [] h101) (fun C102 ih103 h101 hm => ?_) hm
  obtain ⟨o104, o105, hm⟩ := hm
  refine wc_aload_n (pc := 0) (dAt dtX8_next 0 rfl) rfl (wc_callV (k := 8) (y' := tX8_here) (P := eI (vX8_here r0 h101) h101) (pc := 1) (dAt dtX8_next 1 rfl) lkX8_36 moX8_here q833 qs8 (by decide) o105 rfl rfl (Nat.le_of_ble_eq_true rfl) (wX8_here hg o104 ⟨rfl, rfl⟩) (ep_I (wc_bipush (pc := 4) (dAt dtX8_next 2 rfl) ⟨by decide, by decide, by decide⟩ (?_))) ex_I)
  have k165 : (((vX8_here r0 h101) = 32) ∨ (¬ ((vX8_here r0 h101) ≠ 10))) → Wc G tX8_next (d + 4) h Q 18 [some (vR r0)] [] h101 := fun c106 => by
    replace hm := ite_t c106 hm
    obtain ⟨o107, hm⟩ := hm
    obtain ⟨h109, eh109⟩ : ∃ h109 : Hp, h109 = sI h101 r0 3 ((hI h101 r0 3) + 1) := ⟨_, rfl⟩
    replace hm := hm h109 eh109
    exact wc_aload_n (pc := 18) (dAt dtX8_next 8 rfl) rfl (wc_dup (pc := 19) (dAt dtX8_next 9 rfl) rfl (wc_getI (pc := 20) (dAt dtX8_next 10 rfl) flX8_29_8 rfl o105 (wc_iconst (pc := 23) (dAt dtX8_next 11 rfl) ⟨by decide, by decide⟩ (wc_iadd (pc := 24) (dAt dtX8_next 12 rfl) o107 (wc_newer o105 (by decide) fun n108 => (wc_putI (pc := 25) (dAt dtX8_next 13 rfl) flX8_29_8 (Or.inl rfl) rfl o105 n108 (okI_int _) (wc_hp eh109 (wc_goto (pc := 28) (tgt := 0) (dAt dtX8_next 14 rfl) (by decide) (ih103 _ hm)))))))))
  have k166 : ¬ (((vX8_here r0 h101) = 32) ∨ (¬ ((vX8_here r0 h101) ≠ 10))) → Wc G tX8_next (d + 4) h Q 31 [some (vR r0)] [] h101 := fun c106 => by
    replace hm := ite_f c106 hm
    obtain ⟨h111, eh111⟩ : ∃ h111 : Hp, h111 = sI h101 r0 5 (hI h101 r0 3) := ⟨_, rfl⟩
    replace hm := hm h111 eh111
    obtain ⟨o112, hm⟩ := hm
    refine wc_aload_n (pc := 31) (dAt dtX8_next 15 rfl) rfl (wc_aload_n (pc := 32) (dAt dtX8_next 16 rfl) rfl (wc_getI (pc := 33) (dAt dtX8_next 17 rfl) flX8_29_8 rfl o105 (wc_newer o105 (by decide) fun n110 => (wc_putI (pc := 36) (dAt dtX8_next 18 rfl) flX8_44_8 (Or.inl rfl) rfl o105 n110 (okI_int _) (wc_hp eh111 (wc_aload_n (pc := 39) (dAt dtX8_next 19 rfl) rfl (wc_callV (k := 8) (y' := tX8_here) (P := eI (vX8_here r0 h111) h111) (pc := 40) (dAt dtX8_next 20 rfl) lkX8_36 moX8_here q833 qs8 (by decide) (ob_sI eh111 o105) rfl rfl (Nat.le_of_ble_eq_true rfl) (wX8_here hg o112 ⟨rfl, rfl⟩) (ep_I (wc_iconst (pc := 43) (dAt dtX8_next 21 rfl) ⟨by decide, by decide⟩ (?_))) ex_I)))))))
    refine jn1_ind (P := fun (h115 : Hp) => Wc G tX8_next (d + 4) h Q 185 [some (vR r0)] [] h115) (fun h115 hm => ?_) (fun K113 kj114 hm => ?_) hm
    · obtain ⟨o163, hm⟩ := hm
      obtain ⟨h164, eh164⟩ : ∃ h164 : Hp, h164 = sI h115 r0 6 (hI h115 r0 3) := ⟨_, rfl⟩
      replace hm := hm h164 eh164
      exact wc_aload_n (pc := 185) (dAt dtX8_next 93 rfl) rfl (wc_aload_n (pc := 186) (dAt dtX8_next 94 rfl) rfl (wc_getI (pc := 187) (dAt dtX8_next 95 rfl) flX8_29_8 rfl o163 (wc_putI (pc := 190) (dAt dtX8_next 96 rfl) flX8_75_8 (Or.inl rfl) rfl o163 n110 (okI_int _) (wc_hp eh164 (wc_vret (pc := 193) (dAt dtX8_next 97 rfl) rfl hm)))))
    · refine wc_icmp_ne (pc := 44) (tgt := 55) (dAt dtX8_next 22 rfl) (by decide) (fun c116 => ?_) (fun c116 => ?_)
      · replace hm := ite_f (fun z => z c116) hm
        obtain ⟨o118, hm⟩ := hm
        refine wc_aload_n (pc := 55) (dAt dtX8_next 27 rfl) rfl (wc_callV (k := 8) (y' := tX8_isLetter) (P := eI (vX8_isLetter r0 h111) h111) (pc := 56) (dAt dtX8_next 28 rfl) lkX8_50 moX8_isLetter q837 qs9 (by decide) (ob_sI eh111 o105) rfl rfl (Nat.le_of_ble_eq_true rfl) (wX8_isLetter hg o118 ⟨rfl, rfl⟩) (ep_I (wc_if_eq (pc := 59) (tgt := 90) (dAt dtX8_next 29 rfl) (by decide) (fun c119 => ?_) (fun c119 => ?_))) ex_I)
        · replace hm := ite_f (fun z => z c119) hm
          obtain ⟨o129, hm⟩ := hm
          refine wc_aload_n (pc := 90) (dAt dtX8_next 44 rfl) rfl (wc_callV (k := 8) (y' := tX8_isDigit) (P := eI (vX8_isDigit r0 h111) h111) (pc := 91) (dAt dtX8_next 45 rfl) lkX8_54 moX8_isDigit q842 qs10 (by decide) (ob_sI eh111 o105) rfl rfl (Nat.le_of_ble_eq_true rfl) (wX8_isDigit hg o129 ⟨rfl, rfl⟩) (ep_I (wc_if_eq (pc := 94) (tgt := 154) (dAt dtX8_next 46 rfl) (by decide) (fun c130 => ?_) (fun c130 => ?_))) ex_I)
          · replace hm := ite_f (fun z => z c130) hm
            obtain ⟨o146, hm⟩ := hm
            refine wc_aload_n (pc := 154) (dAt dtX8_next 77 rfl) rfl (wc_ldcS (a := 11) (tx := ";()+-*/<=") (pc := 155) (dAt dtX8_next 78 rfl) (by decide +kernel) (by decide) (wc_aload_n (pc := 157) (dAt dtX8_next 79 rfl) rfl (wc_callV (k := 8) (y' := tX8_here) (P := eI (vX8_here r0 h111) h111) (pc := 158) (dAt dtX8_next 80 rfl) lkX8_36 moX8_here q833 qs8 (by decide) (ob_sI eh111 o105) rfl rfl (Nat.le_of_ble_eq_true rfl) (wX8_here hg o112 ⟨rfl, rfl⟩) (ep_I (wc_callV (k := 43) (y' := tJ13_indexOf) (av := [vI (vX8_here r0 h111)]) (st := [vR r0]) (pc := 161) (dAt dtX8_next 81 rfl) lkX8_69 moJ13_indexOf q848 q849 (by decide) o146 rfl rfl (Nat.le_of_ble_eq_true rfl) (wJ13_indexOf hg hm) (kr_I (fun x148 h147 hm => ?_)) (kx_I rfl))) ex_I)))
            obtain ⟨v149, ev149⟩ : ∃ v149 : Int, v149 = (if ¬ (x148 < 0) then 3 else 4) := ⟨_, rfl⟩
            replace hm := hm v149 ev149
            have kj154 : Wc G tX8_next (d + 4) h Q 172 [some (vR r0)] [vI v149, vR r0] h147 := by
              obtain ⟨o150, hm⟩ := hm
              obtain ⟨h151, eh151⟩ : ∃ h151 : Hp, h151 = sI h147 r0 4 v149 := ⟨_, rfl⟩
              replace hm := hm h151 eh151
              obtain ⟨o152, hm⟩ := hm
              obtain ⟨h153, eh153⟩ : ∃ h153 : Hp, h153 = sI h151 r0 3 ((hI h151 r0 3) + 1) := ⟨_, rfl⟩
              replace hm := hm h153 eh153
              exact wc_putI (pc := 172) (dAt dtX8_next 86 rfl) flX8_47_8 (Or.inl rfl) rfl o150 n110 (okI_int _) (wc_hp eh151 (wc_aload_n (pc := 175) (dAt dtX8_next 87 rfl) rfl (wc_dup (pc := 176) (dAt dtX8_next 88 rfl) rfl (wc_getI (pc := 177) (dAt dtX8_next 89 rfl) flX8_29_8 rfl (ob_sI eh151 o150) (wc_iconst (pc := 180) (dAt dtX8_next 90 rfl) ⟨by decide, by decide⟩ (wc_iadd (pc := 181) (dAt dtX8_next 91 rfl) o152 (wc_putI (pc := 182) (dAt dtX8_next 92 rfl) flX8_29_8 (Or.inl rfl) rfl (ob_sI eh151 o150) n110 (okI_int _) (wc_hp eh153 (kj114 _ hm)))))))))
            have k155 : (¬ (x148 < 0)) → Wc G tX8_next (d + 4) h Q 167 [some (vR r0)] [vR r0] h147 := fun c157 => by
              have z158 := kj154
              rw [show v149 = 3 from ev149.trans (if_pos c157)] at z158
              exact wc_iconst (pc := 167) (dAt dtX8_next 83 rfl) ⟨by decide, by decide⟩ (wc_goto (pc := 168) (tgt := 172) (dAt dtX8_next 84 rfl) (by decide) (z158))
            have k156 : ¬ (¬ (x148 < 0)) → Wc G tX8_next (d + 4) h Q 171 [some (vR r0)] [vR r0] h147 := fun c157 => by
              have z160 := kj154
              rw [show v149 = 4 from ev149.trans (if_neg c157)] at z160
              exact wc_iconst (pc := 171) (dAt dtX8_next 85 rfl) ⟨by decide, by decide⟩ (z160)
            exact wc_if_lt (pc := 164) (tgt := 171) (dAt dtX8_next 82 rfl) (by decide) (fun c162 => (k156 (fun z => z c162))) (fun c162 => (k155 c162))
          · replace hm := ite_t c130 hm
            obtain ⟨h131, eh131⟩ : ∃ h131 : Hp, h131 = sI h111 r0 7 0 := ⟨_, rfl⟩
            replace hm := hm h131 eh131
            refine wc_aload_n (pc := 97) (dAt dtX8_next 47 rfl) rfl (wc_iconst (pc := 98) (dAt dtX8_next 48 rfl) ⟨by decide, by decide⟩ (wc_putI (pc := 99) (dAt dtX8_next 49 rfl) flX8_57_8 (Or.inl rfl) rfl (ob_sI eh111 o105) n110 (okI_int _) (wc_hp eh131 (?_))))
            refine wh1_ind (P := fun (h132 : Hp) => Wc G tX8_next (d + 4) h Q 102 [some (vR r0)] [] h132) (fun C133 ih134 h132 hm => ?_) hm
            obtain ⟨o135, o136, hm⟩ := hm
            refine wc_aload_n (pc := 102) (dAt dtX8_next 50 rfl) rfl (wc_callV (k := 8) (y' := tX8_isDigit) (P := eI (vX8_isDigit r0 h132) h132) (pc := 103) (dAt dtX8_next 51 rfl) lkX8_54 moX8_isDigit q842 qs10 (by decide) o136 rfl rfl (Nat.le_of_ble_eq_true rfl) (wX8_isDigit hg o135 ⟨rfl, rfl⟩) (ep_I (wc_if_eq (pc := 106) (tgt := 146) (dAt dtX8_next 52 rfl) (by decide) (fun c137 => ?_) (fun c137 => ?_))) ex_I)
            · replace hm := ite_f (fun z => z c137) hm
              obtain ⟨h145, eh145⟩ : ∃ h145 : Hp, h145 = sI h132 r0 4 2 := ⟨_, rfl⟩
              replace hm := hm h145 eh145
              exact wc_aload_n (pc := 146) (dAt dtX8_next 73 rfl) rfl (wc_iconst (pc := 147) (dAt dtX8_next 74 rfl) ⟨by decide, by decide⟩ (wc_putI (pc := 148) (dAt dtX8_next 75 rfl) flX8_47_8 (Or.inl rfl) rfl o136 n110 (okI_int _) (wc_hp eh145 (wc_goto (pc := 151) (tgt := 185) (dAt dtX8_next 76 rfl) (by decide) (kj114 _ hm)))))
            · replace hm := ite_t c137 hm
              obtain ⟨o138, o139, o140, o141, hm⟩ := hm
              obtain ⟨h142, eh142⟩ : ∃ h142 : Hp, h142 = sI h132 r0 7 (vJ4_min 1000000 (((10 * (hI h132 r0 7)) + (vX8_here r0 h132)) - 48) h132) := ⟨_, rfl⟩
              replace hm := hm h142 eh142
              obtain ⟨o143, hm⟩ := hm
              obtain ⟨h144, eh144⟩ : ∃ h144 : Hp, h144 = sI h142 r0 3 ((hI h142 r0 3) + 1) := ⟨_, rfl⟩
              replace hm := hm h144 eh144
              exact wc_aload_n (pc := 109) (dAt dtX8_next 53 rfl) rfl (wc_ldc (n := 1000000) (pc := 110) (dAt dtX8_next 54 rfl) q844 (by decide) ⟨by decide, by decide⟩ (wc_bipush (pc := 112) (dAt dtX8_next 55 rfl) ⟨by decide, by decide, by decide⟩ (wc_aload_n (pc := 114) (dAt dtX8_next 56 rfl) rfl (wc_getI (pc := 115) (dAt dtX8_next 57 rfl) flX8_57_8 rfl o136 (wc_imul (pc := 118) (dAt dtX8_next 58 rfl) o138 (wc_aload_n (pc := 119) (dAt dtX8_next 59 rfl) rfl (wc_callV (k := 8) (y' := tX8_here) (P := eI (vX8_here r0 h132) h132) (pc := 120) (dAt dtX8_next 60 rfl) lkX8_36 moX8_here q833 qs8 (by decide) o136 rfl rfl (Nat.le_of_ble_eq_true rfl) (wX8_here hg o139 ⟨rfl, rfl⟩) (ep_I (wc_iadd (pc := 123) (dAt dtX8_next 61 rfl) o140 (wc_bipush (pc := 124) (dAt dtX8_next 62 rfl) ⟨by decide, by decide, by decide⟩ (wc_isub (pc := 126) (dAt dtX8_next 63 rfl) o141 (wc_callS (y' := tJ4_min) (P := eI (vJ4_min 1000000 (((10 * (hI h132 r0 7)) + (vX8_here r0 h132)) - 48) h132) h132) (pc := 127) (dAt dtX8_next 64 rfl) lkX8_61 moJ4_min q494 q137 rfl rfl (Nat.le_of_ble_eq_true rfl) (wJ4_min hg ⟨rfl, rfl⟩) (ep_I (wc_putI (pc := 130) (dAt dtX8_next 65 rfl) flX8_57_8 (Or.inl rfl) rfl o136 n110 (okI_int _) (wc_hp eh142 (wc_aload_n (pc := 133) (dAt dtX8_next 66 rfl) rfl (wc_dup (pc := 134) (dAt dtX8_next 67 rfl) rfl (wc_getI (pc := 135) (dAt dtX8_next 68 rfl) flX8_29_8 rfl (ob_sI eh142 o136) (wc_iconst (pc := 138) (dAt dtX8_next 69 rfl) ⟨by decide, by decide⟩ (wc_iadd (pc := 139) (dAt dtX8_next 70 rfl) o143 (wc_putI (pc := 140) (dAt dtX8_next 71 rfl) flX8_29_8 (Or.inl rfl) rfl (ob_sI eh142 o136) n110 (okI_int _) (wc_hp eh144 (wc_goto (pc := 143) (tgt := 102) (dAt dtX8_next 72 rfl) (by decide) (ih134 _ hm)))))))))))) ex_I))))) ex_I)))))))
        · replace hm := ite_t c119 hm
          refine wh1_ind (P := fun (h120 : Hp) => Wc G tX8_next (d + 4) h Q 62 [some (vR r0)] [] h120) (fun C121 ih122 h120 hm => ?_) hm
          obtain ⟨o123, o124, hm⟩ := hm
          refine wc_aload_n (pc := 62) (dAt dtX8_next 30 rfl) rfl (wc_callV (k := 8) (y' := tX8_isLetter) (P := eI (vX8_isLetter r0 h120) h120) (pc := 63) (dAt dtX8_next 31 rfl) lkX8_50 moX8_isLetter q837 qs9 (by decide) o124 rfl rfl (Nat.le_of_ble_eq_true rfl) (wX8_isLetter hg o123 ⟨rfl, rfl⟩) (ep_I (wc_if_eq (pc := 66) (tgt := 82) (dAt dtX8_next 32 rfl) (by decide) (fun c125 => ?_) (fun c125 => ?_))) ex_I)
          · replace hm := ite_f (fun z => z c125) hm
            obtain ⟨h128, eh128⟩ : ∃ h128 : Hp, h128 = sI h120 r0 4 1 := ⟨_, rfl⟩
            replace hm := hm h128 eh128
            exact wc_aload_n (pc := 82) (dAt dtX8_next 40 rfl) rfl (wc_iconst (pc := 83) (dAt dtX8_next 41 rfl) ⟨by decide, by decide⟩ (wc_putI (pc := 84) (dAt dtX8_next 42 rfl) flX8_47_8 (Or.inl rfl) rfl o124 n110 (okI_int _) (wc_hp eh128 (wc_goto (pc := 87) (tgt := 185) (dAt dtX8_next 43 rfl) (by decide) (kj114 _ hm)))))
          · replace hm := ite_t c125 hm
            obtain ⟨o126, hm⟩ := hm
            obtain ⟨h127, eh127⟩ : ∃ h127 : Hp, h127 = sI h120 r0 3 ((hI h120 r0 3) + 1) := ⟨_, rfl⟩
            replace hm := hm h127 eh127
            exact wc_aload_n (pc := 69) (dAt dtX8_next 33 rfl) rfl (wc_dup (pc := 70) (dAt dtX8_next 34 rfl) rfl (wc_getI (pc := 71) (dAt dtX8_next 35 rfl) flX8_29_8 rfl o124 (wc_iconst (pc := 74) (dAt dtX8_next 36 rfl) ⟨by decide, by decide⟩ (wc_iadd (pc := 75) (dAt dtX8_next 37 rfl) o126 (wc_putI (pc := 76) (dAt dtX8_next 38 rfl) flX8_29_8 (Or.inl rfl) rfl o124 n110 (okI_int _) (wc_hp eh127 (wc_goto (pc := 79) (tgt := 62) (dAt dtX8_next 39 rfl) (by decide) (ih122 _ hm))))))))
      · replace hm := ite_t c116 hm
        obtain ⟨h117, eh117⟩ : ∃ h117 : Hp, h117 = sI h111 r0 4 0 := ⟨_, rfl⟩
        replace hm := hm h117 eh117
        exact wc_aload_n (pc := 47) (dAt dtX8_next 23 rfl) rfl (wc_iconst (pc := 48) (dAt dtX8_next 24 rfl) ⟨by decide, by decide⟩ (wc_putI (pc := 49) (dAt dtX8_next 25 rfl) flX8_47_8 (Or.inl rfl) rfl (ob_sI eh111 o105) n110 (okI_int _) (wc_hp eh117 (wc_goto (pc := 52) (tgt := 185) (dAt dtX8_next 26 rfl) (by decide) (kj114 _ hm)))))
  exact wc_icmp_eq (pc := 6) (tgt := 18) (dAt dtX8_next 3 rfl) (by decide) (fun c167 => (k165 (Or.inl c167))) (fun c167 => wc_aload_n (pc := 9) (dAt dtX8_next 4 rfl) rfl (wc_callV (k := 8) (y' := tX8_here) (P := eI (vX8_here r0 h101) h101) (pc := 10) (dAt dtX8_next 5 rfl) lkX8_36 moX8_here q833 qs8 (by decide) o105 rfl rfl (Nat.le_of_ble_eq_true rfl) (wX8_here hg o104 ⟨rfl, rfl⟩) (ep_I (wc_bipush (pc := 13) (dAt dtX8_next 6 rfl) ⟨by decide, by decide, by decide⟩ (wc_icmp_ne (pc := 15) (tgt := 31) (dAt dtX8_next 7 rfl) (by decide) (fun c168 => (k166 (fun z => z.elim c167 (fun z => z c168)))) (fun c168 => (k165 (Or.inr c168)))))) ex_I))
def tJ13_checkIndex : Mt := (⟨"java/lang/String", "checkIndex", "(II)V"⟩, prog_40_method_155_code, 2, (Option.none : Option Jvm.ClassFile.FieldType), [])
def DJ13_checkIndex : List (Nat × Instr × Nat) := [(0, .iload_n 0, 1), (1, .iload_n 1, 1), (2, .getstatic 1053, 3), (5, .invokestatic 1059, 3), (8, .pop, 1), (9, .return_, 1)]
theorem dtJ13_checkIndex : chkD (mB tJ13_checkIndex) DJ13_checkIndex = true := by decide +kernel
theorem moJ13_checkIndex : MethOk tJ13_checkIndex 2 := ⟨Or.inl ⟨rfl, q948⟩, by decide +kernel, ⟨by decide, by decide⟩, by decide +kernel⟩
def mJ13_checkIndex (x0 : Int) (x1 : Int) (h : Hp) (Q : Rs → Hp → Prop) : Prop := oJ7_checkIndex x0 x1 5 h ∧ Q rN h
theorem wJ13_checkIndex {G : Gx} (hg : gF G = true) {d : Nat} {x0 : Int} {x1 : Int} {h : Hp} {Q : Rs → Hp → Prop} (hm : mJ13_checkIndex x0 x1 h Q) : Ct G tJ13_checkIndex (d + 1) [vI x0, vI x1] h Q := by
  refine ct_enter (L0 := [some (vI x0), some (vI x1)]) rfl rfl ?_
  unfold mJ13_checkIndex at hm
  obtain ⟨o101, hm⟩ := hm
  exact wc_iload_n (pc := 0) (dAt dtJ13_checkIndex 0 rfl) rfl (wc_iload_n (pc := 1) (dAt dtJ13_checkIndex 1 rfl) rfl (wc_getsR (a := 5) (pc := 2) (dAt dtJ13_checkIndex 2 rfl) q898 (by decide +kernel) (by decide) (wc_callS (y' := tJ7_checkIndex) (P := eI (vJ7_checkIndex x0 x1 5 h) h) (pc := 5) (dAt dtJ13_checkIndex 3 rfl) lkJ13_1059 moJ7_checkIndex q518 q141 rfl rfl (Nat.le_of_ble_eq_true rfl) (wJ7_checkIndex hg o101 ⟨rfl, rfl⟩) (ep_I (wc_pop (pc := 8) (dAt dtJ13_checkIndex 4 rfl) rfl (wc_vret (pc := 9) (dAt dtJ13_checkIndex 5 rfl) rfl hm))) ex_I)))
def tJ14_charAt : Mt := (⟨"java/lang/StringLatin1", "charAt", "([BI)C"⟩, prog_42_method_2_code, 2, (Option.some Jvm.ClassFile.FieldType.char), [])
def DJ14_charAt : List (Nat × Instr × Nat) := [(0, .iload_n 1, 1), (1, .aload_n 0, 1), (2, .arraylength, 1), (3, .invokestatic 9, 3), (6, .aload_n 0, 1), (7, .iload_n 1, 1), (8, .baload, 1), (9, .sipush 255, 3), (12, .iand, 1), (13, .i2c, 1), (14, .ireturn, 1)]
theorem dtJ14_charAt : chkD (mB tJ14_charAt) DJ14_charAt = true := by decide +kernel
theorem moJ14_charAt : MethOk tJ14_charAt 2 := ⟨Or.inl ⟨rfl, q945⟩, by decide +kernel, ⟨by decide, by decide⟩, by decide +kernel⟩
def mJ14_charAt (r0 : Nat) (x1 : Int) (h : Hp) (Q : Rs → Hp → Prop) : Prop := ob h r0 71 ∧ nm (hN h r0 : Int) ∧ mJ13_checkIndex x1 (hN h r0 : Int) h (kN Q (fun h103 => ob h103 r0 71 ∧ 0 ≤ x1 ∧ x1 < (hN h103 r0) ∧ narrow .char (.int (Int32.ofInt (i2c (iand (hI h103 r0 (Int.toNat x1)) 255)))) = .int (Int32.ofInt (i2c (iand (hI h103 r0 (Int.toNat x1)) 255))) ∧ Q (rV (vI (i2c (iand (hI h103 r0 (Int.toNat x1)) 255)))) h103))
theorem wJ14_charAt {G : Gx} (hg : gF G = true) {d : Nat} {r0 : Nat} {x1 : Int} {h : Hp} {Q : Rs → Hp → Prop} (hm : mJ14_charAt r0 x1 h Q) : Ct G tJ14_charAt (d + 2) [vR r0, vI x1] h Q := by
  refine ct_enter (L0 := [some (vR r0), some (vI x1)]) rfl rfl ?_
  unfold mJ14_charAt at hm
  obtain ⟨o101, o102, hm⟩ := hm
  refine wc_iload_n (pc := 0) (dAt dtJ14_charAt 0 rfl) rfl (wc_aload_n (pc := 1) (dAt dtJ14_charAt 1 rfl) rfl (wc_alen (pc := 2) (dAt dtJ14_charAt 2 rfl) ⟨by decide, by decide⟩ o101 o102 (wc_callS (y' := tJ13_checkIndex) (av := [vI x1, vI (hN h r0 : Int)]) (st := []) (pc := 3) (dAt dtJ14_charAt 3 rfl) lkJ14_9 moJ13_checkIndex q947 q150 rfl rfl (Nat.le_of_ble_eq_true rfl) (wJ13_checkIndex hg hm) (kr_N (fun h103 hm => ?_)) (kx_N rfl))))
  obtain ⟨o104, o105, o106, o107, hm⟩ := hm
  exact wc_aload_n (pc := 6) (dAt dtJ14_charAt 4 rfl) rfl (wc_iload_n (pc := 7) (dAt dtJ14_charAt 5 rfl) rfl (wc_bald (pc := 8) (dAt dtJ14_charAt 6 rfl) o104 o105 o106 (wc_sipush (pc := 9) (dAt dtJ14_charAt 7 rfl) ⟨by decide, by decide, by decide⟩ (wc_iand (pc := 12) (dAt dtJ14_charAt 8 rfl) (wc_i2c (pc := 13) (dAt dtJ14_charAt 9 rfl) (wc_iret (pc := 14) (dAt dtJ14_charAt 10 rfl) rfl o107 hm))))))
def tJ13_charAt : Mt := (⟨"java/lang/String", "charAt", "(I)C"⟩, prog_40_method_56_code, 2, (Option.some Jvm.ClassFile.FieldType.char), [])
def DJ13_charAt : List (Nat × Instr × Nat) := [(0, .aload_n 0, 1), (1, .invokevirtual 492, 3), (4, .ifCond .eq 12, 3), (7, .aload_n 0, 1), (8, .getfield 9, 3), (11, .iload_n 1, 1), (12, .invokestatic 495, 3), (15, .ireturn, 1), (16, .aload_n 0, 1), (17, .getfield 9, 3), (20, .iload_n 1, 1), (21, .invokestatic 498, 3), (24, .ireturn, 1)]
theorem dtJ13_charAt : chkD (mB tJ13_charAt) DJ13_charAt = true := by decide +kernel
theorem moJ13_charAt : MethOk tJ13_charAt 1 := ⟨Or.inl ⟨rfl, q942⟩, by decide +kernel, ⟨by decide, by decide⟩, by decide +kernel⟩
def mJ13_charAt (r0 : Nat) (x1 : Int) (h : Hp) (Q : Rs → Hp → Prop) : Prop := oJ13_isLatin1 r0 h ∧ ob h r0 43 ∧ ¬ ((vJ13_isLatin1 r0 h) = 0) ∧ mJ14_charAt (hR h r0 0) x1 h (kI Q (fun x106 h105 => narrow .char (.int (Int32.ofInt x106)) = .int (Int32.ofInt x106) ∧ Q (rV (vI x106)) h105))
theorem wJ13_charAt {G : Gx} (hg : gF G = true) {d : Nat} {r0 : Nat} {x1 : Int} {h : Hp} {Q : Rs → Hp → Prop} (hm : mJ13_charAt r0 x1 h Q) : Ct G tJ13_charAt (d + 3) [vR r0, vI x1] h Q := by
  refine ct_enter (L0 := [some (vR r0), some (vI x1)]) rfl rfl ?_
  unfold mJ13_charAt at hm
  obtain ⟨o101, o102, o103, hm⟩ := hm
  refine wc_aload_n (pc := 0) (dAt dtJ13_charAt 0 rfl) rfl (wc_callV (k := 43) (y' := tJ13_isLatin1) (P := eI (vJ13_isLatin1 r0 h) h) (pc := 1) (dAt dtJ13_charAt 1 rfl) lkJ13_492 moJ13_isLatin1 q856 q857 (by decide) o102 rfl rfl (Nat.le_of_ble_eq_true rfl) (wJ13_isLatin1 hg o101 ⟨rfl, rfl⟩) (ep_I (wc_if_eq (pc := 4) (tgt := 16) (dAt dtJ13_charAt 2 rfl) (by decide) (fun c104 => absurd c104 o103) (fun c104 =>  (wc_aload_n (pc := 7) (dAt dtJ13_charAt 3 rfl) rfl (wc_getR (pc := 8) (dAt dtJ13_charAt 4 rfl) flJ13_9_43 rfl o102 (wc_iload_n (pc := 11) (dAt dtJ13_charAt 5 rfl) rfl (wc_callS (y' := tJ14_charAt) (av := [vR (hR h r0 0), vI x1]) (st := []) (pc := 12) (dAt dtJ13_charAt 6 rfl) lkJ13_495 moJ14_charAt q944 q151 rfl rfl (Nat.le_of_ble_eq_true rfl) (wJ14_charAt hg hm) (kr_I (fun x106 h105 hm => ?_)) (kx_I rfl)))))))) ex_I)
  obtain ⟨o107, hm⟩ := hm
  exact wc_iret (pc := 15) (dAt dtJ13_charAt 7 rfl) rfl o107 hm
