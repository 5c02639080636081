set_option maxRecDepth 100000
set_option maxHeartbeats 1000000
/-! what methods do, and their walks, by program -/
def tJ2_size : Mt := (⟨"java/util/ArrayList", "size", "()I"⟩, prog_50_method_8_code, 1, (Option.some Jvm.ClassFile.FieldType.int), [])
def DJ2_size : List (Nat × Instr × Nat) := [(0, .aload_n 0, 1), (1, .getfield 48, 3), (4, .ireturn, 1)]
theorem dtJ2_size : chkD (mB tJ2_size) DJ2_size = true := by decide +kernel
theorem moJ2_size : MethOk tJ2_size 0 := ⟨Or.inl ⟨rfl, q372⟩, by decide +kernel, ⟨by decide, by decide⟩, by decide +kernel⟩
def vJ2_size (r0 : Nat) (h : Hp) : Int := (hI h r0 2)
def oJ2_size (r0 : Nat) (h : Hp) : Prop := ob h r0 32
theorem wJ2_size {G : Gx} (hg : gF G = true) {d : Nat} {r0 : Nat} {h : Hp} {Q : Rs → Hp → Prop} (hm : oJ2_size r0 h) (hq : Q (rV (vI (vJ2_size r0 h))) h) : Ct G tJ2_size (d + 0) [vR r0] h Q := by
  refine ct_enter (L0 := [some (vR r0)]) rfl rfl ?_
  have o101 := hm
  have z : Q (rV (vI (hI h r0 2))) h := by
    rw [show (vJ2_size r0 h) = (hI h r0 2) from rfl] at hq
    exact hq
  exact wc_aload_n (pc := 0) (dAt dtJ2_size 0 rfl) rfl (wc_getI (pc := 1) (dAt dtJ2_size 1 rfl) flJ2_48_32 rfl o101 (wc_iret (pc := 4) (dAt dtJ2_size 2 rfl) rfl (nar_int _) z))
def tX1_in : Mt := (⟨"FlyingDoctors", "in", "(III)Z"⟩, prog_1_method_1_code, 3, (Option.some Jvm.ClassFile.FieldType.boolean), [])
def DX1_in : List (Nat × Instr × Nat) := [(0, .iload_n 0, 1), (1, .iload_n 1, 1), (2, .if_icmp .lt 12, 3), (5, .iload_n 0, 1), (6, .iload_n 2, 1), (7, .if_icmp .gt 7, 3), (10, .iconst 1, 1), (11, .goto 4, 3), (14, .iconst 0, 1), (15, .ireturn, 1)]
theorem dtX1_in : chkD (mB tX1_in) DX1_in = true := by decide +kernel
theorem moX1_in : MethOk tX1_in 3 := ⟨Or.inl ⟨rfl, q375⟩, by decide +kernel, ⟨by decide, by decide⟩, by decide +kernel⟩
def vX1_in (x0 : Int) (x1 : Int) (x2 : Int) (h : Hp) : Int := (b2i (¬ (x0 < x1) ∧ (¬ (x2 < x0))))
theorem wX1_in {G : Gx} (hg : gF G = true) {d : Nat} {x0 : Int} {x1 : Int} {x2 : Int} {h : Hp} {Q : Rs → Hp → Prop} (hq : Q (rV (vI (vX1_in x0 x1 x2 h))) h) : Ct G tX1_in (d + 0) [vI x0, vI x1, vI x2] h Q := by
  refine ct_enter (L0 := [some (vI x0), some (vI x1), some (vI x2)]) rfl rfl ?_
  have k101 : (¬ (x0 < x1) ∧ (¬ (x2 < x0))) → Wc G tX1_in (d + 0) h Q 10 [some (vI x0), some (vI x1), some (vI x2)] [] h := fun c103 => by
    have z : Q (rV (vI 1)) h := by
      rw [show (vX1_in x0 x1 x2 h) = 1 from (b2i_t c103)] at hq
      exact hq
    exact wc_iconst (pc := 10) (dAt dtX1_in 6 rfl) ⟨by decide, by decide⟩ (wc_goto (pc := 11) (tgt := 15) (dAt dtX1_in 7 rfl) (by decide) (wc_iret (pc := 15) (dAt dtX1_in 9 rfl) rfl (nar_bool (Or.inr rfl)) z))
  have k102 : ¬ (¬ (x0 < x1) ∧ (¬ (x2 < x0))) → Wc G tX1_in (d + 0) h Q 14 [some (vI x0), some (vI x1), some (vI x2)] [] h := fun c103 => by
    have z : Q (rV (vI 0)) h := by
      rw [show (vX1_in x0 x1 x2 h) = 0 from (b2i_f c103)] at hq
      exact hq
    exact wc_iconst (pc := 14) (dAt dtX1_in 8 rfl) ⟨by decide, by decide⟩ (wc_iret (pc := 15) (dAt dtX1_in 9 rfl) rfl (nar_bool (Or.inl rfl)) z)
  exact wc_iload_n (pc := 0) (dAt dtX1_in 0 rfl) rfl (wc_iload_n (pc := 1) (dAt dtX1_in 1 rfl) rfl (wc_icmp_lt (pc := 2) (tgt := 14) (dAt dtX1_in 2 rfl) (by decide) (fun c104 => (k102 (fun z => z.1 c104))) (fun c104 => wc_iload_n (pc := 5) (dAt dtX1_in 3 rfl) rfl (wc_iload_n (pc := 6) (dAt dtX1_in 4 rfl) rfl (wc_icmp_gt (pc := 7) (tgt := 14) (dAt dtX1_in 5 rfl) (by decide) (fun c105 => (k102 (fun z => (fun z => z c105) z.2))) (fun c105 => (k101 ⟨c104, c105⟩)))))))
theorem bX1_in (x0 : Int) (x1 : Int) (x2 : Int) (h : Hp) : (vX1_in x0 x1 x2 h) = 0 ∨ (vX1_in x0 x1 x2 h) = 1 := (bool_b2i _)
def tX5_init : Mt := (⟨"FlyingDoctors$Place", "<init>", "(IIIII)V"⟩, prog_14_method_1_code, 6, (Option.none : Option Jvm.ClassFile.FieldType), [])
def DX5_init : List (Nat × Instr × Nat) := [(0, .aload_n 0, 1), (1, .invokespecial 3, 3), (4, .aload_n 0, 1), (5, .bipush 31, 2), (7, .newarray .int, 2), (9, .putfield 9, 3), (12, .aload_n 0, 1), (13, .iload_n 1, 1), (14, .putfield 15, 3), (17, .aload_n 0, 1), (18, .iload_n 2, 1), (19, .putfield 19, 3), (22, .aload_n 0, 1), (23, .iload_n 3, 1), (24, .putfield 22, 3), (27, .aload_n 0, 1), (28, .iload 4, 2), (30, .putfield 25, 3), (33, .aload_n 0, 1), (34, .iload 5, 2), (36, .iconst 1, 1), (37, .iand, 1), (38, .iconst 1, 1), (39, .if_icmp .ne 7, 3), (42, .iconst 1, 1), (43, .goto 4, 3), (46, .iconst 0, 1), (47, .putfield 28, 3), (50, .aload_n 0, 1), (51, .iload 5, 2), (53, .iconst 2, 1), (54, .iand, 1), (55, .iconst 2, 1), (56, .if_icmp .ne 7, 3), (59, .iconst 1, 1), (60, .goto 4, 3), (63, .iconst 0, 1), (64, .putfield 32, 3), (67, .return_, 1)]
theorem dtX5_init : chkD (mB tX5_init) DX5_init = true := by decide +kernel
theorem moX5_init : MethOk tX5_init 5 := ⟨Or.inl ⟨rfl, q379⟩, by decide +kernel, ⟨by decide, by decide⟩, by decide +kernel⟩
def mX5_init (r0 : Nat) (x1 : Int) (x2 : Int) (x3 : Int) (x4 : Int) (x5 : Int) (h : Hp) (Q : Rs → Hp → Prop) : Prop := 50 ≤ r0 ∧ hn h + 1 ≤ 878547 ∧ hq h + 31 ≤ 6460613 ∧ ∀ r105 : Nat, r105 = hn h → ∀ h106 : Hp, h106 = nw h 70 31 31 → ob h106 r0 5 ∧ ∀ h108 : Hp, h108 = sR h106 r0 6 r105 → ∀ h109 : Hp, h109 = sI h108 r0 0 x1 → ∀ h110 : Hp, h110 = sI h109 r0 1 x2 → ∀ h111 : Hp, h111 = sI h110 r0 2 x3 → ∀ h112 : Hp, h112 = sI h111 r0 3 x4 → ∀ v113 : Int, v113 = (b2i (¬ ((iand x5 1) ≠ 1))) → ∀ h114 : Hp, h114 = sI h112 r0 4 v113 → ∀ v115 : Int, v115 = (b2i (¬ ((iand x5 2) ≠ 2))) → ∀ h116 : Hp, h116 = sI h114 r0 5 v115 → Q rN h116
theorem wX5_init {G : Gx} (hg : gF G = true) {d : Nat} {r0 : Nat} {x1 : Int} {x2 : Int} {x3 : Int} {x4 : Int} {x5 : Int} {h : Hp} {Q : Rs → Hp → Prop} (hm : mX5_init r0 x1 x2 x3 x4 x5 h Q) : Ct G tX5_init (d + 1) [vR r0, vI x1, vI x2, vI x3, vI x4, vI x5] h Q := by
  refine ct_enter (L0 := [some (vR r0), some (vI x1), some (vI x2), some (vI x3), some (vI x4), some (vI x5)]) rfl rfl ?_
  unfold mX5_init at hm
  obtain ⟨o101, o102, o103, hm⟩ := hm
  obtain ⟨r105, er105⟩ : ∃ r105 : Nat, r105 = hn h := ⟨_, rfl⟩
  replace hm := hm r105 er105
  obtain ⟨h106, eh106⟩ : ∃ h106 : Hp, h106 = nw h 70 31 31 := ⟨_, rfl⟩
  replace hm := hm h106 eh106
  obtain ⟨o107, hm⟩ := hm
  obtain ⟨h108, eh108⟩ : ∃ h108 : Hp, h108 = sR h106 r0 6 r105 := ⟨_, rfl⟩
  replace hm := hm h108 eh108
  obtain ⟨h109, eh109⟩ : ∃ h109 : Hp, h109 = sI h108 r0 0 x1 := ⟨_, rfl⟩
  replace hm := hm h109 eh109
  obtain ⟨h110, eh110⟩ : ∃ h110 : Hp, h110 = sI h109 r0 1 x2 := ⟨_, rfl⟩
  replace hm := hm h110 eh110
  obtain ⟨h111, eh111⟩ : ∃ h111 : Hp, h111 = sI h110 r0 2 x3 := ⟨_, rfl⟩
  replace hm := hm h111 eh111
  obtain ⟨h112, eh112⟩ : ∃ h112 : Hp, h112 = sI h111 r0 3 x4 := ⟨_, rfl⟩
  replace hm := hm h112 eh112
  obtain ⟨v113, ev113⟩ : ∃ v113 : Int, v113 = (b2i (¬ ((iand x5 1) ≠ 1))) := ⟨_, rfl⟩
  replace hm := hm v113 ev113
  refine wc_aload_n (pc := 0) (dAt dtX5_init 0 rfl) rfl (wc_obj (pc := 1) (dAt dtX5_init 1 rfl) q380 q180 q181 o101 (Nat.le_of_ble_eq_true rfl) (wc_aload_n (pc := 4) (dAt dtX5_init 2 rfl) rfl (wc_bipush (pc := 5) (dAt dtX5_init 3 rfl) ⟨by decide, by decide, by decide⟩ (wc_k0 fun n104 => (wc_newarr (t := 70) (pc := 7) (dAt dtX5_init 4 rfl) rfl ⟨by decide, by decide⟩ q210 (by decide) (by decide) o102 o103 (wc_hp eh106 (wc_vr er105 (wc_putR (pc := 9) (dAt dtX5_init 5 rfl) flX5_9_5 (Or.inr ⟨rfl, rfl, rfl⟩) rfl o107 o101 (fun _ => ⟨by decide, by decide, by decide⟩) (wc_hp eh108 (wc_aload_n (pc := 12) (dAt dtX5_init 6 rfl) rfl (wc_iload_n (pc := 13) (dAt dtX5_init 7 rfl) rfl (wc_putI (pc := 14) (dAt dtX5_init 8 rfl) flX5_15_5 (Or.inr ⟨rfl, rfl, rfl⟩) rfl (ob_sR eh108 o107) o101 (okI_int _) (wc_hp eh109 (wc_aload_n (pc := 17) (dAt dtX5_init 9 rfl) rfl (wc_iload_n (pc := 18) (dAt dtX5_init 10 rfl) rfl (wc_putI (pc := 19) (dAt dtX5_init 11 rfl) flX5_19_5 (Or.inr ⟨rfl, rfl, rfl⟩) rfl (ob_sI eh109 (ob_sR eh108 o107)) o101 (okI_int _) (wc_hp eh110 (wc_aload_n (pc := 22) (dAt dtX5_init 12 rfl) rfl (wc_iload_n (pc := 23) (dAt dtX5_init 13 rfl) rfl (wc_putI (pc := 24) (dAt dtX5_init 14 rfl) flX5_22_5 (Or.inr ⟨rfl, rfl, rfl⟩) rfl (ob_sI eh110 (ob_sI eh109 (ob_sR eh108 o107))) o101 (okI_int _) (wc_hp eh111 (wc_aload_n (pc := 27) (dAt dtX5_init 15 rfl) rfl (wc_iload (pc := 28) (dAt dtX5_init 16 rfl) rfl (wc_putI (pc := 30) (dAt dtX5_init 17 rfl) flX5_25_5 (Or.inr ⟨rfl, rfl, rfl⟩) rfl (ob_sI eh111 (ob_sI eh110 (ob_sI eh109 (ob_sR eh108 o107)))) o101 (okI_int _) (wc_hp eh112 (wc_aload_n (pc := 33) (dAt dtX5_init 18 rfl) rfl (wc_iload (pc := 34) (dAt dtX5_init 19 rfl) rfl (wc_iconst (pc := 36) (dAt dtX5_init 20 rfl) ⟨by decide, by decide⟩ (wc_iand (pc := 37) (dAt dtX5_init 21 rfl) (wc_iconst (pc := 38) (dAt dtX5_init 22 rfl) ⟨by decide, by decide⟩ (?_)))))))))))))))))))))))))))))))
  have kj126 : Wc G tX5_init (d + 1) h Q 47 [some (vR r0), none, none, none, none, some (vI x5)] [vI v113, vR r0] h112 := by
    obtain ⟨h114, eh114⟩ : ∃ h114 : Hp, h114 = sI h112 r0 4 v113 := ⟨_, rfl⟩
    replace hm := hm h114 eh114
    obtain ⟨v115, ev115⟩ : ∃ v115 : Int, v115 = (b2i (¬ ((iand x5 2) ≠ 2))) := ⟨_, rfl⟩
    replace hm := hm v115 ev115
    refine wc_putI (pc := 47) (dAt dtX5_init 27 rfl) flX5_28_5 (Or.inr ⟨rfl, rfl, rfl⟩) rfl (ob_sI eh112 (ob_sI eh111 (ob_sI eh110 (ob_sI eh109 (ob_sR eh108 o107))))) o101 (okI_bool (bo_tr ev113.symm (bool_b2i _))) (wc_hp eh114 (wc_aload_n (pc := 50) (dAt dtX5_init 28 rfl) rfl (wc_iload (pc := 51) (dAt dtX5_init 29 rfl) rfl (wc_iconst (pc := 53) (dAt dtX5_init 30 rfl) ⟨by decide, by decide⟩ (wc_iand (pc := 54) (dAt dtX5_init 31 rfl) (wc_iconst (pc := 55) (dAt dtX5_init 32 rfl) ⟨by decide, by decide⟩ (?_)))))))
    have kj117 : Wc G tX5_init (d + 1) h Q 64 [some (vR r0), none, none, none, none, none] [vI v115, vR r0] h114 := by
      obtain ⟨h116, eh116⟩ : ∃ h116 : Hp, h116 = sI h114 r0 5 v115 := ⟨_, rfl⟩
      replace hm := hm h116 eh116
      exact wc_putI (pc := 64) (dAt dtX5_init 37 rfl) flX5_32_5 (Or.inr ⟨rfl, rfl, rfl⟩) rfl (ob_sI eh114 (ob_sI eh112 (ob_sI eh111 (ob_sI eh110 (ob_sI eh109 (ob_sR eh108 o107)))))) o101 (okI_bool (bo_tr ev115.symm (bool_b2i _))) (wc_hp eh116 (wc_vret (pc := 67) (dAt dtX5_init 38 rfl) rfl hm))
    have k118 : (¬ ((iand x5 2) ≠ 2)) → Wc G tX5_init (d + 1) h Q 59 [some (vR r0), none, none, none, none, some (vI x5)] [vR r0] h114 := fun c120 => by
      have z121 := kj117
      rw [show v115 = 1 from ev115.trans (b2i_t c120)] at z121
      exact wc_iconst (pc := 59) (dAt dtX5_init 34 rfl) ⟨by decide, by decide⟩ (wc_goto (pc := 60) (tgt := 64) (dAt dtX5_init 35 rfl) (by decide) (wc_drp [5] rfl (z121)))
    have k119 : ¬ (¬ ((iand x5 2) ≠ 2)) → Wc G tX5_init (d + 1) h Q 63 [some (vR r0), none, none, none, none, some (vI x5)] [vR r0] h114 := fun c120 => by
      have z123 := kj117
      rw [show v115 = 0 from ev115.trans (b2i_f c120)] at z123
      exact wc_iconst (pc := 63) (dAt dtX5_init 36 rfl) ⟨by decide, by decide⟩ (wc_drp [5] rfl (z123))
    exact wc_icmp_ne (pc := 56) (tgt := 63) (dAt dtX5_init 33 rfl) (by decide) (fun c125 => (k119 (fun z => z c125))) (fun c125 => (k118 c125))
  have k127 : (¬ ((iand x5 1) ≠ 1)) → Wc G tX5_init (d + 1) h Q 42 [some (vR r0), some (vI x1), some (vI x2), some (vI x3), some (vI x4), some (vI x5)] [vR r0] h112 := fun c129 => by
    have z130 := kj126
    rw [show v113 = 1 from ev113.trans (b2i_t c129)] at z130
    exact wc_iconst (pc := 42) (dAt dtX5_init 24 rfl) ⟨by decide, by decide⟩ (wc_goto (pc := 43) (tgt := 47) (dAt dtX5_init 25 rfl) (by decide) (wc_drp [1, 2, 3, 4] rfl (z130)))
  have k128 : ¬ (¬ ((iand x5 1) ≠ 1)) → Wc G tX5_init (d + 1) h Q 46 [some (vR r0), some (vI x1), some (vI x2), some (vI x3), some (vI x4), some (vI x5)] [vR r0] h112 := fun c129 => by
    have z132 := kj126
    rw [show v113 = 0 from ev113.trans (b2i_f c129)] at z132
    exact wc_iconst (pc := 46) (dAt dtX5_init 26 rfl) ⟨by decide, by decide⟩ (wc_drp [1, 2, 3, 4] rfl (z132))
  exact wc_icmp_ne (pc := 39) (tgt := 46) (dAt dtX5_init 23 rfl) (by decide) (fun c134 => (k128 (fun z => z c134))) (fun c134 => (k127 c134))
def tJ4_max : Mt := (⟨"java/lang/Math", "max", "(II)I"⟩, prog_37_method_65_code, 2, (Option.some Jvm.ClassFile.FieldType.int), [])
def DJ4_max : List (Nat × Instr × Nat) := [(0, .iload_n 0, 1), (1, .iload_n 1, 1), (2, .if_icmp .lt 7, 3), (5, .iload_n 0, 1), (6, .goto 4, 3), (9, .iload_n 1, 1), (10, .ireturn, 1)]
theorem dtJ4_max : chkD (mB tJ4_max) DJ4_max = true := by decide +kernel
theorem moJ4_max : MethOk tJ4_max 2 := ⟨Or.inl ⟨rfl, q447⟩, by decide +kernel, ⟨by decide, by decide⟩, by decide +kernel⟩
def vJ4_max (x0 : Int) (x1 : Int) (h : Hp) : Int := (if ¬ (x0 < x1) then x0 else x1)
theorem wJ4_max {G : Gx} (hg : gF G = true) {d : Nat} {x0 : Int} {x1 : Int} {h : Hp} {Q : Rs → Hp → Prop} (hq : Q (rV (vI (vJ4_max x0 x1 h))) h) : Ct G tJ4_max (d + 0) [vI x0, vI x1] h Q := by
  refine ct_enter (L0 := [some (vI x0), some (vI x1)]) rfl rfl ?_
  have k101 : (¬ (x0 < x1)) → Wc G tJ4_max (d + 0) h Q 5 [some (vI x0), some (vI x1)] [] h := fun c103 => by
    have z : Q (rV (vI x0)) h := by
      rw [show (vJ4_max x0 x1 h) = x0 from (if_pos c103)] at hq
      exact hq
    exact wc_iload_n (pc := 5) (dAt dtJ4_max 3 rfl) rfl (wc_goto (pc := 6) (tgt := 10) (dAt dtJ4_max 4 rfl) (by decide) (wc_iret (pc := 10) (dAt dtJ4_max 6 rfl) rfl (nar_int _) z))
  have k102 : ¬ (¬ (x0 < x1)) → Wc G tJ4_max (d + 0) h Q 9 [some (vI x0), some (vI x1)] [] h := fun c103 => by
    have z : Q (rV (vI x1)) h := by
      rw [show (vJ4_max x0 x1 h) = x1 from (if_neg c103)] at hq
      exact hq
    exact wc_iload_n (pc := 9) (dAt dtJ4_max 5 rfl) rfl (wc_iret (pc := 10) (dAt dtJ4_max 6 rfl) rfl (nar_int _) z)
  exact wc_iload_n (pc := 0) (dAt dtJ4_max 0 rfl) rfl (wc_iload_n (pc := 1) (dAt dtJ4_max 1 rfl) rfl (wc_icmp_lt (pc := 2) (tgt := 9) (dAt dtJ4_max 2 rfl) (by decide) (fun c104 => (k102 (fun z => z c104))) (fun c104 => (k101 c104))))
def tJ3_newLength : Mt := (⟨"jdk/internal/util/ArraysSupport", "newLength", "(III)I"⟩, prog_58_method_27_code, 4, (Option.some Jvm.ClassFile.FieldType.int), [])
def DJ3_newLength : List (Nat × Instr × Nat) := [(0, .iload_n 0, 1), (1, .iload_n 1, 1), (2, .iload_n 2, 1), (3, .invokestatic 194, 3), (6, .iadd, 1), (7, .istore_n 3, 1), (8, .iconst 0, 1), (9, .iload_n 3, 1), (10, .if_icmp .ge 11, 3), (13, .iload_n 3, 1), (14, .ldc 200, 2), (16, .if_icmp .gt 5, 3), (19, .iload_n 3, 1), (20, .ireturn, 1), (21, .iload_n 0, 1), (22, .iload_n 1, 1), (23, .invokestatic 201, 3), (26, .ireturn, 1)]
theorem dtJ3_newLength : chkD (mB tJ3_newLength) DJ3_newLength = true := by decide +kernel
theorem moJ3_newLength : MethOk tJ3_newLength 3 := ⟨Or.inl ⟨rfl, q444⟩, by decide +kernel, ⟨by decide, by decide⟩, by decide +kernel⟩
def vJ3_newLength (x0 : Int) (x1 : Int) (x2 : Int) (h : Hp) : Int := (x0 + (vJ4_max x1 x2 h))
def oJ3_newLength (x0 : Int) (x1 : Int) (x2 : Int) (h : Hp) : Prop := nm (x0 + (vJ4_max x1 x2 h)) ∧ ¬ ((x0 + (vJ4_max x1 x2 h)) ≤ 0) ∧ ¬ (2147483639 < (x0 + (vJ4_max x1 x2 h)))
theorem wJ3_newLength {G : Gx} (hg : gF G = true) {d : Nat} {x0 : Int} {x1 : Int} {x2 : Int} {h : Hp} {Q : Rs → Hp → Prop} (hm : oJ3_newLength x0 x1 x2 h) (hq : Q (rV (vI (vJ3_newLength x0 x1 x2 h))) h) : Ct G tJ3_newLength (d + 1) [vI x0, vI x1, vI x2] h Q := by
  refine ct_enter (L0 := [some (vI x0), some (vI x1), some (vI x2), none]) rfl rfl ?_
  obtain ⟨o101, o102, o104⟩ := hm
  have z : Q (rV (vI (x0 + (vJ4_max x1 x2 h)))) h := by
    rw [show (vJ3_newLength x0 x1 x2 h) = (x0 + (vJ4_max x1 x2 h)) from rfl] at hq
    exact hq
  exact wc_iload_n (pc := 0) (dAt dtJ3_newLength 0 rfl) rfl (wc_iload_n (pc := 1) (dAt dtJ3_newLength 1 rfl) rfl (wc_iload_n (pc := 2) (dAt dtJ3_newLength 2 rfl) rfl (wc_callS (y' := tJ4_max) (P := eI (vJ4_max x1 x2 h) h) (pc := 3) (dAt dtJ3_newLength 3 rfl) lkJ3_194 moJ4_max q446 q137 rfl rfl (Nat.le_of_ble_eq_true rfl) (wJ4_max hg ⟨rfl, rfl⟩) (ep_I (wc_iadd (pc := 6) (dAt dtJ3_newLength 4 rfl) o101 (wc_istore_n (pc := 7) (dAt dtJ3_newLength 5 rfl) (by decide) (wc_L (L' := [some (vI x0), some (vI x1), some (vI x2), some (vI (x0 + (vJ4_max x1 x2 h)))]) rfl (wc_iconst (pc := 8) (dAt dtJ3_newLength 6 rfl) ⟨by decide, by decide⟩ (wc_iload_n (pc := 9) (dAt dtJ3_newLength 7 rfl) rfl (wc_icmp_ge (pc := 10) (tgt := 21) (dAt dtJ3_newLength 8 rfl) (by decide) (fun c103 => absurd c103 o102) (fun c103 =>  (wc_iload_n (pc := 13) (dAt dtJ3_newLength 9 rfl) rfl (wc_ldc (n := 2147483639) (pc := 14) (dAt dtJ3_newLength 10 rfl) q448 (by decide) ⟨by decide, by decide⟩ (wc_icmp_gt (pc := 16) (tgt := 21) (dAt dtJ3_newLength 11 rfl) (by decide) (fun c105 => absurd c105 o104) (fun c105 =>  (wc_iload_n (pc := 19) (dAt dtJ3_newLength 12 rfl) rfl (wc_iret (pc := 20) (dAt dtJ3_newLength 13 rfl) rfl (nar_int _) z)))))))))))))) ex_I)))
def tJ4_min : Mt := (⟨"java/lang/Math", "min", "(II)I"⟩, prog_37_method_69_code, 2, (Option.some Jvm.ClassFile.FieldType.int), [])
def DJ4_min : List (Nat × Instr × Nat) := [(0, .iload_n 0, 1), (1, .iload_n 1, 1), (2, .if_icmp .gt 7, 3), (5, .iload_n 0, 1), (6, .goto 4, 3), (9, .iload_n 1, 1), (10, .ireturn, 1)]
theorem dtJ4_min : chkD (mB tJ4_min) DJ4_min = true := by decide +kernel
theorem moJ4_min : MethOk tJ4_min 2 := ⟨Or.inl ⟨rfl, q495⟩, by decide +kernel, ⟨by decide, by decide⟩, by decide +kernel⟩
def vJ4_min (x0 : Int) (x1 : Int) (h : Hp) : Int := (if ¬ (x1 < x0) then x0 else x1)
theorem wJ4_min {G : Gx} (hg : gF G = true) {d : Nat} {x0 : Int} {x1 : Int} {h : Hp} {Q : Rs → Hp → Prop} (hq : Q (rV (vI (vJ4_min x0 x1 h))) h) : Ct G tJ4_min (d + 0) [vI x0, vI x1] h Q := by
  refine ct_enter (L0 := [some (vI x0), some (vI x1)]) rfl rfl ?_
  have k101 : (¬ (x1 < x0)) → Wc G tJ4_min (d + 0) h Q 5 [some (vI x0), some (vI x1)] [] h := fun c103 => by
    have z : Q (rV (vI x0)) h := by
      rw [show (vJ4_min x0 x1 h) = x0 from (if_pos c103)] at hq
      exact hq
    exact wc_iload_n (pc := 5) (dAt dtJ4_min 3 rfl) rfl (wc_goto (pc := 6) (tgt := 10) (dAt dtJ4_min 4 rfl) (by decide) (wc_iret (pc := 10) (dAt dtJ4_min 6 rfl) rfl (nar_int _) z))
  have k102 : ¬ (¬ (x1 < x0)) → Wc G tJ4_min (d + 0) h Q 9 [some (vI x0), some (vI x1)] [] h := fun c103 => by
    have z : Q (rV (vI x1)) h := by
      rw [show (vJ4_min x0 x1 h) = x1 from (if_neg c103)] at hq
      exact hq
    exact wc_iload_n (pc := 9) (dAt dtJ4_min 5 rfl) rfl (wc_iret (pc := 10) (dAt dtJ4_min 6 rfl) rfl (nar_int _) z)
  exact wc_iload_n (pc := 0) (dAt dtJ4_min 0 rfl) rfl (wc_iload_n (pc := 1) (dAt dtJ4_min 1 rfl) rfl (wc_icmp_gt (pc := 2) (tgt := 9) (dAt dtJ4_min 2 rfl) (by decide) (fun c104 => (k102 (fun z => z c104))) (fun c104 => (k101 c104))))
def tJ5_copyOf_2 : Mt := (⟨"java/util/Arrays", "copyOf", "([Ljava/lang/Object;ILjava/lang/Class;)[Ljava/lang/Object;"⟩, prog_51_method_120_code, 4, (Option.some (Jvm.ClassFile.FieldType.array (Jvm.ClassFile.FieldType.object "java/lang/Object"))), [])
def DJ5_copyOf_2 : List (Nat × Instr × Nat) := [(0, .aload_n 2, 1), (1, .ldc 110, 2), (3, .if_acmp .ne 10, 3), (6, .iload_n 1, 1), (7, .anewarray 2, 3), (10, .goto 14, 3), (13, .aload_n 2, 1), (14, .invokevirtual 90, 3), (17, .iload_n 1, 1), (18, .invokestatic 95, 3), (21, .checkcast 110, 3), (24, .astore_n 3, 1), (25, .aload_n 0, 1), (26, .iconst 0, 1), (27, .aload_n 3, 1), (28, .iconst 0, 1), (29, .aload_n 0, 1), (30, .arraylength, 1), (31, .iload_n 1, 1), (32, .invokestatic 304, 3), (35, .invokestatic 150, 3), (38, .aload_n 3, 1), (39, .areturn, 1)]
theorem dtJ5_copyOf_2 : chkD (mB tJ5_copyOf_2) DJ5_copyOf_2 = true := by decide +kernel
theorem moJ5_copyOf_2 : MethOk tJ5_copyOf_2 3 := ⟨Or.inl ⟨rfl, q489⟩, by decide +kernel, ⟨by decide, by decide⟩, by decide +kernel⟩
def mJ5_copyOf_2 (r0 : Nat) (x1 : Int) (r2 : Nat) (h : Hp) (Q : Rs → Hp → Prop) : Prop := acok h r2 6 ∧ ¬ (r2 ≠ 6) ∧ 0 ≤ x1 ∧ x1 ≤ 30000 ∧ hn h + 1 ≤ 878547 ∧ hq h + (Int.toNat x1) ≤ 6460613 ∧ ∀ r109 : Nat, r109 = hn h → ∀ h110 : Hp, h110 = nw h 74 (Int.toNat x1) (Int.toNat x1) → ob h110 r0 74 ∧ nm (hN h110 r0 : Int) ∧ 0 ≤ (vJ4_min (hN h110 r0 : Int) x1 h110) ∧ (0 : Int) + (vJ4_min (hN h110 r0 : Int) x1 h110) ≤ hN h110 r0 ∧ (0 : Int) + (vJ4_min (hN h110 r0 : Int) x1 h110) ≤ hN h110 r109 ∧ (∀ i : Nat, i < (Int.toNat (vJ4_min (hN h110 r0 : Int) x1 h110)) → rOb h110 (hR h110 r0 (0 + i))) ∧ ∀ h118 : Hp, h118 = cpR h110 r109 0 r0 0 (Int.toNat (vJ4_min (hN h110 r0 : Int) x1 h110)) → Q (rV (vR r109)) h118
theorem wJ5_copyOf_2 {G : Gx} (hg : gF G = true) {d : Nat} {r0 : Nat} {x1 : Int} {r2 : Nat} {h : Hp} {Q : Rs → Hp → Prop} (hm : mJ5_copyOf_2 r0 x1 r2 h Q) : Ct G tJ5_copyOf_2 (d + 1) [vR r0, vI x1, vR r2] h Q := by
  refine ct_enter (L0 := [some (vR r0), some (vI x1), some (vR r2), none]) rfl rfl ?_
  unfold mJ5_copyOf_2 at hm
  obtain ⟨o101, o102, o104, o105, o106, o107, hm⟩ := hm
  obtain ⟨r109, er109⟩ : ∃ r109 : Nat, r109 = hn h := ⟨_, rfl⟩
  replace hm := hm r109 er109
  obtain ⟨h110, eh110⟩ : ∃ h110 : Hp, h110 = nw h 74 (Int.toNat x1) (Int.toNat x1) := ⟨_, rfl⟩
  replace hm := hm h110 eh110
  obtain ⟨o111, o112, o113, o114, o115, o117, hm⟩ := hm
  obtain ⟨h118, eh118⟩ : ∃ h118 : Hp, h118 = cpR h110 r109 0 r0 0 (Int.toNat (vJ4_min (hN h110 r0 : Int) x1 h110)) := ⟨_, rfl⟩
  replace hm := hm h118 eh118
  exact wc_aload_n (pc := 0) (dAt dtJ5_copyOf_2 0 rfl) rfl (wc_ldcM (pc := 1) (dAt dtJ5_copyOf_2 1 rfl) q490 (wc_acmp_ne (pc := 3) (tgt := 13) (dAt dtJ5_copyOf_2 2 rfl) (by decide) o101 (fun c103 => absurd c103 o102) (fun c103 =>  (wc_iload_n (pc := 6) (dAt dtJ5_copyOf_2 3 rfl) rfl (wc_k0 fun n108 => (wc_anewarr (t := 74) (pc := 7) (dAt dtJ5_copyOf_2 4 rfl) ⟨by decide, by decide⟩ rfl q492 q491 o104 o105 o106 o107 (wc_hp eh110 (wc_vr er109 (wc_goto (pc := 10) (tgt := 24) (dAt dtJ5_copyOf_2 5 rfl) (by decide) (wc_astore_n (pc := 24) (dAt dtJ5_copyOf_2 11 rfl) (by decide) (wc_L (L' := [some (vR r0), some (vI x1), some (vR r2), some (vR r109)]) rfl (wc_aload_n (pc := 25) (dAt dtJ5_copyOf_2 12 rfl) rfl (wc_iconst (pc := 26) (dAt dtJ5_copyOf_2 13 rfl) ⟨by decide, by decide⟩ (wc_aload_n (pc := 27) (dAt dtJ5_copyOf_2 14 rfl) rfl (wc_iconst (pc := 28) (dAt dtJ5_copyOf_2 15 rfl) ⟨by decide, by decide⟩ (wc_aload_n (pc := 29) (dAt dtJ5_copyOf_2 16 rfl) rfl (wc_alen (pc := 30) (dAt dtJ5_copyOf_2 17 rfl) ⟨by decide, by decide⟩ o111 o112 (wc_iload_n (pc := 31) (dAt dtJ5_copyOf_2 18 rfl) rfl (wc_callS (y' := tJ4_min) (P := eI (vJ4_min (hN h110 r0 : Int) x1 h110) h110) (pc := 32) (dAt dtJ5_copyOf_2 19 rfl) lkJ5_304 moJ4_min q494 q137 rfl rfl (Nat.le_of_ble_eq_true rfl) (wJ4_min hg ⟨rfl, rfl⟩) (ep_I (wc_copyR (pc := 35) (dAt dtJ5_copyOf_2 20 rfl) q496 q498 q497 q139 o111 (ob_at er109 eh110 n108) (k0_at er109 n108) (by decide) (by decide) o113 o114 o115 (Nat.le_of_ble_eq_true rfl) o117 asAll (wc_hp eh118 (wc_aload_n (pc := 38) (dAt dtJ5_copyOf_2 21 rfl) rfl (wc_aret (pc := 39) (dAt dtJ5_copyOf_2 22 rfl) rfl (Or.inr ⟨_, rfl⟩) hm))))) ex_I)))))))))))))))))))
def tJ5_copyOf : Mt := (⟨"java/util/Arrays", "copyOf", "([Ljava/lang/Object;I)[Ljava/lang/Object;"⟩, prog_51_method_119_code, 2, (Option.some (Jvm.ClassFile.FieldType.array (Jvm.ClassFile.FieldType.object "java/lang/Object"))), [])
def DJ5_copyOf : List (Nat × Instr × Nat) := [(0, .aload_n 0, 1), (1, .iload_n 1, 1), (2, .aload_n 0, 1), (3, .invokevirtual 86, 3), (6, .invokestatic 300, 3), (9, .areturn, 1)]
theorem dtJ5_copyOf : chkD (mB tJ5_copyOf) DJ5_copyOf = true := by decide +kernel
theorem moJ5_copyOf : MethOk tJ5_copyOf 2 := ⟨Or.inl ⟨rfl, q454⟩, by decide +kernel, ⟨by decide, by decide⟩, by decide +kernel⟩
def mJ5_copyOf (r0 : Nat) (x1 : Int) (h : Hp) (Q : Rs → Hp → Prop) : Prop := ob h r0 74 ∧ (50 ≤ r0 ∨ r0 = 2) ∧ mJ5_copyOf_2 r0 x1 6 h (kR Q (fun r104 h103 => Q (rV (vR r104)) h103))
theorem wJ5_copyOf {G : Gx} (hg : gF G = true) {d : Nat} {r0 : Nat} {x1 : Int} {h : Hp} {Q : Rs → Hp → Prop} (hm : mJ5_copyOf r0 x1 h Q) : Ct G tJ5_copyOf (d + 2) [vR r0, vI x1] h Q := by
  refine ct_enter (L0 := [some (vR r0), some (vI x1)]) rfl rfl ?_
  unfold mJ5_copyOf at hm
  obtain ⟨o101, o102, hm⟩ := hm
  refine wc_aload_n (pc := 0) (dAt dtJ5_copyOf 0 rfl) rfl (wc_iload_n (pc := 1) (dAt dtJ5_copyOf 1 rfl) rfl (wc_aload_n (pc := 2) (dAt dtJ5_copyOf 2 rfl) rfl (wc_getCl (pc := 3) (dAt dtJ5_copyOf 3 rfl) q455 q2983 q2982 q456 q486 o101 o102 (Nat.le_of_ble_eq_true rfl) (wc_callS (y' := tJ5_copyOf_2) (av := [vR r0, vI x1, vR 6]) (st := []) (pc := 6) (dAt dtJ5_copyOf 4 rfl) lkJ5_300 moJ5_copyOf_2 q488 q138 rfl rfl (Nat.le_of_ble_eq_true rfl) (wJ5_copyOf_2 hg hm) (kr_R (fun r104 h103 hm => ?_)) (kx_R rfl)))))
  exact wc_aret (pc := 9) (dAt dtJ5_copyOf 5 rfl) rfl (Or.inr ⟨_, rfl⟩) hm
def tJ2_grow_2 : Mt := (⟨"java/util/ArrayList", "grow", "(I)[Ljava/lang/Object;"⟩, prog_50_method_6_code, 4, (Option.some (Jvm.ClassFile.FieldType.array (Jvm.ClassFile.FieldType.object "java/lang/Object"))), [])
def DJ2_grow_2 : List (Nat × Instr × Nat) := [(0, .aload_n 0, 1), (1, .getfield 9, 3), (4, .arraylength, 1), (5, .istore_n 2, 1), (6, .iload_n 2, 1), (7, .ifCond .gt 13, 3), (10, .aload_n 0, 1), (11, .getfield 9, 3), (14, .getstatic 39, 3), (17, .if_acmp .eq 28, 3), (20, .iload_n 2, 1), (21, .iload_n 1, 1), (22, .iload_n 2, 1), (23, .isub, 1), (24, .iload_n 2, 1), (25, .iconst 1, 1), (26, .ishr, 1), (27, .invokestatic 73, 3), (30, .istore_n 3, 1), (31, .aload_n 0, 1), (32, .aload_n 0, 1), (33, .getfield 9, 3), (36, .iload_n 3, 1), (37, .invokestatic 66, 3), (40, .dup_x1, 1), (41, .putfield 9, 3), (44, .areturn, 1), (45, .aload_n 0, 1), (46, .bipush 10, 2), (48, .iload_n 1, 1), (49, .invokestatic 79, 3), (52, .anewarray 7, 3), (55, .dup_x1, 1), (56, .putfield 9, 3), (59, .areturn, 1)]
theorem dtJ2_grow_2 : chkD (mB tJ2_grow_2) DJ2_grow_2 = true := by decide +kernel
theorem moJ2_grow_2 : MethOk tJ2_grow_2 1 := ⟨Or.inl ⟨rfl, q441⟩, by decide +kernel, ⟨by decide, by decide⟩, by decide +kernel⟩
def mJ2_grow_2 (r0 : Nat) (x1 : Int) (h : Hp) (Q : Rs → Hp → Prop) : Prop := ob h r0 32 ∧ ob h (hR h r0 1) 74 ∧ nm (hN h (hR h r0 1) : Int) ∧ ∀ v104 : Int, v104 = (hN h (hR h r0 1) : Int) → ((¬ (0 < v104) → acok h (hR h r0 1) 2)) ∧ if (0 < v104) ∨ (¬ ((hR h r0 1) = 2)) then nm (x1 - v104) ∧ oJ3_newLength v104 (x1 - v104) (ishr v104 1) h ∧ ∀ v110 : Int, v110 = (vJ3_newLength v104 (x1 - v104) (ishr v104 1) h) → mJ5_copyOf (hR h r0 1) v110 h (kR Q (fun r112 h111 => ob h111 r0 32 ∧ ∀ h115 : Hp, h115 = sR h111 r0 1 r112 → Q (rV (vR r112)) h115)) else 0 ≤ (vJ4_max 10 x1 h) ∧ (vJ4_max 10 x1 h) ≤ 30000 ∧ hn h + 1 ≤ 878547 ∧ hq h + (Int.toNat (vJ4_max 10 x1 h)) ≤ 6460613 ∧ ∀ r121 : Nat, r121 = hn h → ∀ h122 : Hp, h122 = nw h 74 (Int.toNat (vJ4_max 10 x1 h)) (Int.toNat (vJ4_max 10 x1 h)) → ∀ h124 : Hp, h124 = sR h122 r0 1 r121 → Q (rV (vR r121)) h124
theorem wJ2_grow_2 {G : Gx} (hg : gF G = true) {d : Nat} {r0 : Nat} {x1 : Int} {h : Hp} {Q : Rs → Hp → Prop} (hm : mJ2_grow_2 r0 x1 h Q) : Ct G tJ2_grow_2 (d + 3) [vR r0, vI x1] h Q := by
  refine ct_enter (L0 := [some (vR r0), some (vI x1), none, none]) rfl rfl ?_
  unfold mJ2_grow_2 at hm
  obtain ⟨o101, o102, o103, hm⟩ := hm
  obtain ⟨v104, ev104⟩ : ∃ v104 : Int, v104 = (hN h (hR h r0 1) : Int) := ⟨_, rfl⟩
  replace hm := hm v104 ev104
  obtain ⟨o106, hm⟩ := hm
  refine wc_aload_n (pc := 0) (dAt dtJ2_grow_2 0 rfl) rfl (wc_getR (pc := 1) (dAt dtJ2_grow_2 1 rfl) flJ2_9_32 rfl o101 (wc_alen (pc := 4) (dAt dtJ2_grow_2 2 rfl) ⟨by decide, by decide⟩ o102 o103 (wc_vi ev104 (wc_istore_n (pc := 5) (dAt dtJ2_grow_2 3 rfl) (by decide) (wc_L (L' := [some (vR r0), some (vI x1), some (vI v104), none]) rfl (wc_iload_n (pc := 6) (dAt dtJ2_grow_2 4 rfl) rfl (?_)))))))
  have k125 : ((0 < v104) ∨ (¬ ((hR h r0 1) = 2))) → Wc G tJ2_grow_2 (d + 3) h Q 20 [some (vR r0), some (vI x1), some (vI v104), none] [] h := fun c107 => by
    replace hm := ite_t c107 hm
    obtain ⟨o108, o109, hm⟩ := hm
    obtain ⟨v110, ev110⟩ : ∃ v110 : Int, v110 = (vJ3_newLength v104 (x1 - v104) (ishr v104 1) h) := ⟨_, rfl⟩
    replace hm := hm v110 ev110
    refine wc_iload_n (pc := 20) (dAt dtJ2_grow_2 10 rfl) rfl (wc_iload_n (pc := 21) (dAt dtJ2_grow_2 11 rfl) rfl (wc_iload_n (pc := 22) (dAt dtJ2_grow_2 12 rfl) rfl (wc_isub (pc := 23) (dAt dtJ2_grow_2 13 rfl) o108 (wc_iload_n (pc := 24) (dAt dtJ2_grow_2 14 rfl) rfl (wc_iconst (pc := 25) (dAt dtJ2_grow_2 15 rfl) ⟨by decide, by decide⟩ (wc_ishr (pc := 26) (dAt dtJ2_grow_2 16 rfl) (wc_callS (y' := tJ3_newLength) (P := eI (vJ3_newLength v104 (x1 - v104) (ishr v104 1) h) h) (pc := 27) (dAt dtJ2_grow_2 17 rfl) lkJ2_73 moJ3_newLength q443 q136 rfl rfl (Nat.le_of_ble_eq_true rfl) (wJ3_newLength hg o109 ⟨rfl, rfl⟩) (ep_I (wc_vi ev110 (wc_istore_n (pc := 30) (dAt dtJ2_grow_2 18 rfl) (by decide) (wc_L (L' := [some (vR r0), some (vI x1), some (vI v104), some (vI v110)]) rfl (wc_aload_n (pc := 31) (dAt dtJ2_grow_2 19 rfl) rfl (wc_aload_n (pc := 32) (dAt dtJ2_grow_2 20 rfl) rfl (wc_getR (pc := 33) (dAt dtJ2_grow_2 21 rfl) flJ2_9_32 rfl o101 (wc_iload_n (pc := 36) (dAt dtJ2_grow_2 22 rfl) rfl (wc_callS (y' := tJ5_copyOf) (av := [vR (hR h r0 1), vI v110]) (st := [vR r0]) (pc := 37) (dAt dtJ2_grow_2 23 rfl) lkJ2_66 moJ5_copyOf q453 q138 rfl rfl (Nat.le_of_ble_eq_true rfl) (wJ5_copyOf hg hm) (kr_R (fun r112 h111 hm => ?_)) (kx_R rfl)))))))))) ex_I)))))))
    obtain ⟨o113, hm⟩ := hm
    obtain ⟨h115, eh115⟩ : ∃ h115 : Hp, h115 = sR h111 r0 1 r112 := ⟨_, rfl⟩
    replace hm := hm h115 eh115
    exact wc_dup_x1 (pc := 40) (dAt dtJ2_grow_2 24 rfl) rfl rfl (wc_newer o113 (by decide) fun n114 => (wc_putR (pc := 41) (dAt dtJ2_grow_2 25 rfl) flJ2_9_32 (Or.inl rfl) rfl o113 n114 (fun _ => ⟨by decide, by decide, by decide⟩) (wc_hp eh115 (wc_aret (pc := 44) (dAt dtJ2_grow_2 26 rfl) rfl (Or.inr ⟨_, rfl⟩) hm))))
  have k126 : ¬ ((0 < v104) ∨ (¬ ((hR h r0 1) = 2))) → Wc G tJ2_grow_2 (d + 3) h Q 45 [some (vR r0), some (vI x1), some (vI v104), none] [] h := fun c107 => by
    replace hm := ite_f c107 hm
    obtain ⟨o116, o117, o118, o119, hm⟩ := hm
    obtain ⟨r121, er121⟩ : ∃ r121 : Nat, r121 = hn h := ⟨_, rfl⟩
    replace hm := hm r121 er121
    obtain ⟨h122, eh122⟩ : ∃ h122 : Hp, h122 = nw h 74 (Int.toNat (vJ4_max 10 x1 h)) (Int.toNat (vJ4_max 10 x1 h)) := ⟨_, rfl⟩
    replace hm := hm h122 eh122
    obtain ⟨h124, eh124⟩ : ∃ h124 : Hp, h124 = sR h122 r0 1 r121 := ⟨_, rfl⟩
    replace hm := hm h124 eh124
    exact wc_aload_n (pc := 45) (dAt dtJ2_grow_2 27 rfl) rfl (wc_bipush (pc := 46) (dAt dtJ2_grow_2 28 rfl) ⟨by decide, by decide, by decide⟩ (wc_iload_n (pc := 48) (dAt dtJ2_grow_2 29 rfl) rfl (wc_callS (y' := tJ4_max) (P := eI (vJ4_max 10 x1 h) h) (pc := 49) (dAt dtJ2_grow_2 30 rfl) lkJ2_79 moJ4_max q446 q137 rfl rfl (Nat.le_of_ble_eq_true rfl) (wJ4_max hg ⟨rfl, rfl⟩) (ep_I (wc_k0 fun n120 => (wc_anewarr (t := 74) (pc := 52) (dAt dtJ2_grow_2 31 rfl) ⟨by decide, by decide⟩ rfl q500 q491 o116 o117 o118 o119 (wc_hp eh122 (wc_vr er121 (wc_dup_x1 (pc := 55) (dAt dtJ2_grow_2 32 rfl) rfl rfl (wc_newer (ob_nw eh122 o101) (by decide) fun n123 => (wc_putR (pc := 56) (dAt dtJ2_grow_2 33 rfl) flJ2_9_32 (Or.inl rfl) rfl (ob_nw eh122 o101) n123 (fun _ => ⟨by decide, by decide, by decide⟩) (wc_hp eh124 (wc_aret (pc := 59) (dAt dtJ2_grow_2 34 rfl) rfl (Or.inr ⟨_, rfl⟩) hm)))))))))) ex_I)))
  exact wc_if_gt (pc := 7) (tgt := 20) (dAt dtJ2_grow_2 5 rfl) (by decide) (fun c127 => (k125 (Or.inl c127))) (fun c127 => wc_aload_n (pc := 10) (dAt dtJ2_grow_2 6 rfl) rfl (wc_getR (pc := 11) (dAt dtJ2_grow_2 7 rfl) flJ2_9_32 rfl o101 (wc_getsR (a := 2) (pc := 14) (dAt dtJ2_grow_2 8 rfl) q196 (by decide +kernel) (by decide) (wc_acmp_eq (pc := 17) (tgt := 45) (dAt dtJ2_grow_2 9 rfl) (by decide) (o106 c127) (fun c128 => (k126 (fun z => z.elim c127 (fun z => z c128)))) (fun c128 => (k125 (Or.inr c128)))))))
def tJ2_grow : Mt := (⟨"java/util/ArrayList", "grow", "()[Ljava/lang/Object;"⟩, prog_50_method_7_code, 1, (Option.some (Jvm.ClassFile.FieldType.array (Jvm.ClassFile.FieldType.object "java/lang/Object"))), [])
def DJ2_grow : List (Nat × Instr × Nat) := [(0, .aload_n 0, 1), (1, .aload_n 0, 1), (2, .getfield 48, 3), (5, .iconst 1, 1), (6, .iadd, 1), (7, .invokevirtual 69, 3), (10, .areturn, 1)]
theorem dtJ2_grow : chkD (mB tJ2_grow) DJ2_grow = true := by decide +kernel
theorem moJ2_grow : MethOk tJ2_grow 0 := ⟨Or.inl ⟨rfl, q437⟩, by decide +kernel, ⟨by decide, by decide⟩, by decide +kernel⟩
def mJ2_grow (r0 : Nat) (h : Hp) (Q : Rs → Hp → Prop) : Prop := ob h r0 32 ∧ nm ((hI h r0 2) + 1) ∧ mJ2_grow_2 r0 ((hI h r0 2) + 1) h (kR Q (fun r104 h103 => Q (rV (vR r104)) h103))
theorem wJ2_grow {G : Gx} (hg : gF G = true) {d : Nat} {r0 : Nat} {h : Hp} {Q : Rs → Hp → Prop} (hm : mJ2_grow r0 h Q) : Ct G tJ2_grow (d + 4) [vR r0] h Q := by
  refine ct_enter (L0 := [some (vR r0)]) rfl rfl ?_
  unfold mJ2_grow at hm
  obtain ⟨o101, o102, hm⟩ := hm
  refine wc_aload_n (pc := 0) (dAt dtJ2_grow 0 rfl) rfl (wc_aload_n (pc := 1) (dAt dtJ2_grow 1 rfl) rfl (wc_getI (pc := 2) (dAt dtJ2_grow 2 rfl) flJ2_48_32 rfl o101 (wc_iconst (pc := 5) (dAt dtJ2_grow 3 rfl) ⟨by decide, by decide⟩ (wc_iadd (pc := 6) (dAt dtJ2_grow 4 rfl) o102 (wc_callV (k := 32) (y' := tJ2_grow_2) (av := [vI ((hI h r0 2) + 1)]) (st := []) (pc := 7) (dAt dtJ2_grow 5 rfl) lkJ2_69 moJ2_grow_2 q440 qs2 (by decide) o101 rfl rfl (Nat.le_of_ble_eq_true rfl) (wJ2_grow_2 hg hm) (kr_R (fun r104 h103 hm => ?_)) (kx_R rfl))))))
  exact wc_aret (pc := 10) (dAt dtJ2_grow 6 rfl) rfl (Or.inr ⟨_, rfl⟩) hm
def tJ2_add_2 : Mt := (⟨"java/util/ArrayList", "add", "(Ljava/lang/Object;[Ljava/lang/Object;I)V"⟩, prog_50_method_24_code, 4, (Option.none : Option Jvm.ClassFile.FieldType), [])
def DJ2_add_2 : List (Nat × Instr × Nat) := [(0, .iload_n 3, 1), (1, .aload_n 2, 1), (2, .arraylength, 1), (3, .if_icmp .ne 8, 3), (6, .aload_n 0, 1), (7, .invokevirtual 129, 3), (10, .astore_n 2, 1), (11, .aload_n 2, 1), (12, .iload_n 3, 1), (13, .aload_n 1, 1), (14, .aastore, 1), (15, .aload_n 0, 1), (16, .iload_n 3, 1), (17, .iconst 1, 1), (18, .iadd, 1), (19, .putfield 48, 3), (22, .return_, 1)]
theorem dtJ2_add_2 : chkD (mB tJ2_add_2) DJ2_add_2 = true := by decide +kernel
theorem moJ2_add_2 : MethOk tJ2_add_2 3 := ⟨Or.inl ⟨rfl, q433⟩, by decide +kernel, ⟨by decide, by decide⟩, by decide +kernel⟩
def mJ2_add_2 (r0 : Nat) (r1 : Nat) (r2 : Nat) (x3 : Int) (h : Hp) (Q : Rs → Hp → Prop) : Prop := ob h r2 74 ∧ nm (hN h r2 : Int) ∧ jn (fun (r110 : Nat) (h105 : Hp) => ob h105 r110 74 ∧ 50 ≤ r110 ∧ rOo h105 r1 ∧ 0 ≤ x3 ∧ x3 < (hN h105 r110) ∧ ∀ h116 : Hp, h116 = sR h105 r110 (Int.toNat x3) r1 → nm (x3 + 1) ∧ ob h116 r0 32 ∧ ∀ h120 : Hp, h120 = sI h116 r0 2 (x3 + 1) → Q rN h120) (fun K103 => if ¬ (x3 ≠ (hN h r2 : Int)) then ob h r0 32 ∧ mJ2_grow r0 h (kR Q (fun r109 h108 => K103 r109 h108)) else K103 r2 h)
theorem wJ2_add_2 {G : Gx} (hg : gF G = true) {d : Nat} {r0 : Nat} {r1 : Nat} {r2 : Nat} {x3 : Int} {h : Hp} {Q : Rs → Hp → Prop} (hm : mJ2_add_2 r0 r1 r2 x3 h Q) : Ct G tJ2_add_2 (d + 5) [vR r0, vR r1, vR r2, vI x3] h Q := by
  refine ct_enter (L0 := [some (vR r0), some (vR r1), some (vR r2), some (vI x3)]) rfl rfl ?_
  unfold mJ2_add_2 at hm
  obtain ⟨o101, o102, hm⟩ := hm
  refine wc_iload_n (pc := 0) (dAt dtJ2_add_2 0 rfl) rfl (wc_aload_n (pc := 1) (dAt dtJ2_add_2 1 rfl) rfl (wc_alen (pc := 2) (dAt dtJ2_add_2 2 rfl) ⟨by decide, by decide⟩ o101 o102 (?_)))
  refine jn2_ind (P := fun (r110 : Nat) (h105 : Hp) => Wc G tJ2_add_2 (d + 5) h Q 11 [some (vR r0), some (vR r1), some (vR r110), some (vI x3)] [] h105) (fun r110 h105 hm => ?_) (fun K103 kj104 hm => ?_) hm
  · obtain ⟨o111, o112, o113, o114, o115, hm⟩ := hm
    obtain ⟨h116, eh116⟩ : ∃ h116 : Hp, h116 = sR h105 r110 (Int.toNat x3) r1 := ⟨_, rfl⟩
    replace hm := hm h116 eh116
    obtain ⟨o117, o118, hm⟩ := hm
    obtain ⟨h120, eh120⟩ : ∃ h120 : Hp, h120 = sI h116 r0 2 (x3 + 1) := ⟨_, rfl⟩
    replace hm := hm h120 eh120
    exact wc_aload_n (pc := 11) (dAt dtJ2_add_2 7 rfl) rfl (wc_iload_n (pc := 12) (dAt dtJ2_add_2 8 rfl) rfl (wc_aload_n (pc := 13) (dAt dtJ2_add_2 9 rfl) rfl (wc_aastO (pc := 14) (dAt dtJ2_add_2 10 rfl) o111 o112 o113 o114 o115 (wc_hp eh116 (wc_aload_n (pc := 15) (dAt dtJ2_add_2 11 rfl) rfl (wc_iload_n (pc := 16) (dAt dtJ2_add_2 12 rfl) rfl (wc_iconst (pc := 17) (dAt dtJ2_add_2 13 rfl) ⟨by decide, by decide⟩ (wc_iadd (pc := 18) (dAt dtJ2_add_2 14 rfl) o117 (wc_newer o118 (by decide) fun n119 => (wc_putI (pc := 19) (dAt dtJ2_add_2 15 rfl) flJ2_48_32 (Or.inl rfl) rfl o118 n119 (okI_int _) (wc_hp eh120 (wc_vret (pc := 22) (dAt dtJ2_add_2 16 rfl) rfl hm))))))))))))
  · refine wc_icmp_ne (pc := 3) (tgt := 11) (dAt dtJ2_add_2 3 rfl) (by decide) (fun c106 => ?_) (fun c106 => ?_)
    · replace hm := ite_f (fun z => z c106) hm
      exact kj104 _ _ hm
    · replace hm := ite_t c106 hm
      obtain ⟨o107, hm⟩ := hm
      refine wc_aload_n (pc := 6) (dAt dtJ2_add_2 4 rfl) rfl (wc_callV (k := 32) (y' := tJ2_grow) (av := []) (st := []) (pc := 7) (dAt dtJ2_add_2 5 rfl) lkJ2_129 moJ2_grow q436 qs1 (by decide) o107 rfl rfl (Nat.le_of_ble_eq_true rfl) (wJ2_grow hg hm) (kr_R (fun r109 h108 hm => ?_)) (kx_R rfl))
      exact wc_astore_n (pc := 10) (dAt dtJ2_add_2 6 rfl) (by decide) (wc_L (L' := [some (vR r0), some (vR r1), some (vR r109), some (vI x3)]) rfl (kj104 _ _ hm))
def tJ2_add : Mt := (⟨"java/util/ArrayList", "add", "(Ljava/lang/Object;)Z"⟩, prog_50_method_25_code, 2, (Option.some Jvm.ClassFile.FieldType.boolean), [])
def DJ2_add : List (Nat × Instr × Nat) := [(0, .aload_n 0, 1), (1, .dup, 1), (2, .getfield 63, 3), (5, .iconst 1, 1), (6, .iadd, 1), (7, .putfield 63, 3), (10, .aload_n 0, 1), (11, .aload_n 1, 1), (12, .aload_n 0, 1), (13, .getfield 9, 3), (16, .aload_n 0, 1), (17, .getfield 48, 3), (20, .invokevirtual 131, 3), (23, .iconst 1, 1), (24, .ireturn, 1)]
theorem dtJ2_add : chkD (mB tJ2_add) DJ2_add = true := by decide +kernel
theorem moJ2_add : MethOk tJ2_add 1 := ⟨Or.inl ⟨rfl, q429⟩, by decide +kernel, ⟨by decide, by decide⟩, by decide +kernel⟩
def mJ2_add (r0 : Nat) (r1 : Nat) (h : Hp) (Q : Rs → Hp → Prop) : Prop := ob h r0 32 ∧ nm ((hI h r0 0) + 1) ∧ ∀ h104 : Hp, h104 = sI h r0 0 ((hI h r0 0) + 1) → mJ2_add_2 r0 r1 (hR h104 r0 1) (hI h104 r0 2) h104 (kN Q (fun h105 => Q (rV (vI 1)) h105))
theorem wJ2_add {G : Gx} (hg : gF G = true) {d : Nat} {r0 : Nat} {r1 : Nat} {h : Hp} {Q : Rs → Hp → Prop} (hm : mJ2_add r0 r1 h Q) : Ct G tJ2_add (d + 6) [vR r0, vR r1] h Q := by
  refine ct_enter (L0 := [some (vR r0), some (vR r1)]) rfl rfl ?_
  unfold mJ2_add at hm
  obtain ⟨o101, o102, hm⟩ := hm
  obtain ⟨h104, eh104⟩ : ∃ h104 : Hp, h104 = sI h r0 0 ((hI h r0 0) + 1) := ⟨_, rfl⟩
  replace hm := hm h104 eh104
  refine wc_aload_n (pc := 0) (dAt dtJ2_add 0 rfl) rfl (wc_dup (pc := 1) (dAt dtJ2_add 1 rfl) rfl (wc_getI (pc := 2) (dAt dtJ2_add 2 rfl) flJ2_63_32 rfl o101 (wc_iconst (pc := 5) (dAt dtJ2_add 3 rfl) ⟨by decide, by decide⟩ (wc_iadd (pc := 6) (dAt dtJ2_add 4 rfl) o102 (wc_newer o101 (by decide) fun n103 => (wc_putI (pc := 7) (dAt dtJ2_add 5 rfl) flJ2_63_32 (Or.inl rfl) rfl o101 n103 (okI_int _) (wc_hp eh104 (wc_aload_n (pc := 10) (dAt dtJ2_add 6 rfl) rfl (wc_aload_n (pc := 11) (dAt dtJ2_add 7 rfl) rfl (wc_aload_n (pc := 12) (dAt dtJ2_add 8 rfl) rfl (wc_getR (pc := 13) (dAt dtJ2_add 9 rfl) flJ2_9_32 rfl (ob_sI eh104 o101) (wc_aload_n (pc := 16) (dAt dtJ2_add 10 rfl) rfl (wc_getI (pc := 17) (dAt dtJ2_add 11 rfl) flJ2_48_32 rfl (ob_sI eh104 o101) (wc_callV (k := 32) (y' := tJ2_add_2) (av := [vR r1, vR (hR h104 r0 1), vI (hI h104 r0 2)]) (st := []) (pc := 20) (dAt dtJ2_add 12 rfl) lkJ2_131 moJ2_add_2 q432 qs0 (by decide) (ob_sI eh104 o101) rfl rfl (Nat.le_of_ble_eq_true rfl) (wJ2_add_2 hg hm) (kr_N (fun h105 hm => ?_)) (kx_N rfl)))))))))))))))
  exact wc_iconst (pc := 23) (dAt dtJ2_add 13 rfl) ⟨by decide, by decide⟩ (wc_iret (pc := 24) (dAt dtJ2_add 14 rfl) rfl (nar_bool (Or.inr rfl)) hm)
def tX1_place : Mt := (⟨"FlyingDoctors", "place", "(IIII)I"⟩, prog_1_method_24_code, 5, (Option.some Jvm.ClassFile.FieldType.int), [])
def DX1_place : List (Nat × Instr × Nat) := [(0, .aload_n 0, 1), (1, .getfield 12, 3), (4, .invokeinterface 16 1, 5), (9, .bipush 12, 2), (11, .if_icmp .eq 44, 3), (14, .iload_n 1, 1), (15, .iconst 0, 1), (16, .bipush 99, 2), (18, .invokestatic 314, 3), (21, .ifCond .eq 34, 3), (24, .iload_n 2, 1), (25, .iconst 0, 1), (26, .bipush 99, 2), (28, .invokestatic 314, 3), (31, .ifCond .eq 24, 3), (34, .iload_n 3, 1), (35, .iconst 0, 1), (36, .sipush 2000, 3), (39, .invokestatic 314, 3), (42, .ifCond .eq 13, 3), (45, .iload 4, 2), (47, .iconst 0, 1), (48, .iconst 3, 1), (49, .invokestatic 314, 3), (52, .ifCond .ne 5, 3), (55, .iconst (-1), 1), (56, .ireturn, 1), (57, .aload_n 0, 1), (58, .getfield 12, 3), (61, .new 26, 3), (64, .dup, 1), (65, .aload_n 0, 1), (66, .getfield 12, 3), (69, .invokeinterface 16 1, 5), (74, .iload_n 1, 1), (75, .iload_n 2, 1), (76, .iload_n 3, 1), (77, .iload 4, 2), (79, .invokespecial 322, 3), (82, .invokeinterface 262 2, 5), (87, .pop, 1), (88, .aload_n 0, 1), (89, .getfield 12, 3), (92, .invokeinterface 16 1, 5), (97, .iconst 1, 1), (98, .isub, 1), (99, .ireturn, 1)]
theorem dtX1_place : chkD (mB tX1_place) DX1_place = true := by decide +kernel
theorem moX1_place : MethOk tX1_place 4 := ⟨Or.inl ⟨rfl, q362⟩, by decide +kernel, ⟨by decide, by decide⟩, by decide +kernel⟩
def mX1_place (x1 : Int) (x2 : Int) (x3 : Int) (x4 : Int) (h : Hp) (Q : Rs → Hp → Prop) : Prop := oJ2_size 54 h ∧ if ((vJ2_size 54 h) = 12) ∨ (((vX1_in x1 0 99 h) = 0) ∨ (((vX1_in x2 0 99 h) = 0) ∨ (((vX1_in x3 0 2000 h) = 0) ∨ (¬ ((vX1_in x4 0 3 h) ≠ 0))))) then Q (rV (vI (-1))) h else hn h + 1 ≤ 878547 ∧ hq h + 10 ≤ 6460613 ∧ ∀ r106 : Nat, r106 = hn h → ∀ h107 : Hp, h107 = nw h 5 0 10 → oJ2_size 54 h107 ∧ mX5_init r106 (vJ2_size 54 h107) x1 x2 x3 x4 h107 (kN Q (fun h109 => mJ2_add 54 r106 h109 (kI Q (fun x111 h110 => oJ2_size 54 h110 ∧ nm ((vJ2_size 54 h110) - 1) ∧ Q (rV (vI ((vJ2_size 54 h110) - 1))) h110))))
theorem wX1_place {G : Gx} (hg : gF G = true) {d : Nat} {x1 : Int} {x2 : Int} {x3 : Int} {x4 : Int} {h : Hp} {Q : Rs → Hp → Prop} (hm : mX1_place x1 x2 x3 x4 h Q) : Ct G tX1_place (d + 7) [vR 50, vI x1, vI x2, vI x3, vI x4] h Q := by
  refine ct_enter (L0 := [some (vR 50), some (vI x1), some (vI x2), some (vI x3), some (vI x4)]) rfl rfl ?_
  unfold mX1_place at hm
  obtain ⟨o101, hm⟩ := hm
  refine wc_aload_n (pc := 0) (dAt dtX1_place 0 rfl) rfl (wc_getKR hg (pc := 1) (dAt dtX1_place 1 rfl) flX1_12_1 rfl ka50 kf50_4 (wc_kf hg fun zk => (wc_callF (k := 32) (x := ⟨"java/util/List", "size", "()I"⟩) (y' := tJ2_size) (P := eI (vJ2_size 54 h) h) (pc := 4) (dAt dtX1_place 2 rfl) q364 q366 q365 ⟨by decide, by decide⟩ moJ2_size rfl q370 q371 q369 q367 q368 (by decide) (zk.2 _ ka54).1 rfl rfl (Nat.le_of_ble_eq_true rfl) (wJ2_size hg o101 ⟨rfl, rfl⟩) (ep_I (wc_bipush (pc := 9) (dAt dtX1_place 3 rfl) ⟨by decide, by decide, by decide⟩ (?_))) ex_I)))
  have k114 : (((vJ2_size 54 h) = 12) ∨ (((vX1_in x1 0 99 h) = 0) ∨ (((vX1_in x2 0 99 h) = 0) ∨ (((vX1_in x3 0 2000 h) = 0) ∨ (¬ ((vX1_in x4 0 3 h) ≠ 0)))))) → Wc G tX1_place (d + 7) h Q 55 [some (vR 50), some (vI x1), some (vI x2), some (vI x3), some (vI x4)] [] h := fun c102 => by
    replace hm := ite_t c102 hm
    exact wc_iconst (pc := 55) (dAt dtX1_place 25 rfl) ⟨by decide, by decide⟩ (wc_iret (pc := 56) (dAt dtX1_place 26 rfl) rfl (nar_int _) hm)
  have k115 : ¬ (((vJ2_size 54 h) = 12) ∨ (((vX1_in x1 0 99 h) = 0) ∨ (((vX1_in x2 0 99 h) = 0) ∨ (((vX1_in x3 0 2000 h) = 0) ∨ (¬ ((vX1_in x4 0 3 h) ≠ 0)))))) → Wc G tX1_place (d + 7) h Q 57 [some (vR 50), some (vI x1), some (vI x2), some (vI x3), some (vI x4)] [] h := fun c102 => by
    replace hm := ite_f c102 hm
    obtain ⟨o103, o104, hm⟩ := hm
    obtain ⟨r106, er106⟩ : ∃ r106 : Nat, r106 = hn h := ⟨_, rfl⟩
    replace hm := hm r106 er106
    obtain ⟨h107, eh107⟩ : ∃ h107 : Hp, h107 = nw h 5 0 10 := ⟨_, rfl⟩
    replace hm := hm h107 eh107
    obtain ⟨o108, hm⟩ := hm
    refine wc_aload_n (pc := 57) (dAt dtX1_place 27 rfl) rfl (wc_getKR hg (pc := 58) (dAt dtX1_place 28 rfl) flX1_12_1 rfl ka50 kf50_4 (wc_k0 fun n105 => (wc_new (k := 5) (pc := 61) (dAt dtX1_place 29 rfl) q182 q376 q135 (by decide) o103 o104 (wc_hp eh107 (wc_vr er106 (wc_dup (pc := 64) (dAt dtX1_place 30 rfl) rfl (wc_aload_n (pc := 65) (dAt dtX1_place 31 rfl) rfl (wc_getKR hg (pc := 66) (dAt dtX1_place 32 rfl) flX1_12_1 rfl ka50 kf50_4 (wc_kf hg fun zk => (wc_callF (k := 32) (x := ⟨"java/util/List", "size", "()I"⟩) (y' := tJ2_size) (P := eI (vJ2_size 54 h107) h107) (pc := 69) (dAt dtX1_place 33 rfl) q364 q366 q365 ⟨by decide, by decide⟩ moJ2_size rfl q370 q371 q369 q367 q368 (by decide) (zk.2 _ ka54).1 rfl rfl (Nat.le_of_ble_eq_true rfl) (wJ2_size hg o108 ⟨rfl, rfl⟩) (ep_I (wc_iload_n (pc := 74) (dAt dtX1_place 34 rfl) rfl (wc_iload_n (pc := 75) (dAt dtX1_place 35 rfl) rfl (wc_iload_n (pc := 76) (dAt dtX1_place 36 rfl) rfl (wc_iload (pc := 77) (dAt dtX1_place 37 rfl) rfl (wc_callI (y' := tX5_init) (av := [vI (vJ2_size 54 h107), vI x1, vI x2, vI x3, vI x4]) (st := [vR r106, vR 54]) (pc := 79) (dAt dtX1_place 38 rfl) lkX1_322 moX5_init q378 rfl q379 (k0_at er106 n105) rfl rfl (Nat.le_of_ble_eq_true rfl) (wX5_init hg hm) (kr_N (fun h109 hm => ?_)) (kx_N rfl))))))) ex_I))))))))))
    refine wc_kf hg fun zk => (wc_callF (k := 32) (x := ⟨"java/util/List", "add", "(Ljava/lang/Object;)Z"⟩) (y' := tJ2_add) (av := [vR r106]) (st := []) (pc := 82) (dAt dtX1_place 39 rfl) q422 q424 q423 ⟨by decide, by decide⟩ moJ2_add rfl q427 q428 q426 q367 q425 (by decide) (zk.2 _ ka54).1 rfl rfl (Nat.le_of_ble_eq_true rfl) (wJ2_add hg hm) (kr_I (fun x111 h110 hm => ?_)) (kx_I rfl))
    obtain ⟨o112, o113, hm⟩ := hm
    exact wc_pop (pc := 87) (dAt dtX1_place 40 rfl) rfl (wc_aload_n (pc := 88) (dAt dtX1_place 41 rfl) rfl (wc_getKR hg (pc := 89) (dAt dtX1_place 42 rfl) flX1_12_1 rfl ka50 kf50_4 (wc_kf hg fun zk => (wc_callF (k := 32) (x := ⟨"java/util/List", "size", "()I"⟩) (y' := tJ2_size) (P := eI (vJ2_size 54 h110) h110) (pc := 92) (dAt dtX1_place 43 rfl) q364 q366 q365 ⟨by decide, by decide⟩ moJ2_size rfl q370 q371 q369 q367 q368 (by decide) (zk.2 _ ka54).1 rfl rfl (Nat.le_of_ble_eq_true rfl) (wJ2_size hg o112 ⟨rfl, rfl⟩) (ep_I (wc_iconst (pc := 97) (dAt dtX1_place 44 rfl) ⟨by decide, by decide⟩ (wc_isub (pc := 98) (dAt dtX1_place 45 rfl) o113 (wc_iret (pc := 99) (dAt dtX1_place 46 rfl) rfl (nar_int _) hm)))) ex_I))))
  exact wc_icmp_eq (pc := 11) (tgt := 55) (dAt dtX1_place 4 rfl) (by decide) (fun c116 => (k114 (Or.inl c116))) (fun c116 => wc_iload_n (pc := 14) (dAt dtX1_place 5 rfl) rfl (wc_iconst (pc := 15) (dAt dtX1_place 6 rfl) ⟨by decide, by decide⟩ (wc_bipush (pc := 16) (dAt dtX1_place 7 rfl) ⟨by decide, by decide, by decide⟩ (wc_callS (y' := tX1_in) (P := eI (vX1_in x1 0 99 h) h) (pc := 18) (dAt dtX1_place 8 rfl) lkX1_314 moX1_in q374 q128 rfl rfl (Nat.le_of_ble_eq_true rfl) (wX1_in hg ⟨rfl, rfl⟩) (ep_I (wc_if_eq (pc := 21) (tgt := 55) (dAt dtX1_place 9 rfl) (by decide) (fun c117 => (k114 (Or.inr (Or.inl c117)))) (fun c117 => wc_iload_n (pc := 24) (dAt dtX1_place 10 rfl) rfl (wc_iconst (pc := 25) (dAt dtX1_place 11 rfl) ⟨by decide, by decide⟩ (wc_bipush (pc := 26) (dAt dtX1_place 12 rfl) ⟨by decide, by decide, by decide⟩ (wc_callS (y' := tX1_in) (P := eI (vX1_in x2 0 99 h) h) (pc := 28) (dAt dtX1_place 13 rfl) lkX1_314 moX1_in q374 q128 rfl rfl (Nat.le_of_ble_eq_true rfl) (wX1_in hg ⟨rfl, rfl⟩) (ep_I (wc_if_eq (pc := 31) (tgt := 55) (dAt dtX1_place 14 rfl) (by decide) (fun c118 => (k114 (Or.inr (Or.inr (Or.inl c118))))) (fun c118 => wc_iload_n (pc := 34) (dAt dtX1_place 15 rfl) rfl (wc_iconst (pc := 35) (dAt dtX1_place 16 rfl) ⟨by decide, by decide⟩ (wc_sipush (pc := 36) (dAt dtX1_place 17 rfl) ⟨by decide, by decide, by decide⟩ (wc_callS (y' := tX1_in) (P := eI (vX1_in x3 0 2000 h) h) (pc := 39) (dAt dtX1_place 18 rfl) lkX1_314 moX1_in q374 q128 rfl rfl (Nat.le_of_ble_eq_true rfl) (wX1_in hg ⟨rfl, rfl⟩) (ep_I (wc_if_eq (pc := 42) (tgt := 55) (dAt dtX1_place 19 rfl) (by decide) (fun c119 => (k114 (Or.inr (Or.inr (Or.inr (Or.inl c119)))))) (fun c119 => wc_iload (pc := 45) (dAt dtX1_place 20 rfl) rfl (wc_iconst (pc := 47) (dAt dtX1_place 21 rfl) ⟨by decide, by decide⟩ (wc_iconst (pc := 48) (dAt dtX1_place 22 rfl) ⟨by decide, by decide⟩ (wc_callS (y' := tX1_in) (P := eI (vX1_in x4 0 3 h) h) (pc := 49) (dAt dtX1_place 23 rfl) lkX1_314 moX1_in q374 q128 rfl rfl (Nat.le_of_ble_eq_true rfl) (wX1_in hg ⟨rfl, rfl⟩) (ep_I (wc_if_ne (pc := 52) (tgt := 57) (dAt dtX1_place 24 rfl) (by decide) (fun c120 => (k115 (fun z => z.elim c116 (fun z => z.elim c117 (fun z => z.elim c118 (fun z => z.elim c119 (fun z => z c120))))))) (fun c120 => (k114 (Or.inr (Or.inr (Or.inr (Or.inr c120)))))))) ex_I)))))) ex_I)))))) ex_I)))))) ex_I))))
def tX4_place : Mt := (⟨"FlyingDoctorsModel", "place", "(IIII)I"⟩, prog_24_method_11_code, 5, (Option.some Jvm.ClassFile.FieldType.int), [])
def DX4_place : List (Nat × Instr × Nat) := [(0, .aload_n 0, 1), (1, .iconst 0, 1), (2, .putfield 1, 3), (5, .aload_n 0, 1), (6, .getfield 7, 3), (9, .bipush 12, 2), (11, .if_icmp .eq 45, 3), (14, .iload_n 1, 1), (15, .ifCond .lt 41, 3), (18, .iload_n 1, 1), (19, .bipush 99, 2), (21, .if_icmp .gt 35, 3), (24, .iload_n 2, 1), (25, .ifCond .lt 31, 3), (28, .iload_n 2, 1), (29, .bipush 99, 2), (31, .if_icmp .gt 25, 3), (34, .iload_n 3, 1), (35, .ifCond .lt 21, 3), (38, .iload_n 3, 1), (39, .sipush 2000, 3), (42, .if_icmp .gt 14, 3), (45, .iload 4, 2), (47, .ifCond .lt 9, 3), (50, .iload 4, 2), (52, .iconst 3, 1), (53, .if_icmp .le 5, 3), (56, .iconst (-1), 1), (57, .ireturn, 1), (58, .aload_n 0, 1), (59, .getfield 17, 3), (62, .aload_n 0, 1), (63, .getfield 7, 3), (66, .iload_n 1, 1), (67, .iastore, 1), (68, .aload_n 0, 1), (69, .getfield 25, 3), (72, .aload_n 0, 1), (73, .getfield 7, 3), (76, .iload_n 2, 1), (77, .iastore, 1), (78, .aload_n 0, 1), (79, .getfield 42, 3), (82, .aload_n 0, 1), (83, .getfield 7, 3), (86, .iload_n 3, 1), (87, .iastore, 1), (88, .aload_n 0, 1), (89, .getfield 35, 3), (92, .aload_n 0, 1), (93, .getfield 7, 3), (96, .iload 4, 2), (98, .iastore, 1), (99, .aload_n 0, 1), (100, .dup, 1), (101, .getfield 7, 3), (104, .iconst 1, 1), (105, .iadd, 1), (106, .putfield 7, 3), (109, .aload_n 0, 1), (110, .getfield 7, 3), (113, .iconst 1, 1), (114, .isub, 1), (115, .ireturn, 1)]
theorem dtX4_place : chkD (mB tX4_place) DX4_place = true := by decide +kernel
theorem moX4_place : MethOk tX4_place 4 := ⟨Or.inl ⟨rfl, q2128⟩, by decide +kernel, ⟨by decide, by decide⟩, by decide +kernel⟩
def mX4_place (x1 : Int) (x2 : Int) (x3 : Int) (x4 : Int) (h : Hp) (Q : Rs → Hp → Prop) : Prop := ∀ h101 : Hp, h101 = sI h 75 0 0 → if ((hI h101 75 2) = 12) ∨ ((x1 < 0) ∨ ((99 < x1) ∨ ((x2 < 0) ∨ ((99 < x2) ∨ ((x3 < 0) ∨ ((2000 < x3) ∨ ((x4 < 0) ∨ (¬ (x4 ≤ 3))))))))) then Q (rV (vI (-1))) h101 else 0 ≤ (hI h101 75 2) ∧ (hI h101 75 2) < 12 ∧ ∀ h105 : Hp, h105 = sI h101 76 (Int.toNat (hI h101 75 2)) x1 → 0 ≤ (hI h105 75 2) ∧ (hI h105 75 2) < 12 ∧ ∀ h108 : Hp, h108 = sI h105 77 (Int.toNat (hI h105 75 2)) x2 → 0 ≤ (hI h108 75 2) ∧ (hI h108 75 2) < 12 ∧ ∀ h111 : Hp, h111 = sI h108 78 (Int.toNat (hI h108 75 2)) x3 → 0 ≤ (hI h111 75 2) ∧ (hI h111 75 2) < 12 ∧ ∀ h114 : Hp, h114 = sI h111 79 (Int.toNat (hI h111 75 2)) x4 → nm ((hI h114 75 2) + 1) ∧ ∀ h116 : Hp, h116 = sI h114 75 2 ((hI h114 75 2) + 1) → nm ((hI h116 75 2) - 1) ∧ Q (rV (vI ((hI h116 75 2) - 1))) h116
theorem wX4_place {G : Gx} (hg : gF G = true) {d : Nat} {x1 : Int} {x2 : Int} {x3 : Int} {x4 : Int} {h : Hp} {Q : Rs → Hp → Prop} (hm : mX4_place x1 x2 x3 x4 h Q) : Ct G tX4_place (d + 0) [vR 75, vI x1, vI x2, vI x3, vI x4] h Q := by
  refine ct_enter (L0 := [some (vR 75), some (vI x1), some (vI x2), some (vI x3), some (vI x4)]) rfl rfl ?_
  unfold mX4_place at hm
  obtain ⟨h101, eh101⟩ : ∃ h101 : Hp, h101 = sI h 75 0 0 := ⟨_, rfl⟩
  replace hm := hm h101 eh101
  refine wc_aload_n (pc := 0) (dAt dtX4_place 0 rfl) rfl (wc_iconst (pc := 1) (dAt dtX4_place 1 rfl) ⟨by decide, by decide⟩ (wc_putKI hg (pc := 2) (dAt dtX4_place 2 rfl) flX4_1_4 (Or.inl rfl) rfl ka75 (by decide) (okI_int _) (wc_hp eh101 (wc_aload_n (pc := 5) (dAt dtX4_place 3 rfl) rfl (wc_getKI hg (pc := 6) (dAt dtX4_place 4 rfl) flX4_7_4 rfl ka75 (wc_bipush (pc := 9) (dAt dtX4_place 5 rfl) ⟨by decide, by decide, by decide⟩ (?_)))))))
  have k118 : (((hI h101 75 2) = 12) ∨ ((x1 < 0) ∨ ((99 < x1) ∨ ((x2 < 0) ∨ ((99 < x2) ∨ ((x3 < 0) ∨ ((2000 < x3) ∨ ((x4 < 0) ∨ (¬ (x4 ≤ 3)))))))))) → Wc G tX4_place (d + 0) h Q 56 [some (vR 75), some (vI x1), some (vI x2), some (vI x3), some (vI x4)] [] h101 := fun c102 => by
    replace hm := ite_t c102 hm
    exact wc_iconst (pc := 56) (dAt dtX4_place 27 rfl) ⟨by decide, by decide⟩ (wc_iret (pc := 57) (dAt dtX4_place 28 rfl) rfl (nar_int _) hm)
  have k119 : ¬ (((hI h101 75 2) = 12) ∨ ((x1 < 0) ∨ ((99 < x1) ∨ ((x2 < 0) ∨ ((99 < x2) ∨ ((x3 < 0) ∨ ((2000 < x3) ∨ ((x4 < 0) ∨ (¬ (x4 ≤ 3)))))))))) → Wc G tX4_place (d + 0) h Q 58 [some (vR 75), some (vI x1), some (vI x2), some (vI x3), some (vI x4)] [] h101 := fun c102 => by
    replace hm := ite_f c102 hm
    obtain ⟨o103, o104, hm⟩ := hm
    obtain ⟨h105, eh105⟩ : ∃ h105 : Hp, h105 = sI h101 76 (Int.toNat (hI h101 75 2)) x1 := ⟨_, rfl⟩
    replace hm := hm h105 eh105
    obtain ⟨o106, o107, hm⟩ := hm
    obtain ⟨h108, eh108⟩ : ∃ h108 : Hp, h108 = sI h105 77 (Int.toNat (hI h105 75 2)) x2 := ⟨_, rfl⟩
    replace hm := hm h108 eh108
    obtain ⟨o109, o110, hm⟩ := hm
    obtain ⟨h111, eh111⟩ : ∃ h111 : Hp, h111 = sI h108 78 (Int.toNat (hI h108 75 2)) x3 := ⟨_, rfl⟩
    replace hm := hm h111 eh111
    obtain ⟨o112, o113, hm⟩ := hm
    obtain ⟨h114, eh114⟩ : ∃ h114 : Hp, h114 = sI h111 79 (Int.toNat (hI h111 75 2)) x4 := ⟨_, rfl⟩
    replace hm := hm h114 eh114
    obtain ⟨o115, hm⟩ := hm
    obtain ⟨h116, eh116⟩ : ∃ h116 : Hp, h116 = sI h114 75 2 ((hI h114 75 2) + 1) := ⟨_, rfl⟩
    replace hm := hm h116 eh116
    obtain ⟨o117, hm⟩ := hm
    exact wc_aload_n (pc := 58) (dAt dtX4_place 29 rfl) rfl (wc_getKR hg (pc := 59) (dAt dtX4_place 30 rfl) flX4_17_4 rfl ka75 kf75_5 (wc_aload_n (pc := 62) (dAt dtX4_place 31 rfl) rfl (wc_getKI hg (pc := 63) (dAt dtX4_place 32 rfl) flX4_7_4 rfl ka75 (wc_iload_n (pc := 66) (dAt dtX4_place 33 rfl) rfl (wc_iastK hg (pc := 67) (dAt dtX4_place 34 rfl) kr76 (by decide) o103 o104 (wc_hp eh105 (wc_aload_n (pc := 68) (dAt dtX4_place 35 rfl) rfl (wc_getKR hg (pc := 69) (dAt dtX4_place 36 rfl) flX4_25_4 rfl ka75 kf75_6 (wc_aload_n (pc := 72) (dAt dtX4_place 37 rfl) rfl (wc_getKI hg (pc := 73) (dAt dtX4_place 38 rfl) flX4_7_4 rfl ka75 (wc_iload_n (pc := 76) (dAt dtX4_place 39 rfl) rfl (wc_iastK hg (pc := 77) (dAt dtX4_place 40 rfl) kr77 (by decide) o106 o107 (wc_hp eh108 (wc_aload_n (pc := 78) (dAt dtX4_place 41 rfl) rfl (wc_getKR hg (pc := 79) (dAt dtX4_place 42 rfl) flX4_42_4 rfl ka75 kf75_7 (wc_aload_n (pc := 82) (dAt dtX4_place 43 rfl) rfl (wc_getKI hg (pc := 83) (dAt dtX4_place 44 rfl) flX4_7_4 rfl ka75 (wc_iload_n (pc := 86) (dAt dtX4_place 45 rfl) rfl (wc_iastK hg (pc := 87) (dAt dtX4_place 46 rfl) kr78 (by decide) o109 o110 (wc_hp eh111 (wc_aload_n (pc := 88) (dAt dtX4_place 47 rfl) rfl (wc_getKR hg (pc := 89) (dAt dtX4_place 48 rfl) flX4_35_4 rfl ka75 kf75_8 (wc_aload_n (pc := 92) (dAt dtX4_place 49 rfl) rfl (wc_getKI hg (pc := 93) (dAt dtX4_place 50 rfl) flX4_7_4 rfl ka75 (wc_iload (pc := 96) (dAt dtX4_place 51 rfl) rfl (wc_iastK hg (pc := 98) (dAt dtX4_place 52 rfl) kr79 (by decide) o112 o113 (wc_hp eh114 (wc_aload_n (pc := 99) (dAt dtX4_place 53 rfl) rfl (wc_dup (pc := 100) (dAt dtX4_place 54 rfl) rfl (wc_getKI hg (pc := 101) (dAt dtX4_place 55 rfl) flX4_7_4 rfl ka75 (wc_iconst (pc := 104) (dAt dtX4_place 56 rfl) ⟨by decide, by decide⟩ (wc_iadd (pc := 105) (dAt dtX4_place 57 rfl) o115 (wc_putKI hg (pc := 106) (dAt dtX4_place 58 rfl) flX4_7_4 (Or.inl rfl) rfl ka75 (by decide) (okI_int _) (wc_hp eh116 (wc_aload_n (pc := 109) (dAt dtX4_place 59 rfl) rfl (wc_getKI hg (pc := 110) (dAt dtX4_place 60 rfl) flX4_7_4 rfl ka75 (wc_iconst (pc := 113) (dAt dtX4_place 61 rfl) ⟨by decide, by decide⟩ (wc_isub (pc := 114) (dAt dtX4_place 62 rfl) o117 (wc_iret (pc := 115) (dAt dtX4_place 63 rfl) rfl (nar_int _) hm)))))))))))))))))))))))))))))))))))))))
  exact wc_icmp_eq (pc := 11) (tgt := 56) (dAt dtX4_place 6 rfl) (by decide) (fun c120 => (k118 (Or.inl c120))) (fun c120 => wc_iload_n (pc := 14) (dAt dtX4_place 7 rfl) rfl (wc_if_lt (pc := 15) (tgt := 56) (dAt dtX4_place 8 rfl) (by decide) (fun c121 => (k118 (Or.inr (Or.inl c121)))) (fun c121 => wc_iload_n (pc := 18) (dAt dtX4_place 9 rfl) rfl (wc_bipush (pc := 19) (dAt dtX4_place 10 rfl) ⟨by decide, by decide, by decide⟩ (wc_icmp_gt (pc := 21) (tgt := 56) (dAt dtX4_place 11 rfl) (by decide) (fun c122 => (k118 (Or.inr (Or.inr (Or.inl c122))))) (fun c122 => wc_iload_n (pc := 24) (dAt dtX4_place 12 rfl) rfl (wc_if_lt (pc := 25) (tgt := 56) (dAt dtX4_place 13 rfl) (by decide) (fun c123 => (k118 (Or.inr (Or.inr (Or.inr (Or.inl c123)))))) (fun c123 => wc_iload_n (pc := 28) (dAt dtX4_place 14 rfl) rfl (wc_bipush (pc := 29) (dAt dtX4_place 15 rfl) ⟨by decide, by decide, by decide⟩ (wc_icmp_gt (pc := 31) (tgt := 56) (dAt dtX4_place 16 rfl) (by decide) (fun c124 => (k118 (Or.inr (Or.inr (Or.inr (Or.inr (Or.inl c124))))))) (fun c124 => wc_iload_n (pc := 34) (dAt dtX4_place 17 rfl) rfl (wc_if_lt (pc := 35) (tgt := 56) (dAt dtX4_place 18 rfl) (by decide) (fun c125 => (k118 (Or.inr (Or.inr (Or.inr (Or.inr (Or.inr (Or.inl c125)))))))) (fun c125 => wc_iload_n (pc := 38) (dAt dtX4_place 19 rfl) rfl (wc_sipush (pc := 39) (dAt dtX4_place 20 rfl) ⟨by decide, by decide, by decide⟩ (wc_icmp_gt (pc := 42) (tgt := 56) (dAt dtX4_place 21 rfl) (by decide) (fun c126 => (k118 (Or.inr (Or.inr (Or.inr (Or.inr (Or.inr (Or.inr (Or.inl c126))))))))) (fun c126 => wc_iload (pc := 45) (dAt dtX4_place 22 rfl) rfl (wc_if_lt (pc := 47) (tgt := 56) (dAt dtX4_place 23 rfl) (by decide) (fun c127 => (k118 (Or.inr (Or.inr (Or.inr (Or.inr (Or.inr (Or.inr (Or.inr (Or.inl c127)))))))))) (fun c127 => wc_iload (pc := 50) (dAt dtX4_place 24 rfl) rfl (wc_iconst (pc := 52) (dAt dtX4_place 25 rfl) ⟨by decide, by decide⟩ (wc_icmp_le (pc := 53) (tgt := 58) (dAt dtX4_place 26 rfl) (by decide) (fun c128 => (k119 (fun z => z.elim c120 (fun z => z.elim c121 (fun z => z.elim c122 (fun z => z.elim c123 (fun z => z.elim c124 (fun z => z.elim c125 (fun z => z.elim c126 (fun z => z.elim c127 (fun z => z c128))))))))))) (fun c128 => (k118 (Or.inr (Or.inr (Or.inr (Or.inr (Or.inr (Or.inr (Or.inr (Or.inr c128))))))))))))))))))))))))))))))
def tJ7_checkIndex : Mt := (⟨"jdk/internal/util/Preconditions", "checkIndex", "(IILjava/util/function/BiFunction;)I"⟩, prog_59_method_11_code, 3, (Option.some Jvm.ClassFile.FieldType.int), [])
def DJ7_checkIndex : List (Nat × Instr × Nat) := [(0, .iload_n 0, 1), (1, .ifCond .lt 8, 3), (4, .iload_n 0, 1), (5, .iload_n 1, 1), (6, .if_icmp .lt 10, 3), (9, .aload_n 2, 1), (10, .iload_n 0, 1), (11, .iload_n 1, 1), (12, .invokestatic 95, 3), (15, .athrow, 1), (16, .iload_n 0, 1), (17, .ireturn, 1)]
theorem dtJ7_checkIndex : chkD (mB tJ7_checkIndex) DJ7_checkIndex = true := by decide +kernel
theorem moJ7_checkIndex : MethOk tJ7_checkIndex 3 := ⟨Or.inl ⟨rfl, q519⟩, by decide +kernel, ⟨by decide, by decide⟩, by decide +kernel⟩
def vJ7_checkIndex (x0 : Int) (x1 : Int) (r2 : Nat) (h : Hp) : Int := x0
def oJ7_checkIndex (x0 : Int) (x1 : Int) (r2 : Nat) (h : Hp) : Prop := ¬ (x0 < 0) ∧ x0 < x1
theorem wJ7_checkIndex {G : Gx} (hg : gF G = true) {d : Nat} {x0 : Int} {x1 : Int} {r2 : Nat} {h : Hp} {Q : Rs → Hp → Prop} (hm : oJ7_checkIndex x0 x1 r2 h) (hq : Q (rV (vI (vJ7_checkIndex x0 x1 r2 h))) h) : Ct G tJ7_checkIndex (d + 0) [vI x0, vI x1, vR r2] h Q := by
  refine ct_enter (L0 := [some (vI x0), some (vI x1), some (vR r2)]) rfl rfl ?_
  obtain ⟨o101, o103⟩ := hm
  have z : Q (rV (vI x0)) h := by
    rw [show (vJ7_checkIndex x0 x1 r2 h) = x0 from rfl] at hq
    exact hq
  exact wc_iload_n (pc := 0) (dAt dtJ7_checkIndex 0 rfl) rfl (wc_if_lt (pc := 1) (tgt := 9) (dAt dtJ7_checkIndex 1 rfl) (by decide) (fun c102 => absurd c102 o101) (fun c102 =>  (wc_iload_n (pc := 4) (dAt dtJ7_checkIndex 2 rfl) rfl (wc_iload_n (pc := 5) (dAt dtJ7_checkIndex 3 rfl) rfl (wc_icmp_lt (pc := 6) (tgt := 16) (dAt dtJ7_checkIndex 4 rfl) (by decide) (fun c104 =>  (wc_iload_n (pc := 16) (dAt dtJ7_checkIndex 10 rfl) rfl (wc_iret (pc := 17) (dAt dtJ7_checkIndex 11 rfl) rfl (nar_int _) z))) (fun c104 => absurd o103 c104))))))
