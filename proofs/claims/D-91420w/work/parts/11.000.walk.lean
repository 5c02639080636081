set_option maxRecDepth 100000
set_option maxHeartbeats 1000000
/-! what methods do, and their walks, by program -/
def tJ0_init : Mt := (⟨"java/util/AbstractCollection", "<init>", "()V"⟩, prog_48_method_1_code, 1, (Option.none : Option Jvm.ClassFile.FieldType), [])
def DJ0_init : List (Nat × Instr × Nat) := [(0, .aload_n 0, 1), (1, .invokespecial 1, 3), (4, .return_, 1)]
theorem dtJ0_init : chkD (mB tJ0_init) DJ0_init = true := by decide +kernel
theorem moJ0_init : MethOk tJ0_init 0 := ⟨Or.inl ⟨rfl, q194⟩, by decide +kernel, ⟨by decide, by decide⟩, by decide +kernel⟩
def mJ0_init (r0 : Nat) (h : Hp) (Q : Rs → Hp → Prop) : Prop := 50 ≤ r0 ∧ Q rN h
theorem wJ0_init {G : Gx} {b : Bool} (hg : gF G = b) {d : Nat} {r0 : Nat} {h : Hp} {Q : Rs → Hp → Prop} (hm : mJ0_init r0 h Q) : Ct G tJ0_init (d + 1) [vR r0] h Q := by
  refine ct_enter (L0 := [some (vR r0)]) rfl rfl ?_
  unfold mJ0_init at hm
  obtain ⟨o101, hm⟩ := hm
  exact wc_aload_n (pc := 0) (dAt dtJ0_init 0 rfl) rfl (wc_obj (pc := 1) (dAt dtJ0_init 1 rfl) q195 q180 q181 o101 (Nat.le_of_ble_eq_true rfl) (wc_vret (pc := 4) (dAt dtJ0_init 2 rfl) rfl hm))
def tJ1_init : Mt := (⟨"java/util/AbstractList", "<init>", "()V"⟩, prog_49_method_1_code, 1, (Option.none : Option Jvm.ClassFile.FieldType), [])
def DJ1_init : List (Nat × Instr × Nat) := [(0, .aload_n 0, 1), (1, .invokespecial 1, 3), (4, .aload_n 0, 1), (5, .iconst 0, 1), (6, .putfield 7, 3), (9, .return_, 1)]
theorem dtJ1_init : chkD (mB tJ1_init) DJ1_init = true := by decide +kernel
theorem moJ1_init : MethOk tJ1_init 0 := ⟨Or.inl ⟨rfl, q191⟩, by decide +kernel, ⟨by decide, by decide⟩, by decide +kernel⟩
def mJ1_init (r0 : Nat) (h : Hp) (Q : Rs → Hp → Prop) : Prop := 50 ≤ r0 ∧ mJ0_init r0 h (kN Q (fun h102 => ob h102 r0 32 ∧ ∀ h104 : Hp, h104 = sI h102 r0 0 0 → Q rN h104))
theorem wJ1_init {G : Gx} {b : Bool} (hg : gF G = b) {d : Nat} {r0 : Nat} {h : Hp} {Q : Rs → Hp → Prop} (hm : mJ1_init r0 h Q) : Ct G tJ1_init (d + 2) [vR r0] h Q := by
  refine ct_enter (L0 := [some (vR r0)]) rfl rfl ?_
  unfold mJ1_init at hm
  obtain ⟨o101, hm⟩ := hm
  refine wc_aload_n (pc := 0) (dAt dtJ1_init 0 rfl) rfl (wc_callI (y' := tJ0_init) (av := []) (st := []) (pc := 1) (dAt dtJ1_init 1 rfl) lkJ1_1 moJ0_init q193 rfl q194 o101 rfl rfl (Nat.le_of_ble_eq_true rfl) (wJ0_init hg hm) (kr_N (fun h102 hm => ?_)) (kx_N rfl))
  obtain ⟨o103, hm⟩ := hm
  obtain ⟨h104, eh104⟩ : ∃ h104 : Hp, h104 = sI h102 r0 0 0 := ⟨_, rfl⟩
  replace hm := hm h104 eh104
  exact wc_aload_n (pc := 4) (dAt dtJ1_init 2 rfl) rfl (wc_iconst (pc := 5) (dAt dtJ1_init 3 rfl) ⟨by decide, by decide⟩ (wc_putI (pc := 6) (dAt dtJ1_init 4 rfl) flJ1_7_32 (Or.inl rfl) rfl o103 o101 (okI_int _) (wc_hp eh104 (wc_vret (pc := 9) (dAt dtJ1_init 5 rfl) rfl hm))))
def tJ2_init : Mt := (⟨"java/util/ArrayList", "<init>", "()V"⟩, prog_50_method_2_code, 1, (Option.none : Option Jvm.ClassFile.FieldType), [])
def DJ2_init : List (Nat × Instr × Nat) := [(0, .aload_n 0, 1), (1, .invokespecial 1, 3), (4, .aload_n 0, 1), (5, .getstatic 39, 3), (8, .putfield 9, 3), (11, .return_, 1)]
theorem dtJ2_init : chkD (mB tJ2_init) DJ2_init = true := by decide +kernel
theorem moJ2_init : MethOk tJ2_init 0 := ⟨Or.inl ⟨rfl, q188⟩, by decide +kernel, ⟨by decide, by decide⟩, by decide +kernel⟩
def mJ2_init (r0 : Nat) (h : Hp) (Q : Rs → Hp → Prop) : Prop := 50 ≤ r0 ∧ mJ1_init r0 h (kN Q (fun h102 => ob h102 r0 32 ∧ ∀ h104 : Hp, h104 = sR h102 r0 1 2 → Q rN h104))
theorem wJ2_init {G : Gx} {b : Bool} (hg : gF G = b) {d : Nat} {r0 : Nat} {h : Hp} {Q : Rs → Hp → Prop} (hm : mJ2_init r0 h Q) : Ct G tJ2_init (d + 3) [vR r0] h Q := by
  refine ct_enter (L0 := [some (vR r0)]) rfl rfl ?_
  unfold mJ2_init at hm
  obtain ⟨o101, hm⟩ := hm
  refine wc_aload_n (pc := 0) (dAt dtJ2_init 0 rfl) rfl (wc_callI (y' := tJ1_init) (av := []) (st := []) (pc := 1) (dAt dtJ2_init 1 rfl) lkJ2_1 moJ1_init q190 rfl q191 o101 rfl rfl (Nat.le_of_ble_eq_true rfl) (wJ1_init hg hm) (kr_N (fun h102 hm => ?_)) (kx_N rfl))
  obtain ⟨o103, hm⟩ := hm
  obtain ⟨h104, eh104⟩ : ∃ h104 : Hp, h104 = sR h102 r0 1 2 := ⟨_, rfl⟩
  replace hm := hm h104 eh104
  exact wc_aload_n (pc := 4) (dAt dtJ2_init 2 rfl) rfl (wc_getsR (a := 2) (pc := 5) (dAt dtJ2_init 3 rfl) q196 (by decide +kernel) (by decide) (wc_putR (pc := 8) (dAt dtJ2_init 4 rfl) flJ2_9_32 (Or.inl rfl) rfl o103 o101 (fun _ => ⟨by decide, by decide, by decide⟩) (wc_hp eh104 (wc_vret (pc := 11) (dAt dtJ2_init 5 rfl) rfl hm))))
def tX2_init : Mt := (⟨"FlyingDoctors$Rules", "<init>", "()V"⟩, prog_18_method_1_code, 1, (Option.none : Option Jvm.ClassFile.FieldType), [])
def DX2_init : List (Nat × Instr × Nat) := [(0, .aload_n 0, 1), (1, .invokespecial 1, 3), (4, .aload_n 0, 1), (5, .iconst 5, 1), (6, .newarray .int, 2), (8, .dup, 1), (9, .iconst 0, 1), (10, .bipush 32, 2), (12, .iastore, 1), (13, .dup, 1), (14, .iconst 1, 1), (15, .bipush 40, 2), (17, .iastore, 1), (18, .dup, 1), (19, .iconst 2, 1), (20, .iconst 4, 1), (21, .iastore, 1), (22, .dup, 1), (23, .iconst 3, 1), (24, .iconst 2, 1), (25, .iastore, 1), (26, .dup, 1), (27, .iconst 4, 1), (28, .bipush 14, 2), (30, .iastore, 1), (31, .putfield 7, 3), (34, .aload_n 0, 1), (35, .new 13, 3), (38, .dup, 1), (39, .invokespecial 15, 3), (42, .putfield 16, 3), (45, .aload_n 0, 1), (46, .new 13, 3), (49, .dup, 1), (50, .invokespecial 15, 3), (53, .putfield 20, 3), (56, .return_, 1)]
theorem dtX2_init : chkD (mB tX2_init) DX2_init = true := by decide +kernel
theorem moX2_init : MethOk tX2_init 0 := ⟨Or.inl ⟨rfl, q215⟩, by decide +kernel, ⟨by decide, by decide⟩, by decide +kernel⟩
def mX2_init (r0 : Nat) (h : Hp) (Q : Rs → Hp → Prop) : Prop := 50 ≤ r0 ∧ hn h + 1 ≤ 878547 ∧ hq h + 5 ≤ 6460613 ∧ ∀ r105 : Nat, r105 = hn h → ∀ h106 : Hp, h106 = nw h 70 5 5 → (0 : Int) < (hN h106 r105) ∧ ∀ h108 : Hp, h108 = sI h106 r105 0 32 → (1 : Int) < (hN h108 r105) ∧ ∀ h110 : Hp, h110 = sI h108 r105 1 40 → (2 : Int) < (hN h110 r105) ∧ ∀ h112 : Hp, h112 = sI h110 r105 2 4 → (3 : Int) < (hN h112 r105) ∧ ∀ h114 : Hp, h114 = sI h112 r105 3 2 → (4 : Int) < (hN h114 r105) ∧ ∀ h116 : Hp, h116 = sI h114 r105 4 14 → ob h116 r0 2 ∧ ∀ h118 : Hp, h118 = sR h116 r0 0 r105 → hn h118 + 1 ≤ 878547 ∧ hq h118 + 3 ≤ 6460613 ∧ ∀ r122 : Nat, r122 = hn h118 → ∀ h123 : Hp, h123 = nw h118 32 0 3 → mJ2_init r122 h123 (kN Q (fun h124 => ob h124 r0 2 ∧ ∀ h126 : Hp, h126 = sR h124 r0 1 r122 → hn h126 + 1 ≤ 878547 ∧ hq h126 + 3 ≤ 6460613 ∧ ∀ r130 : Nat, r130 = hn h126 → ∀ h131 : Hp, h131 = nw h126 32 0 3 → mJ2_init r130 h131 (kN Q (fun h132 => ob h132 r0 2 ∧ ∀ h134 : Hp, h134 = sR h132 r0 2 r130 → Q rN h134))))
theorem wX2_init {G : Gx} {b : Bool} (hg : gF G = b) {d : Nat} {r0 : Nat} {h : Hp} {Q : Rs → Hp → Prop} (hm : mX2_init r0 h Q) : Ct G tX2_init (d + 4) [vR r0] h Q := by
  refine ct_enter (L0 := [some (vR r0)]) rfl rfl ?_
  unfold mX2_init at hm
  obtain ⟨o101, o102, o103, hm⟩ := hm
  obtain ⟨r105, er105⟩ : ∃ r105 : Nat, r105 = hn h := ⟨_, rfl⟩
  replace hm := hm r105 er105
  obtain ⟨h106, eh106⟩ : ∃ h106 : Hp, h106 = nw h 70 5 5 := ⟨_, rfl⟩
  replace hm := hm h106 eh106
  obtain ⟨o107, hm⟩ := hm
  obtain ⟨h108, eh108⟩ : ∃ h108 : Hp, h108 = sI h106 r105 0 32 := ⟨_, rfl⟩
  replace hm := hm h108 eh108
  obtain ⟨o109, hm⟩ := hm
  obtain ⟨h110, eh110⟩ : ∃ h110 : Hp, h110 = sI h108 r105 1 40 := ⟨_, rfl⟩
  replace hm := hm h110 eh110
  obtain ⟨o111, hm⟩ := hm
  obtain ⟨h112, eh112⟩ : ∃ h112 : Hp, h112 = sI h110 r105 2 4 := ⟨_, rfl⟩
  replace hm := hm h112 eh112
  obtain ⟨o113, hm⟩ := hm
  obtain ⟨h114, eh114⟩ : ∃ h114 : Hp, h114 = sI h112 r105 3 2 := ⟨_, rfl⟩
  replace hm := hm h114 eh114
  obtain ⟨o115, hm⟩ := hm
  obtain ⟨h116, eh116⟩ : ∃ h116 : Hp, h116 = sI h114 r105 4 14 := ⟨_, rfl⟩
  replace hm := hm h116 eh116
  obtain ⟨o117, hm⟩ := hm
  obtain ⟨h118, eh118⟩ : ∃ h118 : Hp, h118 = sR h116 r0 0 r105 := ⟨_, rfl⟩
  replace hm := hm h118 eh118
  obtain ⟨o119, o120, hm⟩ := hm
  obtain ⟨r122, er122⟩ : ∃ r122 : Nat, r122 = hn h118 := ⟨_, rfl⟩
  replace hm := hm r122 er122
  obtain ⟨h123, eh123⟩ : ∃ h123 : Hp, h123 = nw h118 32 0 3 := ⟨_, rfl⟩
  replace hm := hm h123 eh123
  refine wc_aload_n (pc := 0) (dAt dtX2_init 0 rfl) rfl (wc_obj (pc := 1) (dAt dtX2_init 1 rfl) q216 q180 q181 o101 (Nat.le_of_ble_eq_true rfl) (wc_aload_n (pc := 4) (dAt dtX2_init 2 rfl) rfl (wc_iconst (pc := 5) (dAt dtX2_init 3 rfl) ⟨by decide, by decide⟩ (wc_k0 fun n104 => (wc_newarr (t := 70) (pc := 6) (dAt dtX2_init 4 rfl) rfl ⟨by decide, by decide⟩ q210 (by decide) (by decide) o102 o103 (wc_hp eh106 (wc_vr er105 (wc_dup (pc := 8) (dAt dtX2_init 5 rfl) rfl (wc_iconst (pc := 9) (dAt dtX2_init 6 rfl) ⟨by decide, by decide⟩ (wc_bipush (pc := 10) (dAt dtX2_init 7 rfl) ⟨by decide, by decide, by decide⟩ (wc_iast (pc := 12) (dAt dtX2_init 8 rfl) (ob_at er105 eh106 n104) (k0_at er105 n104) (by decide) o107 (wc_hp eh108 (wc_dup (pc := 13) (dAt dtX2_init 9 rfl) rfl (wc_iconst (pc := 14) (dAt dtX2_init 10 rfl) ⟨by decide, by decide⟩ (wc_bipush (pc := 15) (dAt dtX2_init 11 rfl) ⟨by decide, by decide, by decide⟩ (wc_iast (pc := 17) (dAt dtX2_init 12 rfl) (ob_sI eh108 (ob_at er105 eh106 n104)) (k0_at er105 n104) (by decide) o109 (wc_hp eh110 (wc_dup (pc := 18) (dAt dtX2_init 13 rfl) rfl (wc_iconst (pc := 19) (dAt dtX2_init 14 rfl) ⟨by decide, by decide⟩ (wc_iconst (pc := 20) (dAt dtX2_init 15 rfl) ⟨by decide, by decide⟩ (wc_iast (pc := 21) (dAt dtX2_init 16 rfl) (ob_sI eh110 (ob_sI eh108 (ob_at er105 eh106 n104))) (k0_at er105 n104) (by decide) o111 (wc_hp eh112 (wc_dup (pc := 22) (dAt dtX2_init 17 rfl) rfl (wc_iconst (pc := 23) (dAt dtX2_init 18 rfl) ⟨by decide, by decide⟩ (wc_iconst (pc := 24) (dAt dtX2_init 19 rfl) ⟨by decide, by decide⟩ (wc_iast (pc := 25) (dAt dtX2_init 20 rfl) (ob_sI eh112 (ob_sI eh110 (ob_sI eh108 (ob_at er105 eh106 n104)))) (k0_at er105 n104) (by decide) o113 (wc_hp eh114 (wc_dup (pc := 26) (dAt dtX2_init 21 rfl) rfl (wc_iconst (pc := 27) (dAt dtX2_init 22 rfl) ⟨by decide, by decide⟩ (wc_bipush (pc := 28) (dAt dtX2_init 23 rfl) ⟨by decide, by decide, by decide⟩ (wc_iast (pc := 30) (dAt dtX2_init 24 rfl) (ob_sI eh114 (ob_sI eh112 (ob_sI eh110 (ob_sI eh108 (ob_at er105 eh106 n104))))) (k0_at er105 n104) (by decide) o115 (wc_hp eh116 (wc_putR (pc := 31) (dAt dtX2_init 25 rfl) flX2_7_2 (Or.inr ⟨rfl, rfl, rfl⟩) rfl o117 o101 (fun _ => ⟨by decide, by decide, by decide⟩) (wc_hp eh118 (wc_aload_n (pc := 34) (dAt dtX2_init 26 rfl) rfl (wc_k0 fun n121 => (wc_new (k := 32) (pc := 35) (dAt dtX2_init 27 rfl) q217 q185 q131 (by decide) o119 o120 (wc_hp eh123 (wc_vr er122 (wc_dup (pc := 38) (dAt dtX2_init 28 rfl) rfl (wc_callI (y' := tJ2_init) (av := []) (st := [vR r122, vR r0]) (pc := 39) (dAt dtX2_init 29 rfl) lkX2_15 moJ2_init q187 rfl q188 (k0_at er122 n121) rfl rfl (Nat.le_of_ble_eq_true rfl) (wJ2_init hg hm) (kr_N (fun h124 hm => ?_)) (kx_N rfl))))))))))))))))))))))))))))))))))))))))))
  obtain ⟨o125, hm⟩ := hm
  obtain ⟨h126, eh126⟩ : ∃ h126 : Hp, h126 = sR h124 r0 1 r122 := ⟨_, rfl⟩
  replace hm := hm h126 eh126
  obtain ⟨o127, o128, hm⟩ := hm
  obtain ⟨r130, er130⟩ : ∃ r130 : Nat, r130 = hn h126 := ⟨_, rfl⟩
  replace hm := hm r130 er130
  obtain ⟨h131, eh131⟩ : ∃ h131 : Hp, h131 = nw h126 32 0 3 := ⟨_, rfl⟩
  replace hm := hm h131 eh131
  refine wc_putR (pc := 42) (dAt dtX2_init 30 rfl) flX2_16_2 (Or.inr ⟨rfl, rfl, rfl⟩) rfl o125 o101 (fun _ => ⟨by decide, by decide, by decide⟩) (wc_hp eh126 (wc_aload_n (pc := 45) (dAt dtX2_init 31 rfl) rfl (wc_k0 fun n129 => (wc_new (k := 32) (pc := 46) (dAt dtX2_init 32 rfl) q217 q185 q131 (by decide) o127 o128 (wc_hp eh131 (wc_vr er130 (wc_dup (pc := 49) (dAt dtX2_init 33 rfl) rfl (wc_callI (y' := tJ2_init) (av := []) (st := [vR r130, vR r0]) (pc := 50) (dAt dtX2_init 34 rfl) lkX2_15 moJ2_init q187 rfl q188 (k0_at er130 n129) rfl rfl (Nat.le_of_ble_eq_true rfl) (wJ2_init hg hm) (kr_N (fun h132 hm => ?_)) (kx_N rfl)))))))))
  obtain ⟨o133, hm⟩ := hm
  obtain ⟨h134, eh134⟩ : ∃ h134 : Hp, h134 = sR h132 r0 2 r130 := ⟨_, rfl⟩
  replace hm := hm h134 eh134
  exact wc_putR (pc := 53) (dAt dtX2_init 35 rfl) flX2_20_2 (Or.inr ⟨rfl, rfl, rfl⟩) rfl o133 o101 (fun _ => ⟨by decide, by decide, by decide⟩) (wc_hp eh134 (wc_vret (pc := 56) (dAt dtX2_init 36 rfl) rfl hm))
def tX3_init : Mt := (⟨"FlyingDoctors$Asked", "<init>", "()V"⟩, prog_2_method_1_code, 1, (Option.none : Option Jvm.ClassFile.FieldType), [])
def DX3_init : List (Nat × Instr × Nat) := [(0, .aload_n 0, 1), (1, .invokespecial 3, 3), (4, .aload_n 0, 1), (5, .bipush 10, 2), (7, .newarray .int, 2), (9, .putfield 9, 3), (12, .aload_n 0, 1), (13, .iconst 5, 1), (14, .newarray .int, 2), (16, .putfield 15, 3), (19, .return_, 1)]
theorem dtX3_init : chkD (mB tX3_init) DX3_init = true := by decide +kernel
theorem moX3_init : MethOk tX3_init 0 := ⟨Or.inl ⟨rfl, q247⟩, by decide +kernel, ⟨by decide, by decide⟩, by decide +kernel⟩
def mX3_init (r0 : Nat) (h : Hp) (Q : Rs → Hp → Prop) : Prop := 50 ≤ r0 ∧ hn h + 1 ≤ 878547 ∧ hq h + 10 ≤ 6460613 ∧ ∀ r105 : Nat, r105 = hn h → ∀ h106 : Hp, h106 = nw h 70 10 10 → ob h106 r0 3 ∧ ∀ h108 : Hp, h108 = sR h106 r0 0 r105 → hn h108 + 1 ≤ 878547 ∧ hq h108 + 5 ≤ 6460613 ∧ ∀ r112 : Nat, r112 = hn h108 → ∀ h113 : Hp, h113 = nw h108 70 5 5 → ∀ h114 : Hp, h114 = sR h113 r0 1 r112 → Q rN h114
theorem wX3_init {G : Gx} (hg : gF G = false) {d : Nat} {r0 : Nat} {h : Hp} {Q : Rs → Hp → Prop} (hm : mX3_init r0 h Q) : Ct G tX3_init (d + 1) [vR r0] h Q := by
  refine ct_enter (L0 := [some (vR r0)]) rfl rfl ?_
  unfold mX3_init at hm
  obtain ⟨o101, o102, o103, hm⟩ := hm
  obtain ⟨r105, er105⟩ : ∃ r105 : Nat, r105 = hn h := ⟨_, rfl⟩
  replace hm := hm r105 er105
  obtain ⟨h106, eh106⟩ : ∃ h106 : Hp, h106 = nw h 70 10 10 := ⟨_, rfl⟩
  replace hm := hm h106 eh106
  obtain ⟨o107, hm⟩ := hm
  obtain ⟨h108, eh108⟩ : ∃ h108 : Hp, h108 = sR h106 r0 0 r105 := ⟨_, rfl⟩
  replace hm := hm h108 eh108
  obtain ⟨o109, o110, hm⟩ := hm
  obtain ⟨r112, er112⟩ : ∃ r112 : Nat, r112 = hn h108 := ⟨_, rfl⟩
  replace hm := hm r112 er112
  obtain ⟨h113, eh113⟩ : ∃ h113 : Hp, h113 = nw h108 70 5 5 := ⟨_, rfl⟩
  replace hm := hm h113 eh113
  obtain ⟨h114, eh114⟩ : ∃ h114 : Hp, h114 = sR h113 r0 1 r112 := ⟨_, rfl⟩
  replace hm := hm h114 eh114
  exact wc_aload_n (pc := 0) (dAt dtX3_init 0 rfl) rfl (wc_obj (pc := 1) (dAt dtX3_init 1 rfl) q248 q180 q181 o101 (Nat.le_of_ble_eq_true rfl) (wc_aload_n (pc := 4) (dAt dtX3_init 2 rfl) rfl (wc_bipush (pc := 5) (dAt dtX3_init 3 rfl) ⟨by decide, by decide, by decide⟩ (wc_k0 fun n104 => (wc_newarr (t := 70) (pc := 7) (dAt dtX3_init 4 rfl) rfl ⟨by decide, by decide⟩ q210 (by decide) (by decide) o102 o103 (wc_hp eh106 (wc_vr er105 (wc_putR (pc := 9) (dAt dtX3_init 5 rfl) flX3_9_3 (Or.inr ⟨rfl, rfl, rfl⟩) rfl o107 o101 (fun z => absurd (z.symm.trans hg) (by decide)) (wc_hp eh108 (wc_aload_n (pc := 12) (dAt dtX3_init 6 rfl) rfl (wc_iconst (pc := 13) (dAt dtX3_init 7 rfl) ⟨by decide, by decide⟩ (wc_k0 fun n111 => (wc_newarr (t := 70) (pc := 14) (dAt dtX3_init 8 rfl) rfl ⟨by decide, by decide⟩ q210 (by decide) (by decide) o109 o110 (wc_hp eh113 (wc_vr er112 (wc_putR (pc := 16) (dAt dtX3_init 9 rfl) flX3_15_3 (Or.inr ⟨rfl, rfl, rfl⟩) rfl (ob_nw eh113 (ob_sR eh108 o107)) o101 (fun z => absurd (z.symm.trans hg) (by decide)) (wc_hp eh114 (wc_vret (pc := 19) (dAt dtX3_init 10 rfl) rfl hm))))))))))))))))))
def tX1_init : Mt := (⟨"FlyingDoctors", "<init>", "()V"⟩, prog_1_method_19_code, 1, (Option.none : Option Jvm.ClassFile.FieldType), [])
def DX1_init : List (Nat × Instr × Nat) := [(0, .aload_n 0, 1), (1, .invokespecial 266, 3), (4, .aload_n 0, 1), (5, .bipush 12, 2), (7, .newarray .int, 2), (9, .putfield 198, 3), (12, .aload_n 0, 1), (13, .bipush 12, 2), (15, .newarray .int, 2), (17, .putfield 253, 3), (20, .aload_n 0, 1), (21, .bipush 12, 2), (23, .anewarray 26, 3), (26, .putfield 249, 3), (29, .aload_n 0, 1), (30, .new 269, 3), (33, .dup, 1), (34, .invokespecial 271, 3), (37, .putfield 12, 3), (40, .aload_n 0, 1), (41, .new 269, 3), (44, .dup, 1), (45, .invokespecial 271, 3), (48, .putfield 272, 3), (51, .aload_n 0, 1), (52, .new 269, 3), (55, .dup, 1), (56, .invokespecial 271, 3), (59, .putfield 158, 3), (62, .aload_n 0, 1), (63, .new 269, 3), (66, .dup, 1), (67, .invokespecial 271, 3), (70, .putfield 40, 3), (73, .aload_n 0, 1), (74, .new 269, 3), (77, .dup, 1), (78, .invokespecial 271, 3), (81, .putfield 275, 3), (84, .aload_n 0, 1), (85, .new 269, 3), (88, .dup, 1), (89, .invokespecial 271, 3), (92, .putfield 81, 3), (95, .aload_n 0, 1), (96, .new 269, 3), (99, .dup, 1), (100, .invokespecial 271, 3), (103, .putfield 278, 3), (106, .aload_n 0, 1), (107, .new 269, 3), (110, .dup, 1), (111, .invokespecial 271, 3), (114, .putfield 281, 3), (117, .aload_n 0, 1), (118, .new 269, 3), (121, .dup, 1), (122, .invokespecial 271, 3), (125, .putfield 179, 3), (128, .aload_n 0, 1), (129, .new 269, 3), (132, .dup, 1), (133, .invokespecial 271, 3), (136, .putfield 284, 3), (139, .aload_n 0, 1), (140, .new 269, 3), (143, .dup, 1), (144, .invokespecial 271, 3), (147, .putfield 287, 3), (150, .aload_n 0, 1), (151, .sipush 800, 3), (154, .newarray .byte, 2), (156, .putfield 290, 3), (159, .aload_n 0, 1), (160, .new 43, 3), (163, .dup, 1), (164, .invokespecial 294, 3), (167, .putfield 36, 3), (170, .aload_n 0, 1), (171, .new 54, 3), (174, .dup, 1), (175, .invokespecial 295, 3), (178, .putfield 49, 3), (181, .aload_n 0, 1), (182, .bipush 8, 2), (184, .newarray .int, 2), (186, .putfield 296, 3), (189, .aload_n 0, 1), (190, .bipush 60, 2), (192, .anewarray 299, 3), (195, .putfield 301, 3), (198, .aload_n 0, 1), (199, .iconst (-1), 1), (200, .putfield 305, 3), (203, .aload_n 0, 1), (204, .iconst (-1), 1), (205, .putfield 308, 3), (208, .aload_n 0, 1), (209, .iconst (-1), 1), (210, .putfield 311, 3), (213, .return_, 1)]
theorem dtX1_init : chkD (mB tX1_init) DX1_init = true := by decide +kernel
theorem moX1_init : MethOk tX1_init 0 := ⟨Or.inl ⟨rfl, q178⟩, by decide +kernel, ⟨by decide, by decide⟩, by decide +kernel⟩
def mX1_init (r0 : Nat) (h : Hp) (Q : Rs → Hp → Prop) : Prop := 50 ≤ r0 ∧ hn h + 1 ≤ 878547 ∧ hq h + 12 ≤ 6460613 ∧ ∀ r105 : Nat, r105 = hn h → ∀ h106 : Hp, h106 = nw h 70 12 12 → ob h106 r0 1 ∧ ∀ h108 : Hp, h108 = sR h106 r0 0 r105 → hn h108 + 1 ≤ 878547 ∧ hq h108 + 12 ≤ 6460613 ∧ ∀ r112 : Nat, r112 = hn h108 → ∀ h113 : Hp, h113 = nw h108 70 12 12 → ∀ h114 : Hp, h114 = sR h113 r0 1 r112 → hn h114 + 1 ≤ 878547 ∧ hq h114 + 12 ≤ 6460613 ∧ ∀ r118 : Nat, r118 = hn h114 → ∀ h119 : Hp, h119 = nw h114 75 12 12 → ∀ h120 : Hp, h120 = sR h119 r0 2 r118 → hn h120 + 1 ≤ 878547 ∧ hq h120 + 3 ≤ 6460613 ∧ ∀ r124 : Nat, r124 = hn h120 → ∀ h125 : Hp, h125 = nw h120 32 0 3 → mJ2_init r124 h125 (kN Q (fun h126 => ob h126 r0 1 ∧ ∀ h128 : Hp, h128 = sR h126 r0 4 r124 → hn h128 + 1 ≤ 878547 ∧ hq h128 + 3 ≤ 6460613 ∧ ∀ r132 : Nat, r132 = hn h128 → ∀ h133 : Hp, h133 = nw h128 32 0 3 → mJ2_init r132 h133 (kN Q (fun h134 => ob h134 r0 1 ∧ ∀ h136 : Hp, h136 = sR h134 r0 5 r132 → hn h136 + 1 ≤ 878547 ∧ hq h136 + 3 ≤ 6460613 ∧ ∀ r140 : Nat, r140 = hn h136 → ∀ h141 : Hp, h141 = nw h136 32 0 3 → mJ2_init r140 h141 (kN Q (fun h142 => ob h142 r0 1 ∧ ∀ h144 : Hp, h144 = sR h142 r0 6 r140 → hn h144 + 1 ≤ 878547 ∧ hq h144 + 3 ≤ 6460613 ∧ ∀ r148 : Nat, r148 = hn h144 → ∀ h149 : Hp, h149 = nw h144 32 0 3 → mJ2_init r148 h149 (kN Q (fun h150 => ob h150 r0 1 ∧ ∀ h152 : Hp, h152 = sR h150 r0 7 r148 → hn h152 + 1 ≤ 878547 ∧ hq h152 + 3 ≤ 6460613 ∧ ∀ r156 : Nat, r156 = hn h152 → ∀ h157 : Hp, h157 = nw h152 32 0 3 → mJ2_init r156 h157 (kN Q (fun h158 => ob h158 r0 1 ∧ ∀ h160 : Hp, h160 = sR h158 r0 8 r156 → hn h160 + 1 ≤ 878547 ∧ hq h160 + 3 ≤ 6460613 ∧ ∀ r164 : Nat, r164 = hn h160 → ∀ h165 : Hp, h165 = nw h160 32 0 3 → mJ2_init r164 h165 (kN Q (fun h166 => ob h166 r0 1 ∧ ∀ h168 : Hp, h168 = sR h166 r0 9 r164 → hn h168 + 1 ≤ 878547 ∧ hq h168 + 3 ≤ 6460613 ∧ ∀ r172 : Nat, r172 = hn h168 → ∀ h173 : Hp, h173 = nw h168 32 0 3 → mJ2_init r172 h173 (kN Q (fun h174 => ob h174 r0 1 ∧ ∀ h176 : Hp, h176 = sR h174 r0 10 r172 → hn h176 + 1 ≤ 878547 ∧ hq h176 + 3 ≤ 6460613 ∧ ∀ r180 : Nat, r180 = hn h176 → ∀ h181 : Hp, h181 = nw h176 32 0 3 → mJ2_init r180 h181 (kN Q (fun h182 => ob h182 r0 1 ∧ ∀ h184 : Hp, h184 = sR h182 r0 11 r180 → hn h184 + 1 ≤ 878547 ∧ hq h184 + 3 ≤ 6460613 ∧ ∀ r188 : Nat, r188 = hn h184 → ∀ h189 : Hp, h189 = nw h184 32 0 3 → mJ2_init r188 h189 (kN Q (fun h190 => ob h190 r0 1 ∧ ∀ h192 : Hp, h192 = sR h190 r0 12 r188 → hn h192 + 1 ≤ 878547 ∧ hq h192 + 3 ≤ 6460613 ∧ ∀ r196 : Nat, r196 = hn h192 → ∀ h197 : Hp, h197 = nw h192 32 0 3 → mJ2_init r196 h197 (kN Q (fun h198 => ob h198 r0 1 ∧ ∀ h200 : Hp, h200 = sR h198 r0 13 r196 → hn h200 + 1 ≤ 878547 ∧ hq h200 + 3 ≤ 6460613 ∧ ∀ r204 : Nat, r204 = hn h200 → ∀ h205 : Hp, h205 = nw h200 32 0 3 → mJ2_init r204 h205 (kN Q (fun h206 => ob h206 r0 1 ∧ ∀ h208 : Hp, h208 = sR h206 r0 14 r204 → hn h208 + 1 ≤ 878547 ∧ hq h208 + 800 ≤ 6460613 ∧ ∀ r212 : Nat, r212 = hn h208 → ∀ h213 : Hp, h213 = nw h208 71 800 800 → ∀ h214 : Hp, h214 = sR h213 r0 15 r212 → hn h214 + 1 ≤ 878547 ∧ hq h214 + 5 ≤ 6460613 ∧ ∀ r218 : Nat, r218 = hn h214 → ∀ h219 : Hp, h219 = nw h214 2 0 5 → mX2_init r218 h219 (kN Q (fun h220 => ob h220 r0 1 ∧ ∀ h222 : Hp, h222 = sR h220 r0 16 r218 → hn h222 + 1 ≤ 878547 ∧ hq h222 + 3 ≤ 6460613 ∧ ∀ r226 : Nat, r226 = hn h222 → ∀ h227 : Hp, h227 = nw h222 3 0 3 → mX3_init r226 h227 (kN Q (fun h228 => ob h228 r0 1 ∧ ∀ h230 : Hp, h230 = sR h228 r0 17 r226 → hn h230 + 1 ≤ 878547 ∧ hq h230 + 8 ≤ 6460613 ∧ ∀ r234 : Nat, r234 = hn h230 → ∀ h235 : Hp, h235 = nw h230 70 8 8 → ∀ h236 : Hp, h236 = sR h235 r0 18 r234 → hn h236 + 1 ≤ 878547 ∧ hq h236 + 60 ≤ 6460613 ∧ ∀ r240 : Nat, r240 = hn h236 → ∀ h241 : Hp, h241 = nw h236 76 60 60 → ∀ h242 : Hp, h242 = sR h241 r0 19 r240 → ∀ h243 : Hp, h243 = sI h242 r0 22 (-1) → ∀ h244 : Hp, h244 = sI h243 r0 24 (-1) → ∀ h245 : Hp, h245 = sI h244 r0 25 (-1) → Q rN h245))))))))))))))))))))))))))
theorem wX1_init {G : Gx} (hg : gF G = false) {d : Nat} {r0 : Nat} {h : Hp} {Q : Rs → Hp → Prop} (hm : mX1_init r0 h Q) : Ct G tX1_init (d + 5) [vR r0] h Q := by
  refine ct_enter (L0 := [some (vR r0)]) rfl rfl ?_
  unfold mX1_init at hm
  obtain ⟨o101, o102, o103, hm⟩ := hm
  obtain ⟨r105, er105⟩ : ∃ r105 : Nat, r105 = hn h := ⟨_, rfl⟩
  replace hm := hm r105 er105
  obtain ⟨h106, eh106⟩ : ∃ h106 : Hp, h106 = nw h 70 12 12 := ⟨_, rfl⟩
  replace hm := hm h106 eh106
  obtain ⟨o107, hm⟩ := hm
  obtain ⟨h108, eh108⟩ : ∃ h108 : Hp, h108 = sR h106 r0 0 r105 := ⟨_, rfl⟩
  replace hm := hm h108 eh108
  obtain ⟨o109, o110, hm⟩ := hm
  obtain ⟨r112, er112⟩ : ∃ r112 : Nat, r112 = hn h108 := ⟨_, rfl⟩
  replace hm := hm r112 er112
  obtain ⟨h113, eh113⟩ : ∃ h113 : Hp, h113 = nw h108 70 12 12 := ⟨_, rfl⟩
  replace hm := hm h113 eh113
  obtain ⟨h114, eh114⟩ : ∃ h114 : Hp, h114 = sR h113 r0 1 r112 := ⟨_, rfl⟩
  replace hm := hm h114 eh114
  obtain ⟨o115, o116, hm⟩ := hm
  obtain ⟨r118, er118⟩ : ∃ r118 : Nat, r118 = hn h114 := ⟨_, rfl⟩
  replace hm := hm r118 er118
  obtain ⟨h119, eh119⟩ : ∃ h119 : Hp, h119 = nw h114 75 12 12 := ⟨_, rfl⟩
  replace hm := hm h119 eh119
  obtain ⟨h120, eh120⟩ : ∃ h120 : Hp, h120 = sR h119 r0 2 r118 := ⟨_, rfl⟩
  replace hm := hm h120 eh120
  obtain ⟨o121, o122, hm⟩ := hm
  obtain ⟨r124, er124⟩ : ∃ r124 : Nat, r124 = hn h120 := ⟨_, rfl⟩
  replace hm := hm r124 er124
  obtain ⟨h125, eh125⟩ : ∃ h125 : Hp, h125 = nw h120 32 0 3 := ⟨_, rfl⟩
  replace hm := hm h125 eh125
  refine wc_aload_n (pc := 0) (dAt dtX1_init 0 rfl) rfl (wc_obj (pc := 1) (dAt dtX1_init 1 rfl) q179 q180 q181 o101 (Nat.le_of_ble_eq_true rfl) (wc_aload_n (pc := 4) (dAt dtX1_init 2 rfl) rfl (wc_bipush (pc := 5) (dAt dtX1_init 3 rfl) ⟨by decide, by decide, by decide⟩ (wc_k0 fun n104 => (wc_newarr (t := 70) (pc := 7) (dAt dtX1_init 4 rfl) rfl ⟨by decide, by decide⟩ q210 (by decide) (by decide) o102 o103 (wc_hp eh106 (wc_vr er105 (wc_putR (pc := 9) (dAt dtX1_init 5 rfl) flX1_198_1 (Or.inr ⟨rfl, rfl, rfl⟩) rfl o107 o101 (fun z => absurd (z.symm.trans hg) (by decide)) (wc_hp eh108 (wc_aload_n (pc := 12) (dAt dtX1_init 6 rfl) rfl (wc_bipush (pc := 13) (dAt dtX1_init 7 rfl) ⟨by decide, by decide, by decide⟩ (wc_k0 fun n111 => (wc_newarr (t := 70) (pc := 15) (dAt dtX1_init 8 rfl) rfl ⟨by decide, by decide⟩ q210 (by decide) (by decide) o109 o110 (wc_hp eh113 (wc_vr er112 (wc_putR (pc := 17) (dAt dtX1_init 9 rfl) flX1_253_1 (Or.inr ⟨rfl, rfl, rfl⟩) rfl (ob_nw eh113 (ob_sR eh108 o107)) o101 (fun z => absurd (z.symm.trans hg) (by decide)) (wc_hp eh114 (wc_aload_n (pc := 20) (dAt dtX1_init 10 rfl) rfl (wc_bipush (pc := 21) (dAt dtX1_init 11 rfl) ⟨by decide, by decide, by decide⟩ (wc_k0 fun n117 => (wc_anewarr (t := 75) (pc := 23) (dAt dtX1_init 12 rfl) ⟨by decide, by decide⟩ rfl q182 q183 (by decide) (by decide) o115 o116 (wc_hp eh119 (wc_vr er118 (wc_putR (pc := 26) (dAt dtX1_init 13 rfl) flX1_249_1 (Or.inr ⟨rfl, rfl, rfl⟩) rfl (ob_nw eh119 (ob_sR eh114 (ob_nw eh113 (ob_sR eh108 o107)))) o101 (fun z => absurd (z.symm.trans hg) (by decide)) (wc_hp eh120 (wc_aload_n (pc := 29) (dAt dtX1_init 14 rfl) rfl (wc_k0 fun n123 => (wc_new (k := 32) (pc := 30) (dAt dtX1_init 15 rfl) q184 q185 q131 (by decide) o121 o122 (wc_hp eh125 (wc_vr er124 (wc_dup (pc := 33) (dAt dtX1_init 16 rfl) rfl (wc_callI (y' := tJ2_init) (av := []) (st := [vR r124, vR r0]) (pc := 34) (dAt dtX1_init 17 rfl) lkX1_271 moJ2_init q187 rfl q188 (k0_at er124 n123) rfl rfl (Nat.le_of_ble_eq_true rfl) (wJ2_init hg hm) (kr_N (fun h126 hm => ?_)) (kx_N rfl)))))))))))))))))))))))))))))))))
  obtain ⟨o127, hm⟩ := hm
  obtain ⟨h128, eh128⟩ : ∃ h128 : Hp, h128 = sR h126 r0 4 r124 := ⟨_, rfl⟩
  replace hm := hm h128 eh128
  obtain ⟨o129, o130, hm⟩ := hm
  obtain ⟨r132, er132⟩ : ∃ r132 : Nat, r132 = hn h128 := ⟨_, rfl⟩
  replace hm := hm r132 er132
  obtain ⟨h133, eh133⟩ : ∃ h133 : Hp, h133 = nw h128 32 0 3 := ⟨_, rfl⟩
  replace hm := hm h133 eh133
  refine wc_putR (pc := 37) (dAt dtX1_init 18 rfl) flX1_12_1 (Or.inr ⟨rfl, rfl, rfl⟩) rfl o127 o101 (fun z => absurd (z.symm.trans hg) (by decide)) (wc_hp eh128 (wc_aload_n (pc := 40) (dAt dtX1_init 19 rfl) rfl (wc_k0 fun n131 => (wc_new (k := 32) (pc := 41) (dAt dtX1_init 20 rfl) q184 q185 q131 (by decide) o129 o130 (wc_hp eh133 (wc_vr er132 (wc_dup (pc := 44) (dAt dtX1_init 21 rfl) rfl (wc_callI (y' := tJ2_init) (av := []) (st := [vR r132, vR r0]) (pc := 45) (dAt dtX1_init 22 rfl) lkX1_271 moJ2_init q187 rfl q188 (k0_at er132 n131) rfl rfl (Nat.le_of_ble_eq_true rfl) (wJ2_init hg hm) (kr_N (fun h134 hm => ?_)) (kx_N rfl)))))))))
  obtain ⟨o135, hm⟩ := hm
  obtain ⟨h136, eh136⟩ : ∃ h136 : Hp, h136 = sR h134 r0 5 r132 := ⟨_, rfl⟩
  replace hm := hm h136 eh136
  obtain ⟨o137, o138, hm⟩ := hm
  obtain ⟨r140, er140⟩ : ∃ r140 : Nat, r140 = hn h136 := ⟨_, rfl⟩
  replace hm := hm r140 er140
  obtain ⟨h141, eh141⟩ : ∃ h141 : Hp, h141 = nw h136 32 0 3 := ⟨_, rfl⟩
  replace hm := hm h141 eh141
  refine wc_putR (pc := 48) (dAt dtX1_init 23 rfl) flX1_272_1 (Or.inr ⟨rfl, rfl, rfl⟩) rfl o135 o101 (fun z => absurd (z.symm.trans hg) (by decide)) (wc_hp eh136 (wc_aload_n (pc := 51) (dAt dtX1_init 24 rfl) rfl (wc_k0 fun n139 => (wc_new (k := 32) (pc := 52) (dAt dtX1_init 25 rfl) q184 q185 q131 (by decide) o137 o138 (wc_hp eh141 (wc_vr er140 (wc_dup (pc := 55) (dAt dtX1_init 26 rfl) rfl (wc_callI (y' := tJ2_init) (av := []) (st := [vR r140, vR r0]) (pc := 56) (dAt dtX1_init 27 rfl) lkX1_271 moJ2_init q187 rfl q188 (k0_at er140 n139) rfl rfl (Nat.le_of_ble_eq_true rfl) (wJ2_init hg hm) (kr_N (fun h142 hm => ?_)) (kx_N rfl)))))))))
  obtain ⟨o143, hm⟩ := hm
  obtain ⟨h144, eh144⟩ : ∃ h144 : Hp, h144 = sR h142 r0 6 r140 := ⟨_, rfl⟩
  replace hm := hm h144 eh144
  obtain ⟨o145, o146, hm⟩ := hm
  obtain ⟨r148, er148⟩ : ∃ r148 : Nat, r148 = hn h144 := ⟨_, rfl⟩
  replace hm := hm r148 er148
  obtain ⟨h149, eh149⟩ : ∃ h149 : Hp, h149 = nw h144 32 0 3 := ⟨_, rfl⟩
  replace hm := hm h149 eh149
  refine wc_putR (pc := 59) (dAt dtX1_init 28 rfl) flX1_158_1 (Or.inr ⟨rfl, rfl, rfl⟩) rfl o143 o101 (fun z => absurd (z.symm.trans hg) (by decide)) (wc_hp eh144 (wc_aload_n (pc := 62) (dAt dtX1_init 29 rfl) rfl (wc_k0 fun n147 => (wc_new (k := 32) (pc := 63) (dAt dtX1_init 30 rfl) q184 q185 q131 (by decide) o145 o146 (wc_hp eh149 (wc_vr er148 (wc_dup (pc := 66) (dAt dtX1_init 31 rfl) rfl (wc_callI (y' := tJ2_init) (av := []) (st := [vR r148, vR r0]) (pc := 67) (dAt dtX1_init 32 rfl) lkX1_271 moJ2_init q187 rfl q188 (k0_at er148 n147) rfl rfl (Nat.le_of_ble_eq_true rfl) (wJ2_init hg hm) (kr_N (fun h150 hm => ?_)) (kx_N rfl)))))))))
  obtain ⟨o151, hm⟩ := hm
  obtain ⟨h152, eh152⟩ : ∃ h152 : Hp, h152 = sR h150 r0 7 r148 := ⟨_, rfl⟩
  replace hm := hm h152 eh152
  obtain ⟨o153, o154, hm⟩ := hm
  obtain ⟨r156, er156⟩ : ∃ r156 : Nat, r156 = hn h152 := ⟨_, rfl⟩
  replace hm := hm r156 er156
  obtain ⟨h157, eh157⟩ : ∃ h157 : Hp, h157 = nw h152 32 0 3 := ⟨_, rfl⟩
  replace hm := hm h157 eh157
  refine wc_putR (pc := 70) (dAt dtX1_init 33 rfl) flX1_40_1 (Or.inr ⟨rfl, rfl, rfl⟩) rfl o151 o101 (fun z => absurd (z.symm.trans hg) (by decide)) (wc_hp eh152 (wc_aload_n (pc := 73) (dAt dtX1_init 34 rfl) rfl (wc_k0 fun n155 => (wc_new (k := 32) (pc := 74) (dAt dtX1_init 35 rfl) q184 q185 q131 (by decide) o153 o154 (wc_hp eh157 (wc_vr er156 (wc_dup (pc := 77) (dAt dtX1_init 36 rfl) rfl (wc_callI (y' := tJ2_init) (av := []) (st := [vR r156, vR r0]) (pc := 78) (dAt dtX1_init 37 rfl) lkX1_271 moJ2_init q187 rfl q188 (k0_at er156 n155) rfl rfl (Nat.le_of_ble_eq_true rfl) (wJ2_init hg hm) (kr_N (fun h158 hm => ?_)) (kx_N rfl)))))))))
  obtain ⟨o159, hm⟩ := hm
  obtain ⟨h160, eh160⟩ : ∃ h160 : Hp, h160 = sR h158 r0 8 r156 := ⟨_, rfl⟩
  replace hm := hm h160 eh160
  obtain ⟨o161, o162, hm⟩ := hm
  obtain ⟨r164, er164⟩ : ∃ r164 : Nat, r164 = hn h160 := ⟨_, rfl⟩
  replace hm := hm r164 er164
  obtain ⟨h165, eh165⟩ : ∃ h165 : Hp, h165 = nw h160 32 0 3 := ⟨_, rfl⟩
  replace hm := hm h165 eh165
  refine wc_putR (pc := 81) (dAt dtX1_init 38 rfl) flX1_275_1 (Or.inr ⟨rfl, rfl, rfl⟩) rfl o159 o101 (fun z => absurd (z.symm.trans hg) (by decide)) (wc_hp eh160 (wc_aload_n (pc := 84) (dAt dtX1_init 39 rfl) rfl (wc_k0 fun n163 => (wc_new (k := 32) (pc := 85) (dAt dtX1_init 40 rfl) q184 q185 q131 (by decide) o161 o162 (wc_hp eh165 (wc_vr er164 (wc_dup (pc := 88) (dAt dtX1_init 41 rfl) rfl (wc_callI (y' := tJ2_init) (av := []) (st := [vR r164, vR r0]) (pc := 89) (dAt dtX1_init 42 rfl) lkX1_271 moJ2_init q187 rfl q188 (k0_at er164 n163) rfl rfl (Nat.le_of_ble_eq_true rfl) (wJ2_init hg hm) (kr_N (fun h166 hm => ?_)) (kx_N rfl)))))))))
  obtain ⟨o167, hm⟩ := hm
  obtain ⟨h168, eh168⟩ : ∃ h168 : Hp, h168 = sR h166 r0 9 r164 := ⟨_, rfl⟩
  replace hm := hm h168 eh168
  obtain ⟨o169, o170, hm⟩ := hm
  obtain ⟨r172, er172⟩ : ∃ r172 : Nat, r172 = hn h168 := ⟨_, rfl⟩
  replace hm := hm r172 er172
  obtain ⟨h173, eh173⟩ : ∃ h173 : Hp, h173 = nw h168 32 0 3 := ⟨_, rfl⟩
  replace hm := hm h173 eh173
  refine wc_putR (pc := 92) (dAt dtX1_init 43 rfl) flX1_81_1 (Or.inr ⟨rfl, rfl, rfl⟩) rfl o167 o101 (fun z => absurd (z.symm.trans hg) (by decide)) (wc_hp eh168 (wc_aload_n (pc := 95) (dAt dtX1_init 44 rfl) rfl (wc_k0 fun n171 => (wc_new (k := 32) (pc := 96) (dAt dtX1_init 45 rfl) q184 q185 q131 (by decide) o169 o170 (wc_hp eh173 (wc_vr er172 (wc_dup (pc := 99) (dAt dtX1_init 46 rfl) rfl (wc_callI (y' := tJ2_init) (av := []) (st := [vR r172, vR r0]) (pc := 100) (dAt dtX1_init 47 rfl) lkX1_271 moJ2_init q187 rfl q188 (k0_at er172 n171) rfl rfl (Nat.le_of_ble_eq_true rfl) (wJ2_init hg hm) (kr_N (fun h174 hm => ?_)) (kx_N rfl)))))))))
  obtain ⟨o175, hm⟩ := hm
  obtain ⟨h176, eh176⟩ : ∃ h176 : Hp, h176 = sR h174 r0 10 r172 := ⟨_, rfl⟩
  replace hm := hm h176 eh176
  obtain ⟨o177, o178, hm⟩ := hm
  obtain ⟨r180, er180⟩ : ∃ r180 : Nat, r180 = hn h176 := ⟨_, rfl⟩
  replace hm := hm r180 er180
  obtain ⟨h181, eh181⟩ : ∃ h181 : Hp, h181 = nw h176 32 0 3 := ⟨_, rfl⟩
  replace hm := hm h181 eh181
  refine wc_putR (pc := 103) (dAt dtX1_init 48 rfl) flX1_278_1 (Or.inr ⟨rfl, rfl, rfl⟩) rfl o175 o101 (fun z => absurd (z.symm.trans hg) (by decide)) (wc_hp eh176 (wc_aload_n (pc := 106) (dAt dtX1_init 49 rfl) rfl (wc_k0 fun n179 => (wc_new (k := 32) (pc := 107) (dAt dtX1_init 50 rfl) q184 q185 q131 (by decide) o177 o178 (wc_hp eh181 (wc_vr er180 (wc_dup (pc := 110) (dAt dtX1_init 51 rfl) rfl (wc_callI (y' := tJ2_init) (av := []) (st := [vR r180, vR r0]) (pc := 111) (dAt dtX1_init 52 rfl) lkX1_271 moJ2_init q187 rfl q188 (k0_at er180 n179) rfl rfl (Nat.le_of_ble_eq_true rfl) (wJ2_init hg hm) (kr_N (fun h182 hm => ?_)) (kx_N rfl)))))))))
  obtain ⟨o183, hm⟩ := hm
  obtain ⟨h184, eh184⟩ : ∃ h184 : Hp, h184 = sR h182 r0 11 r180 := ⟨_, rfl⟩
  replace hm := hm h184 eh184
  obtain ⟨o185, o186, hm⟩ := hm
  obtain ⟨r188, er188⟩ : ∃ r188 : Nat, r188 = hn h184 := ⟨_, rfl⟩
  replace hm := hm r188 er188
  obtain ⟨h189, eh189⟩ : ∃ h189 : Hp, h189 = nw h184 32 0 3 := ⟨_, rfl⟩
  replace hm := hm h189 eh189
  refine wc_putR (pc := 114) (dAt dtX1_init 53 rfl) flX1_281_1 (Or.inr ⟨rfl, rfl, rfl⟩) rfl o183 o101 (fun z => absurd (z.symm.trans hg) (by decide)) (wc_hp eh184 (wc_aload_n (pc := 117) (dAt dtX1_init 54 rfl) rfl (wc_k0 fun n187 => (wc_new (k := 32) (pc := 118) (dAt dtX1_init 55 rfl) q184 q185 q131 (by decide) o185 o186 (wc_hp eh189 (wc_vr er188 (wc_dup (pc := 121) (dAt dtX1_init 56 rfl) rfl (wc_callI (y' := tJ2_init) (av := []) (st := [vR r188, vR r0]) (pc := 122) (dAt dtX1_init 57 rfl) lkX1_271 moJ2_init q187 rfl q188 (k0_at er188 n187) rfl rfl (Nat.le_of_ble_eq_true rfl) (wJ2_init hg hm) (kr_N (fun h190 hm => ?_)) (kx_N rfl)))))))))
  obtain ⟨o191, hm⟩ := hm
  obtain ⟨h192, eh192⟩ : ∃ h192 : Hp, h192 = sR h190 r0 12 r188 := ⟨_, rfl⟩
  replace hm := hm h192 eh192
  obtain ⟨o193, o194, hm⟩ := hm
  obtain ⟨r196, er196⟩ : ∃ r196 : Nat, r196 = hn h192 := ⟨_, rfl⟩
  replace hm := hm r196 er196
  obtain ⟨h197, eh197⟩ : ∃ h197 : Hp, h197 = nw h192 32 0 3 := ⟨_, rfl⟩
  replace hm := hm h197 eh197
  refine wc_putR (pc := 125) (dAt dtX1_init 58 rfl) flX1_179_1 (Or.inr ⟨rfl, rfl, rfl⟩) rfl o191 o101 (fun z => absurd (z.symm.trans hg) (by decide)) (wc_hp eh192 (wc_aload_n (pc := 128) (dAt dtX1_init 59 rfl) rfl (wc_k0 fun n195 => (wc_new (k := 32) (pc := 129) (dAt dtX1_init 60 rfl) q184 q185 q131 (by decide) o193 o194 (wc_hp eh197 (wc_vr er196 (wc_dup (pc := 132) (dAt dtX1_init 61 rfl) rfl (wc_callI (y' := tJ2_init) (av := []) (st := [vR r196, vR r0]) (pc := 133) (dAt dtX1_init 62 rfl) lkX1_271 moJ2_init q187 rfl q188 (k0_at er196 n195) rfl rfl (Nat.le_of_ble_eq_true rfl) (wJ2_init hg hm) (kr_N (fun h198 hm => ?_)) (kx_N rfl)))))))))
  obtain ⟨o199, hm⟩ := hm
  obtain ⟨h200, eh200⟩ : ∃ h200 : Hp, h200 = sR h198 r0 13 r196 := ⟨_, rfl⟩
  replace hm := hm h200 eh200
  obtain ⟨o201, o202, hm⟩ := hm
  obtain ⟨r204, er204⟩ : ∃ r204 : Nat, r204 = hn h200 := ⟨_, rfl⟩
  replace hm := hm r204 er204
  obtain ⟨h205, eh205⟩ : ∃ h205 : Hp, h205 = nw h200 32 0 3 := ⟨_, rfl⟩
  replace hm := hm h205 eh205
  refine wc_putR (pc := 136) (dAt dtX1_init 63 rfl) flX1_284_1 (Or.inr ⟨rfl, rfl, rfl⟩) rfl o199 o101 (fun z => absurd (z.symm.trans hg) (by decide)) (wc_hp eh200 (wc_aload_n (pc := 139) (dAt dtX1_init 64 rfl) rfl (wc_k0 fun n203 => (wc_new (k := 32) (pc := 140) (dAt dtX1_init 65 rfl) q184 q185 q131 (by decide) o201 o202 (wc_hp eh205 (wc_vr er204 (wc_dup (pc := 143) (dAt dtX1_init 66 rfl) rfl (wc_callI (y' := tJ2_init) (av := []) (st := [vR r204, vR r0]) (pc := 144) (dAt dtX1_init 67 rfl) lkX1_271 moJ2_init q187 rfl q188 (k0_at er204 n203) rfl rfl (Nat.le_of_ble_eq_true rfl) (wJ2_init hg hm) (kr_N (fun h206 hm => ?_)) (kx_N rfl)))))))))
  obtain ⟨o207, hm⟩ := hm
  obtain ⟨h208, eh208⟩ : ∃ h208 : Hp, h208 = sR h206 r0 14 r204 := ⟨_, rfl⟩
  replace hm := hm h208 eh208
  obtain ⟨o209, o210, hm⟩ := hm
  obtain ⟨r212, er212⟩ : ∃ r212 : Nat, r212 = hn h208 := ⟨_, rfl⟩
  replace hm := hm r212 er212
  obtain ⟨h213, eh213⟩ : ∃ h213 : Hp, h213 = nw h208 71 800 800 := ⟨_, rfl⟩
  replace hm := hm h213 eh213
  obtain ⟨h214, eh214⟩ : ∃ h214 : Hp, h214 = sR h213 r0 15 r212 := ⟨_, rfl⟩
  replace hm := hm h214 eh214
  obtain ⟨o215, o216, hm⟩ := hm
  obtain ⟨r218, er218⟩ : ∃ r218 : Nat, r218 = hn h214 := ⟨_, rfl⟩
  replace hm := hm r218 er218
  obtain ⟨h219, eh219⟩ : ∃ h219 : Hp, h219 = nw h214 2 0 5 := ⟨_, rfl⟩
  replace hm := hm h219 eh219
  refine wc_putR (pc := 147) (dAt dtX1_init 68 rfl) flX1_287_1 (Or.inr ⟨rfl, rfl, rfl⟩) rfl o207 o101 (fun z => absurd (z.symm.trans hg) (by decide)) (wc_hp eh208 (wc_aload_n (pc := 150) (dAt dtX1_init 69 rfl) rfl (wc_sipush (pc := 151) (dAt dtX1_init 70 rfl) ⟨by decide, by decide, by decide⟩ (wc_k0 fun n211 => (wc_newarr (t := 71) (pc := 154) (dAt dtX1_init 71 rfl) rfl ⟨by decide, by decide⟩ q242 (by decide) (by decide) o209 o210 (wc_hp eh213 (wc_vr er212 (wc_putR (pc := 156) (dAt dtX1_init 72 rfl) flX1_290_1 (Or.inr ⟨rfl, rfl, rfl⟩) rfl (ob_nw eh213 (ob_sR eh208 o207)) o101 (fun z => absurd (z.symm.trans hg) (by decide)) (wc_hp eh214 (wc_aload_n (pc := 159) (dAt dtX1_init 73 rfl) rfl (wc_k0 fun n217 => (wc_new (k := 2) (pc := 160) (dAt dtX1_init 74 rfl) q211 q212 q132 (by decide) o215 o216 (wc_hp eh219 (wc_vr er218 (wc_dup (pc := 163) (dAt dtX1_init 75 rfl) rfl (wc_callI (y' := tX2_init) (av := []) (st := [vR r218, vR r0]) (pc := 164) (dAt dtX1_init 76 rfl) lkX1_294 moX2_init q214 rfl q215 (k0_at er218 n217) rfl rfl (Nat.le_of_ble_eq_true rfl) (wX2_init hg hm) (kr_N (fun h220 hm => ?_)) (kx_N rfl)))))))))))))))))
  obtain ⟨o221, hm⟩ := hm
  obtain ⟨h222, eh222⟩ : ∃ h222 : Hp, h222 = sR h220 r0 16 r218 := ⟨_, rfl⟩
  replace hm := hm h222 eh222
  obtain ⟨o223, o224, hm⟩ := hm
  obtain ⟨r226, er226⟩ : ∃ r226 : Nat, r226 = hn h222 := ⟨_, rfl⟩
  replace hm := hm r226 er226
  obtain ⟨h227, eh227⟩ : ∃ h227 : Hp, h227 = nw h222 3 0 3 := ⟨_, rfl⟩
  replace hm := hm h227 eh227
  refine wc_putR (pc := 167) (dAt dtX1_init 77 rfl) flX1_36_1 (Or.inr ⟨rfl, rfl, rfl⟩) rfl o221 o101 (fun z => absurd (z.symm.trans hg) (by decide)) (wc_hp eh222 (wc_aload_n (pc := 170) (dAt dtX1_init 78 rfl) rfl (wc_k0 fun n225 => (wc_new (k := 3) (pc := 171) (dAt dtX1_init 79 rfl) q243 q244 q133 (by decide) o223 o224 (wc_hp eh227 (wc_vr er226 (wc_dup (pc := 174) (dAt dtX1_init 80 rfl) rfl (wc_callI (y' := tX3_init) (av := []) (st := [vR r226, vR r0]) (pc := 175) (dAt dtX1_init 81 rfl) lkX1_295 moX3_init q246 rfl q247 (k0_at er226 n225) rfl rfl (Nat.le_of_ble_eq_true rfl) (wX3_init hg hm) (kr_N (fun h228 hm => ?_)) (kx_N rfl)))))))))
  obtain ⟨o229, hm⟩ := hm
  obtain ⟨h230, eh230⟩ : ∃ h230 : Hp, h230 = sR h228 r0 17 r226 := ⟨_, rfl⟩
  replace hm := hm h230 eh230
  obtain ⟨o231, o232, hm⟩ := hm
  obtain ⟨r234, er234⟩ : ∃ r234 : Nat, r234 = hn h230 := ⟨_, rfl⟩
  replace hm := hm r234 er234
  obtain ⟨h235, eh235⟩ : ∃ h235 : Hp, h235 = nw h230 70 8 8 := ⟨_, rfl⟩
  replace hm := hm h235 eh235
  obtain ⟨h236, eh236⟩ : ∃ h236 : Hp, h236 = sR h235 r0 18 r234 := ⟨_, rfl⟩
  replace hm := hm h236 eh236
  obtain ⟨o237, o238, hm⟩ := hm
  obtain ⟨r240, er240⟩ : ∃ r240 : Nat, r240 = hn h236 := ⟨_, rfl⟩
  replace hm := hm r240 er240
  obtain ⟨h241, eh241⟩ : ∃ h241 : Hp, h241 = nw h236 76 60 60 := ⟨_, rfl⟩
  replace hm := hm h241 eh241
  obtain ⟨h242, eh242⟩ : ∃ h242 : Hp, h242 = sR h241 r0 19 r240 := ⟨_, rfl⟩
  replace hm := hm h242 eh242
  obtain ⟨h243, eh243⟩ : ∃ h243 : Hp, h243 = sI h242 r0 22 (-1) := ⟨_, rfl⟩
  replace hm := hm h243 eh243
  obtain ⟨h244, eh244⟩ : ∃ h244 : Hp, h244 = sI h243 r0 24 (-1) := ⟨_, rfl⟩
  replace hm := hm h244 eh244
  obtain ⟨h245, eh245⟩ : ∃ h245 : Hp, h245 = sI h244 r0 25 (-1) := ⟨_, rfl⟩
  replace hm := hm h245 eh245
  exact wc_putR (pc := 178) (dAt dtX1_init 82 rfl) flX1_49_1 (Or.inr ⟨rfl, rfl, rfl⟩) rfl o229 o101 (fun z => absurd (z.symm.trans hg) (by decide)) (wc_hp eh230 (wc_aload_n (pc := 181) (dAt dtX1_init 83 rfl) rfl (wc_bipush (pc := 182) (dAt dtX1_init 84 rfl) ⟨by decide, by decide, by decide⟩ (wc_k0 fun n233 => (wc_newarr (t := 70) (pc := 184) (dAt dtX1_init 85 rfl) rfl ⟨by decide, by decide⟩ q210 (by decide) (by decide) o231 o232 (wc_hp eh235 (wc_vr er234 (wc_putR (pc := 186) (dAt dtX1_init 86 rfl) flX1_296_1 (Or.inr ⟨rfl, rfl, rfl⟩) rfl (ob_nw eh235 (ob_sR eh230 o229)) o101 (fun z => absurd (z.symm.trans hg) (by decide)) (wc_hp eh236 (wc_aload_n (pc := 189) (dAt dtX1_init 87 rfl) rfl (wc_bipush (pc := 190) (dAt dtX1_init 88 rfl) ⟨by decide, by decide, by decide⟩ (wc_k0 fun n239 => (wc_anewarr (t := 76) (pc := 192) (dAt dtX1_init 89 rfl) ⟨by decide, by decide⟩ rfl q266 q267 (by decide) (by decide) o237 o238 (wc_hp eh241 (wc_vr er240 (wc_putR (pc := 195) (dAt dtX1_init 90 rfl) flX1_301_1 (Or.inr ⟨rfl, rfl, rfl⟩) rfl (ob_nw eh241 (ob_sR eh236 (ob_nw eh235 (ob_sR eh230 o229)))) o101 (fun z => absurd (z.symm.trans hg) (by decide)) (wc_hp eh242 (wc_aload_n (pc := 198) (dAt dtX1_init 91 rfl) rfl (wc_iconst (pc := 199) (dAt dtX1_init 92 rfl) ⟨by decide, by decide⟩ (wc_putI (pc := 200) (dAt dtX1_init 93 rfl) flX1_305_1 (Or.inl rfl) rfl (ob_sR eh242 (ob_nw eh241 (ob_sR eh236 (ob_nw eh235 (ob_sR eh230 o229))))) o101 (okI_int _) (wc_hp eh243 (wc_aload_n (pc := 203) (dAt dtX1_init 94 rfl) rfl (wc_iconst (pc := 204) (dAt dtX1_init 95 rfl) ⟨by decide, by decide⟩ (wc_putI (pc := 205) (dAt dtX1_init 96 rfl) flX1_308_1 (Or.inl rfl) rfl (ob_sI eh243 (ob_sR eh242 (ob_nw eh241 (ob_sR eh236 (ob_nw eh235 (ob_sR eh230 o229)))))) o101 (okI_int _) (wc_hp eh244 (wc_aload_n (pc := 208) (dAt dtX1_init 97 rfl) rfl (wc_iconst (pc := 209) (dAt dtX1_init 98 rfl) ⟨by decide, by decide⟩ (wc_putI (pc := 210) (dAt dtX1_init 99 rfl) flX1_311_1 (Or.inl rfl) rfl (ob_sI eh244 (ob_sI eh243 (ob_sR eh242 (ob_nw eh241 (ob_sR eh236 (ob_nw eh235 (ob_sR eh230 o229))))))) o101 (okI_int _) (wc_hp eh245 (wc_vret (pc := 213) (dAt dtX1_init 100 rfl) rfl hm))))))))))))))))))))))))))))))
