set_option maxRecDepth 100000
set_option maxHeartbeats 1000000
/-! what methods do, and their walks, by program -/
def tX4_isLetter : Mt := (⟨"FlyingDoctorsModel", "isLetter", "(I)Z"⟩, prog_24_method_19_code, 1, (Option.some Jvm.ClassFile.FieldType.boolean), [])
def DX4_isLetter : List (Nat × Instr × Nat) := [(0, .iload_n 0, 1), (1, .bipush 97, 2), (3, .if_icmp .lt 13, 3), (6, .iload_n 0, 1), (7, .bipush 122, 2), (9, .if_icmp .gt 7, 3), (12, .iconst 1, 1), (13, .goto 4, 3), (16, .iconst 0, 1), (17, .ireturn, 1)]
theorem dtX4_isLetter : chkD (mB tX4_isLetter) DX4_isLetter = true := by decide +kernel
theorem moX4_isLetter : MethOk tX4_isLetter 1 := ⟨Or.inl ⟨rfl, q2546⟩, by decide +kernel, ⟨by decide, by decide⟩, by decide +kernel⟩
def vX4_isLetter (x0 : Int) (h : Hp) : Int := (b2i (¬ (x0 < 97) ∧ (¬ (122 < x0))))
theorem wX4_isLetter {G : Gx} (hg : gF G = true) {d : Nat} {x0 : Int} {h : Hp} {Q : Rs → Hp → Prop} (hq : Q (rV (vI (vX4_isLetter x0 h))) h) : Ct G tX4_isLetter (d + 0) [vI x0] h Q := by
  refine ct_enter (L0 := [some (vI x0)]) rfl rfl ?_
  have k101 : (¬ (x0 < 97) ∧ (¬ (122 < x0))) → Wc G tX4_isLetter (d + 0) h Q 12 [some (vI x0)] [] h := fun c103 => by
    have z : Q (rV (vI 1)) h := by
      rw [show (vX4_isLetter x0 h) = 1 from (b2i_t c103)] at hq
      exact hq
    exact wc_iconst (pc := 12) (dAt dtX4_isLetter 6 rfl) ⟨by decide, by decide⟩ (wc_goto (pc := 13) (tgt := 17) (dAt dtX4_isLetter 7 rfl) (by decide) (wc_iret (pc := 17) (dAt dtX4_isLetter 9 rfl) rfl (nar_bool (Or.inr rfl)) z))
  have k102 : ¬ (¬ (x0 < 97) ∧ (¬ (122 < x0))) → Wc G tX4_isLetter (d + 0) h Q 16 [some (vI x0)] [] h := fun c103 => by
    have z : Q (rV (vI 0)) h := by
      rw [show (vX4_isLetter x0 h) = 0 from (b2i_f c103)] at hq
      exact hq
    exact wc_iconst (pc := 16) (dAt dtX4_isLetter 8 rfl) ⟨by decide, by decide⟩ (wc_iret (pc := 17) (dAt dtX4_isLetter 9 rfl) rfl (nar_bool (Or.inl rfl)) z)
  exact wc_iload_n (pc := 0) (dAt dtX4_isLetter 0 rfl) rfl (wc_bipush (pc := 1) (dAt dtX4_isLetter 1 rfl) ⟨by decide, by decide, by decide⟩ (wc_icmp_lt (pc := 3) (tgt := 16) (dAt dtX4_isLetter 2 rfl) (by decide) (fun c104 => (k102 (fun z => z.1 c104))) (fun c104 => wc_iload_n (pc := 6) (dAt dtX4_isLetter 3 rfl) rfl (wc_bipush (pc := 7) (dAt dtX4_isLetter 4 rfl) ⟨by decide, by decide, by decide⟩ (wc_icmp_gt (pc := 9) (tgt := 16) (dAt dtX4_isLetter 5 rfl) (by decide) (fun c105 => (k102 (fun z => (fun z => z c105) z.2))) (fun c105 => (k101 ⟨c104, c105⟩)))))))
theorem bX4_isLetter (x0 : Int) (h : Hp) : (vX4_isLetter x0 h) = 0 ∨ (vX4_isLetter x0 h) = 1 := (bool_b2i _)
def tX4_isDigit : Mt := (⟨"FlyingDoctorsModel", "isDigit", "(I)Z"⟩, prog_24_method_20_code, 1, (Option.some Jvm.ClassFile.FieldType.boolean), [])
def DX4_isDigit : List (Nat × Instr × Nat) := [(0, .iload_n 0, 1), (1, .bipush 48, 2), (3, .if_icmp .lt 13, 3), (6, .iload_n 0, 1), (7, .bipush 57, 2), (9, .if_icmp .gt 7, 3), (12, .iconst 1, 1), (13, .goto 4, 3), (16, .iconst 0, 1), (17, .ireturn, 1)]
theorem dtX4_isDigit : chkD (mB tX4_isDigit) DX4_isDigit = true := by decide +kernel
theorem moX4_isDigit : MethOk tX4_isDigit 1 := ⟨Or.inl ⟨rfl, q2549⟩, by decide +kernel, ⟨by decide, by decide⟩, by decide +kernel⟩
def vX4_isDigit (x0 : Int) (h : Hp) : Int := (b2i (¬ (x0 < 48) ∧ (¬ (57 < x0))))
theorem wX4_isDigit {G : Gx} (hg : gF G = true) {d : Nat} {x0 : Int} {h : Hp} {Q : Rs → Hp → Prop} (hq : Q (rV (vI (vX4_isDigit x0 h))) h) : Ct G tX4_isDigit (d + 0) [vI x0] h Q := by
  refine ct_enter (L0 := [some (vI x0)]) rfl rfl ?_
  have k101 : (¬ (x0 < 48) ∧ (¬ (57 < x0))) → Wc G tX4_isDigit (d + 0) h Q 12 [some (vI x0)] [] h := fun c103 => by
    have z : Q (rV (vI 1)) h := by
      rw [show (vX4_isDigit x0 h) = 1 from (b2i_t c103)] at hq
      exact hq
    exact wc_iconst (pc := 12) (dAt dtX4_isDigit 6 rfl) ⟨by decide, by decide⟩ (wc_goto (pc := 13) (tgt := 17) (dAt dtX4_isDigit 7 rfl) (by decide) (wc_iret (pc := 17) (dAt dtX4_isDigit 9 rfl) rfl (nar_bool (Or.inr rfl)) z))
  have k102 : ¬ (¬ (x0 < 48) ∧ (¬ (57 < x0))) → Wc G tX4_isDigit (d + 0) h Q 16 [some (vI x0)] [] h := fun c103 => by
    have z : Q (rV (vI 0)) h := by
      rw [show (vX4_isDigit x0 h) = 0 from (b2i_f c103)] at hq
      exact hq
    exact wc_iconst (pc := 16) (dAt dtX4_isDigit 8 rfl) ⟨by decide, by decide⟩ (wc_iret (pc := 17) (dAt dtX4_isDigit 9 rfl) rfl (nar_bool (Or.inl rfl)) z)
  exact wc_iload_n (pc := 0) (dAt dtX4_isDigit 0 rfl) rfl (wc_bipush (pc := 1) (dAt dtX4_isDigit 1 rfl) ⟨by decide, by decide, by decide⟩ (wc_icmp_lt (pc := 3) (tgt := 16) (dAt dtX4_isDigit 2 rfl) (by decide) (fun c104 => (k102 (fun z => z.1 c104))) (fun c104 => wc_iload_n (pc := 6) (dAt dtX4_isDigit 3 rfl) rfl (wc_bipush (pc := 7) (dAt dtX4_isDigit 4 rfl) ⟨by decide, by decide, by decide⟩ (wc_icmp_gt (pc := 9) (tgt := 16) (dAt dtX4_isDigit 5 rfl) (by decide) (fun c105 => (k102 (fun z => (fun z => z c105) z.2))) (fun c105 => (k101 ⟨c104, c105⟩)))))))
theorem bX4_isDigit (x0 : Int) (h : Hp) : (vX4_isDigit x0 h) = 0 ∨ (vX4_isDigit x0 h) = 1 := (bool_b2i _)
def tX4_goes : Mt := (⟨"FlyingDoctorsModel", "goes", "()V"⟩, prog_24_method_21_code, 2, (Option.none : Option Jvm.ClassFile.FieldType), [])
def DX4_goes_c0 : List (Nat × Instr × Nat) := [(0, .aload_n 0, 1), (1, .getfield 97, 3), (4, .aload_n 0, 1), (5, .getfield 94, 3), (8, .if_icmp .ge 42, 3), (11, .aload_n 0, 1), (12, .aload_n 0, 1), (13, .getfield 97, 3), (16, .invokevirtual 100, 3), (19, .bipush 32, 2), (21, .if_icmp .eq 16, 3), (24, .aload_n 0, 1), (25, .aload_n 0, 1), (26, .getfield 97, 3), (29, .invokevirtual 100, 3), (32, .bipush 10, 2), (34, .if_icmp .ne 16, 3), (37, .aload_n 0, 1), (38, .dup, 1), (39, .getfield 97, 3), (42, .iconst 1, 1), (43, .iadd, 1), (44, .putfield 97, 3), (47, .goto (-47), 3), (50, .aload_n 0, 1), (51, .aload_n 0, 1), (52, .getfield 97, 3), (55, .putfield 103, 3), (58, .aload_n 0, 1), (59, .lconst 0, 1), (60, .putfield 106, 3), (63, .aload_n 0, 1), (64, .iconst 0, 1), (65, .putfield 110, 3), (68, .aload_n 0, 1), (69, .aload_n 0, 1), (70, .getfield 97, 3), (73, .invokevirtual 100, 3), (76, .istore_n 1, 1), (77, .aload_n 0, 1), (78, .iload_n 1, 1), (79, .putfield 113, 3), (82, .aload_n 0, 1), (83, .getfield 97, 3), (86, .aload_n 0, 1), (87, .getfield 94, 3), (90, .if_icmp .lt 11, 3), (93, .aload_n 0, 1), (94, .iconst 0, 1), (95, .putfield 116, 3), (98, .goto 233, 3), (101, .iload_n 1, 1), (102, .invokestatic 119, 3), (105, .ifCond .eq 75, 3), (108, .aload_n 0, 1), (109, .aload_n 0, 1), (110, .getfield 97, 3), (113, .invokevirtual 100, 3), (116, .invokestatic 119, 3), (119, .ifCond .eq 53, 3), (122, .aload_n 0, 1), (123, .getfield 97, 3), (126, .aload_n 0, 1), (127, .getfield 103, 3)]
theorem dtX4_goes_c0 : chkD (mB tX4_goes) DX4_goes_c0 = true := by decide +kernel
def DX4_goes_c1 : List (Nat × Instr × Nat) := [(130, .isub, 1), (131, .bipush 9, 2), (133, .if_icmp .ge 26, 3), (136, .aload_n 0, 1), (137, .aload_n 0, 1), (138, .getfield 106, 3), (141, .iconst 5, 1), (142, .lshl, 1), (143, .aload_n 0, 1), (144, .aload_n 0, 1), (145, .getfield 97, 3), (148, .invokevirtual 100, 3), (151, .bipush 96, 2), (153, .isub, 1), (154, .i2l, 1), (155, .lor, 1), (156, .putfield 106, 3), (159, .aload_n 0, 1), (160, .dup, 1), (161, .getfield 97, 3), (164, .iconst 1, 1), (165, .iadd, 1), (166, .putfield 97, 3), (169, .goto (-61), 3), (172, .aload_n 0, 1), (173, .iconst 1, 1), (174, .putfield 116, 3), (177, .goto 154, 3), (180, .iload_n 1, 1), (181, .invokestatic 122, 3), (184, .ifCond .eq 74, 3), (187, .aload_n 0, 1), (188, .aload_n 0, 1), (189, .getfield 97, 3), (192, .invokevirtual 100, 3), (195, .invokestatic 122, 3), (198, .ifCond .eq 52, 3), (201, .aload_n 0, 1), (202, .getfield 97, 3), (205, .aload_n 0, 1), (206, .getfield 103, 3), (209, .isub, 1), (210, .iconst 5, 1), (211, .if_icmp .ge 26, 3), (214, .aload_n 0, 1), (215, .bipush 10, 2), (217, .aload_n 0, 1), (218, .getfield 110, 3), (221, .imul, 1), (222, .aload_n 0, 1), (223, .aload_n 0, 1), (224, .getfield 97, 3), (227, .invokevirtual 100, 3), (230, .iadd, 1), (231, .bipush 48, 2), (233, .isub, 1), (234, .putfield 110, 3), (237, .aload_n 0, 1), (238, .dup, 1), (239, .getfield 97, 3), (242, .iconst 1, 1), (243, .iadd, 1), (244, .putfield 97, 3), (247, .goto (-60), 3)]
theorem dtX4_goes_c1 : chkD (mB tX4_goes) DX4_goes_c1 = true := by decide +kernel
def DX4_goes_c2 : List (Nat × Instr × Nat) := [(250, .aload_n 0, 1), (251, .iconst 2, 1), (252, .putfield 116, 3), (255, .goto 76, 3), (258, .aload_n 0, 1), (259, .dup, 1), (260, .getfield 97, 3), (263, .iconst 1, 1), (264, .iadd, 1), (265, .putfield 97, 3), (268, .aload_n 0, 1), (269, .iload_n 1, 1), (270, .bipush 59, 2), (272, .if_icmp .eq 51, 3), (275, .iload_n 1, 1), (276, .bipush 40, 2), (278, .if_icmp .eq 45, 3), (281, .iload_n 1, 1), (282, .bipush 41, 2), (284, .if_icmp .eq 39, 3), (287, .iload_n 1, 1), (288, .bipush 43, 2), (290, .if_icmp .eq 33, 3), (293, .iload_n 1, 1), (294, .bipush 45, 2), (296, .if_icmp .eq 27, 3), (299, .iload_n 1, 1), (300, .bipush 42, 2), (302, .if_icmp .eq 21, 3), (305, .iload_n 1, 1), (306, .bipush 47, 2), (308, .if_icmp .eq 15, 3), (311, .iload_n 1, 1), (312, .bipush 60, 2), (314, .if_icmp .eq 9, 3), (317, .iload_n 1, 1), (318, .bipush 61, 2), (320, .if_icmp .ne 7, 3), (323, .iconst 3, 1), (324, .goto 4, 3), (327, .iconst 4, 1), (328, .putfield 116, 3), (331, .aload_n 0, 1), (332, .aload_n 0, 1), (333, .getfield 97, 3), (336, .aload_n 0, 1), (337, .getfield 103, 3), (340, .isub, 1), (341, .putfield 125, 3), (344, .return_, 1)]
theorem dtX4_goes_c2 : chkD (mB tX4_goes) DX4_goes_c2 = true := by decide +kernel
theorem moX4_goes : MethOk tX4_goes 0 := ⟨Or.inl ⟨rfl, q2539⟩, by decide +kernel, ⟨by decide, by decide⟩, by decide +kernel⟩
def mX4_goes  (h : Hp) (Q : Rs → Hp → Prop) : Prop := wh1 (fun (C102 : Hp → Prop) (h101 : Hp) => ((¬ ((hI h101 75 26) ≤ (hI h101 75 27)) → oX4_byteAt (hI h101 75 27) h101)) ∧ if ¬ ((hI h101 75 26) ≤ (hI h101 75 27)) ∧ (((vX4_byteAt (hI h101 75 27) h101) = 32) ∨ (¬ ((vX4_byteAt (hI h101 75 27) h101) ≠ 10))) then nm ((hI h101 75 27) + 1) ∧ ∀ h108 : Hp, h108 = sI h101 75 27 ((hI h101 75 27) + 1) → C102 h108 else ∀ h109 : Hp, h109 = sI h101 75 29 (hI h101 75 27) → ∀ h110 : Hp, h110 = sL h109 75 33 0 → ∀ h111 : Hp, h111 = sI h110 75 31 0 → oX4_byteAt (hI h111 75 27) h111 ∧ ∀ v113 : Int, v113 = (vX4_byteAt (hI h111 75 27) h111) → ∀ h114 : Hp, h114 = sI h111 75 32 v113 → jn (fun (h117 : Hp) => nm ((hI h117 75 27) - (hI h117 75 29)) ∧ ∀ h176 : Hp, h176 = sI h117 75 30 ((hI h117 75 27) - (hI h117 75 29)) → Q rN h176) (fun K115 => if ¬ ((hI h114 75 27) < (hI h114 75 26)) then ∀ h119 : Hp, h119 = sI h114 75 28 0 → K115 h119 else if ¬ ((vX4_isLetter v113 h114) = 0) then wh1 (fun (C122 : Hp → Prop) (h121 : Hp) => oX4_byteAt (hI h121 75 27) h121 ∧ if ¬ ((vX4_isLetter (vX4_byteAt (hI h121 75 27) h121) h121) = 0) then nm ((hI h121 75 27) - (hI h121 75 29)) ∧ jn (fun (h129 : Hp) => nm ((hI h129 75 27) + 1) ∧ ∀ h134 : Hp, h134 = sI h129 75 27 ((hI h129 75 27) + 1) → C122 h134) (fun K127 => if ¬ (9 ≤ ((hI h121 75 27) - (hI h121 75 29))) then nm ((vX4_byteAt (hI h121 75 27) h121) - 96) ∧ ∀ h132 : Hp, h132 = sL h121 75 33 (lor (lshl (hL h121 75 33) 5) ((vX4_byteAt (hI h121 75 27) h121) - 96)) → K127 h132 else K127 h121) else ∀ h135 : Hp, h135 = sI h121 75 28 1 → K115 h135) h114 else if ¬ ((vX4_isDigit v113 h114) = 0) then wh1 (fun (C138 : Hp → Prop) (h137 : Hp) => oX4_byteAt (hI h137 75 27) h137 ∧ if ¬ ((vX4_isDigit (vX4_byteAt (hI h137 75 27) h137) h137) = 0) then nm ((hI h137 75 27) - (hI h137 75 29)) ∧ jn (fun (h145 : Hp) => nm ((hI h145 75 27) + 1) ∧ ∀ h152 : Hp, h152 = sI h145 75 27 ((hI h145 75 27) + 1) → C138 h152) (fun K143 => if ¬ (5 ≤ ((hI h137 75 27) - (hI h137 75 29))) then nm (10 * (hI h137 75 31)) ∧ nm ((10 * (hI h137 75 31)) + (vX4_byteAt (hI h137 75 27) h137)) ∧ nm (((10 * (hI h137 75 31)) + (vX4_byteAt (hI h137 75 27) h137)) - 48) ∧ ∀ h150 : Hp, h150 = sI h137 75 31 (((10 * (hI h137 75 31)) + (vX4_byteAt (hI h137 75 27) h137)) - 48) → K143 h150 else K143 h137) else ∀ h153 : Hp, h153 = sI h137 75 28 2 → K115 h153) h114 else nm ((hI h114 75 27) + 1) ∧ ∀ h155 : Hp, h155 = sI h114 75 27 ((hI h114 75 27) + 1) → ∀ v156 : Int, v156 = (if (v113 = 59) ∨ ((v113 = 40) ∨ ((v113 = 41) ∨ ((v113 = 43) ∨ ((v113 = 45) ∨ ((v113 = 42) ∨ ((v113 = 47) ∨ ((v113 = 60) ∨ (¬ (v113 ≠ 61))))))))) then 3 else 4) → ∀ h157 : Hp, h157 = sI h155 75 28 v156 → K115 h157)) h
theorem wX4_goes {G : Gx} (hg : gF G = true) {d : Nat}  {h : Hp} {Q : Rs → Hp → Prop} (hm : mX4_goes  h Q) : Ct G tX4_goes (d + 1) [vR 75] h Q := by
  refine ct_enter (L0 := [some (vR 75), none]) rfl rfl ?_
  unfold mX4_goes at hm
  refine wh1_ind (P := fun (h101 : Hp) => Wc G tX4_goes (d + 1) h Q 0 [some (vR 75), none] [] h101) (fun C102 ih103 h101 hm => ?_) hm
  obtain ⟨o105, hm⟩ := hm
  refine wc_aload_n (pc := 0) (dAt dtX4_goes_c0 0 rfl) rfl (wc_getKI hg (pc := 1) (dAt dtX4_goes_c0 1 rfl) flX4_97_4 rfl ka75 (wc_aload_n (pc := 4) (dAt dtX4_goes_c0 2 rfl) rfl (wc_getKI hg (pc := 5) (dAt dtX4_goes_c0 3 rfl) flX4_94_4 rfl ka75 (?_))))
  have k177 : (¬ ((hI h101 75 26) ≤ (hI h101 75 27)) ∧ (((vX4_byteAt (hI h101 75 27) h101) = 32) ∨ (¬ ((vX4_byteAt (hI h101 75 27) h101) ≠ 10)))) → Wc G tX4_goes (d + 1) h Q 37 [some (vR 75), none] [] h101 := fun c106 => by
    replace hm := ite_t c106 hm
    obtain ⟨o107, hm⟩ := hm
    obtain ⟨h108, eh108⟩ : ∃ h108 : Hp, h108 = sI h101 75 27 ((hI h101 75 27) + 1) := ⟨_, rfl⟩
    replace hm := hm h108 eh108
    exact wc_aload_n (pc := 37) (dAt dtX4_goes_c0 17 rfl) rfl (wc_dup (pc := 38) (dAt dtX4_goes_c0 18 rfl) rfl (wc_getKI hg (pc := 39) (dAt dtX4_goes_c0 19 rfl) flX4_97_4 rfl ka75 (wc_iconst (pc := 42) (dAt dtX4_goes_c0 20 rfl) ⟨by decide, by decide⟩ (wc_iadd (pc := 43) (dAt dtX4_goes_c0 21 rfl) o107 (wc_putKI hg (pc := 44) (dAt dtX4_goes_c0 22 rfl) flX4_97_4 (Or.inl rfl) rfl ka75 (by decide) (okI_int _) (wc_hp eh108 (wc_goto (pc := 47) (tgt := 0) (dAt dtX4_goes_c0 23 rfl) (by decide) (ih103 _ hm))))))))
  have k178 : ¬ (¬ ((hI h101 75 26) ≤ (hI h101 75 27)) ∧ (((vX4_byteAt (hI h101 75 27) h101) = 32) ∨ (¬ ((vX4_byteAt (hI h101 75 27) h101) ≠ 10)))) → Wc G tX4_goes (d + 1) h Q 50 [some (vR 75), none] [] h101 := fun c106 => by
    replace hm := ite_f c106 hm
    obtain ⟨h109, eh109⟩ : ∃ h109 : Hp, h109 = sI h101 75 29 (hI h101 75 27) := ⟨_, rfl⟩
    replace hm := hm h109 eh109
    obtain ⟨h110, eh110⟩ : ∃ h110 : Hp, h110 = sL h109 75 33 0 := ⟨_, rfl⟩
    replace hm := hm h110 eh110
    obtain ⟨h111, eh111⟩ : ∃ h111 : Hp, h111 = sI h110 75 31 0 := ⟨_, rfl⟩
    replace hm := hm h111 eh111
    obtain ⟨o112, hm⟩ := hm
    obtain ⟨v113, ev113⟩ : ∃ v113 : Int, v113 = (vX4_byteAt (hI h111 75 27) h111) := ⟨_, rfl⟩
    replace hm := hm v113 ev113
    obtain ⟨h114, eh114⟩ : ∃ h114 : Hp, h114 = sI h111 75 32 v113 := ⟨_, rfl⟩
    replace hm := hm h114 eh114
    refine wc_aload_n (pc := 50) (dAt dtX4_goes_c0 24 rfl) rfl (wc_aload_n (pc := 51) (dAt dtX4_goes_c0 25 rfl) rfl (wc_getKI hg (pc := 52) (dAt dtX4_goes_c0 26 rfl) flX4_97_4 rfl ka75 (wc_putKI hg (pc := 55) (dAt dtX4_goes_c0 27 rfl) flX4_103_4 (Or.inl rfl) rfl ka75 (by decide) (okI_int _) (wc_hp eh109 (wc_aload_n (pc := 58) (dAt dtX4_goes_c0 28 rfl) rfl (wc_lconst (v := 0) (pc := 59) (dAt dtX4_goes_c0 29 rfl) ⟨by decide, by decide, by decide⟩ (wc_putKL hg (pc := 60) (dAt dtX4_goes_c0 30 rfl) flX4_106_4 (Or.inl rfl) rfl ka75 (by decide) (wc_hp eh110 (wc_aload_n (pc := 63) (dAt dtX4_goes_c0 31 rfl) rfl (wc_iconst (pc := 64) (dAt dtX4_goes_c0 32 rfl) ⟨by decide, by decide⟩ (wc_putKI hg (pc := 65) (dAt dtX4_goes_c0 33 rfl) flX4_110_4 (Or.inl rfl) rfl ka75 (by decide) (okI_int _) (wc_hp eh111 (wc_aload_n (pc := 68) (dAt dtX4_goes_c0 34 rfl) rfl (wc_aload_n (pc := 69) (dAt dtX4_goes_c0 35 rfl) rfl (wc_getKI hg (pc := 70) (dAt dtX4_goes_c0 36 rfl) flX4_97_4 rfl ka75 (wc_kf hg fun zk => wc_callV (k := 4) (y' := tX4_byteAt) (P := eI (vX4_byteAt (hI h111 75 27) h111) h111) (pc := 73) (dAt dtX4_goes_c0 37 rfl) lkX4_100 moX4_byteAt q2542 qs68 (by decide) (zk.2 _ ka75).1 rfl rfl (Nat.le_of_ble_eq_true rfl) (wX4_byteAt hg o112 ⟨rfl, rfl⟩) (ep_I (wc_vi ev113 (wc_istore_n (pc := 76) (dAt dtX4_goes_c0 38 rfl) (by decide) (wc_L (L' := [some (vR 75), some (vI v113)]) rfl (wc_aload_n (pc := 77) (dAt dtX4_goes_c0 39 rfl) rfl (wc_iload_n (pc := 78) (dAt dtX4_goes_c0 40 rfl) rfl (wc_putKI hg (pc := 79) (dAt dtX4_goes_c0 41 rfl) flX4_113_4 (Or.inl rfl) rfl ka75 (by decide) (okI_int _) (wc_hp eh114 (wc_aload_n (pc := 82) (dAt dtX4_goes_c0 42 rfl) rfl (wc_getKI hg (pc := 83) (dAt dtX4_goes_c0 43 rfl) flX4_97_4 rfl ka75 (wc_aload_n (pc := 86) (dAt dtX4_goes_c0 44 rfl) rfl (wc_getKI hg (pc := 87) (dAt dtX4_goes_c0 45 rfl) flX4_94_4 rfl ka75 (?_))))))))))))) ex_I))))))))))))))))
    refine jn1_ind (P := fun (h117 : Hp) => Wc G tX4_goes (d + 1) h Q 331 [some (vR 75), none] [] h117) (fun h117 hm => ?_) (fun K115 kj116 hm => ?_) hm
    · obtain ⟨o175, hm⟩ := hm
      obtain ⟨h176, eh176⟩ : ∃ h176 : Hp, h176 = sI h117 75 30 ((hI h117 75 27) - (hI h117 75 29)) := ⟨_, rfl⟩
      replace hm := hm h176 eh176
      exact wc_aload_n (pc := 331) (dAt dtX4_goes_c2 42 rfl) rfl (wc_aload_n (pc := 332) (dAt dtX4_goes_c2 43 rfl) rfl (wc_getKI hg (pc := 333) (dAt dtX4_goes_c2 44 rfl) flX4_97_4 rfl ka75 (wc_aload_n (pc := 336) (dAt dtX4_goes_c2 45 rfl) rfl (wc_getKI hg (pc := 337) (dAt dtX4_goes_c2 46 rfl) flX4_103_4 rfl ka75 (wc_isub (pc := 340) (dAt dtX4_goes_c2 47 rfl) o175 (wc_putKI hg (pc := 341) (dAt dtX4_goes_c2 48 rfl) flX4_125_4 (Or.inl rfl) rfl ka75 (by decide) (okI_int _) (wc_hp eh176 (wc_vret (pc := 344) (dAt dtX4_goes_c2 49 rfl) rfl hm))))))))
    · refine wc_icmp_lt (pc := 90) (tgt := 101) (dAt dtX4_goes_c0 46 rfl) (by decide) (fun c118 => ?_) (fun c118 => ?_)
      · replace hm := ite_f (fun z => z c118) hm
        refine wc_iload_n (pc := 101) (dAt dtX4_goes_c0 51 rfl) rfl (wc_callS (y' := tX4_isLetter) (P := eI (vX4_isLetter v113 h114) h114) (pc := 102) (dAt dtX4_goes_c0 52 rfl) lkX4_119 moX4_isLetter q2545 q134 rfl rfl (Nat.le_of_ble_eq_true rfl) (wX4_isLetter hg ⟨rfl, rfl⟩) (ep_I (wc_if_eq (pc := 105) (tgt := 180) (dAt dtX4_goes_c0 53 rfl) (by decide) (fun c120 => ?_) (fun c120 => ?_))) ex_I)
        · replace hm := ite_f (fun z => z c120) hm
          refine wc_iload_n (pc := 180) (dAt dtX4_goes_c1 28 rfl) rfl (wc_callS (y' := tX4_isDigit) (P := eI (vX4_isDigit v113 h114) h114) (pc := 181) (dAt dtX4_goes_c1 29 rfl) lkX4_122 moX4_isDigit q2548 q134 rfl rfl (Nat.le_of_ble_eq_true rfl) (wX4_isDigit hg ⟨rfl, rfl⟩) (ep_I (wc_if_eq (pc := 184) (tgt := 258) (dAt dtX4_goes_c1 30 rfl) (by decide) (fun c136 => ?_) (fun c136 => ?_))) ex_I)
          · replace hm := ite_f (fun z => z c136) hm
            obtain ⟨o154, hm⟩ := hm
            obtain ⟨h155, eh155⟩ : ∃ h155 : Hp, h155 = sI h114 75 27 ((hI h114 75 27) + 1) := ⟨_, rfl⟩
            replace hm := hm h155 eh155
            obtain ⟨v156, ev156⟩ : ∃ v156 : Int, v156 = (if (v113 = 59) ∨ ((v113 = 40) ∨ ((v113 = 41) ∨ ((v113 = 43) ∨ ((v113 = 45) ∨ ((v113 = 42) ∨ ((v113 = 47) ∨ ((v113 = 60) ∨ (¬ (v113 ≠ 61))))))))) then 3 else 4) := ⟨_, rfl⟩
            replace hm := hm v156 ev156
            refine wc_aload_n (pc := 258) (dAt dtX4_goes_c2 4 rfl) rfl (wc_dup (pc := 259) (dAt dtX4_goes_c2 5 rfl) rfl (wc_getKI hg (pc := 260) (dAt dtX4_goes_c2 6 rfl) flX4_97_4 rfl ka75 (wc_iconst (pc := 263) (dAt dtX4_goes_c2 7 rfl) ⟨by decide, by decide⟩ (wc_iadd (pc := 264) (dAt dtX4_goes_c2 8 rfl) o154 (wc_putKI hg (pc := 265) (dAt dtX4_goes_c2 9 rfl) flX4_97_4 (Or.inl rfl) rfl ka75 (by decide) (okI_int _) (wc_hp eh155 (wc_aload_n (pc := 268) (dAt dtX4_goes_c2 10 rfl) rfl (wc_iload_n (pc := 269) (dAt dtX4_goes_c2 11 rfl) rfl (wc_bipush (pc := 270) (dAt dtX4_goes_c2 12 rfl) ⟨by decide, by decide, by decide⟩ (?_))))))))))
            have kj158 : Wc G tX4_goes (d + 1) h Q 328 [some (vR 75), none] [vI v156, vR 75] h155 := by
              obtain ⟨h157, eh157⟩ : ∃ h157 : Hp, h157 = sI h155 75 28 v156 := ⟨_, rfl⟩
              replace hm := hm h157 eh157
              exact wc_putKI hg (pc := 328) (dAt dtX4_goes_c2 41 rfl) flX4_116_4 (Or.inl rfl) rfl ka75 (by decide) (okI_int _) (wc_hp eh157 (kj116 _ hm))
            have k159 : ((v113 = 59) ∨ ((v113 = 40) ∨ ((v113 = 41) ∨ ((v113 = 43) ∨ ((v113 = 45) ∨ ((v113 = 42) ∨ ((v113 = 47) ∨ ((v113 = 60) ∨ (¬ (v113 ≠ 61)))))))))) → Wc G tX4_goes (d + 1) h Q 323 [some (vR 75), some (vI v113)] [vR 75] h155 := fun c161 => by
              have z162 := kj158
              rw [show v156 = 3 from ev156.trans (if_pos c161)] at z162
              exact wc_iconst (pc := 323) (dAt dtX4_goes_c2 38 rfl) ⟨by decide, by decide⟩ (wc_goto (pc := 324) (tgt := 328) (dAt dtX4_goes_c2 39 rfl) (by decide) (wc_drp [1] rfl (z162)))
            have k160 : ¬ ((v113 = 59) ∨ ((v113 = 40) ∨ ((v113 = 41) ∨ ((v113 = 43) ∨ ((v113 = 45) ∨ ((v113 = 42) ∨ ((v113 = 47) ∨ ((v113 = 60) ∨ (¬ (v113 ≠ 61)))))))))) → Wc G tX4_goes (d + 1) h Q 327 [some (vR 75), some (vI v113)] [vR 75] h155 := fun c161 => by
              have z164 := kj158
              rw [show v156 = 4 from ev156.trans (if_neg c161)] at z164
              exact wc_iconst (pc := 327) (dAt dtX4_goes_c2 40 rfl) ⟨by decide, by decide⟩ (wc_drp [1] rfl (z164))
            exact wc_icmp_eq (pc := 272) (tgt := 323) (dAt dtX4_goes_c2 13 rfl) (by decide) (fun c166 => (k159 (Or.inl c166))) (fun c166 => wc_iload_n (pc := 275) (dAt dtX4_goes_c2 14 rfl) rfl (wc_bipush (pc := 276) (dAt dtX4_goes_c2 15 rfl) ⟨by decide, by decide, by decide⟩ (wc_icmp_eq (pc := 278) (tgt := 323) (dAt dtX4_goes_c2 16 rfl) (by decide) (fun c167 => (k159 (Or.inr (Or.inl c167)))) (fun c167 => wc_iload_n (pc := 281) (dAt dtX4_goes_c2 17 rfl) rfl (wc_bipush (pc := 282) (dAt dtX4_goes_c2 18 rfl) ⟨by decide, by decide, by decide⟩ (wc_icmp_eq (pc := 284) (tgt := 323) (dAt dtX4_goes_c2 19 rfl) (by decide) (fun c168 => (k159 (Or.inr (Or.inr (Or.inl c168))))) (fun c168 => wc_iload_n (pc := 287) (dAt dtX4_goes_c2 20 rfl) rfl (wc_bipush (pc := 288) (dAt dtX4_goes_c2 21 rfl) ⟨by decide, by decide, by decide⟩ (wc_icmp_eq (pc := 290) (tgt := 323) (dAt dtX4_goes_c2 22 rfl) (by decide) (fun c169 => (k159 (Or.inr (Or.inr (Or.inr (Or.inl c169)))))) (fun c169 => wc_iload_n (pc := 293) (dAt dtX4_goes_c2 23 rfl) rfl (wc_bipush (pc := 294) (dAt dtX4_goes_c2 24 rfl) ⟨by decide, by decide, by decide⟩ (wc_icmp_eq (pc := 296) (tgt := 323) (dAt dtX4_goes_c2 25 rfl) (by decide) (fun c170 => (k159 (Or.inr (Or.inr (Or.inr (Or.inr (Or.inl c170))))))) (fun c170 => wc_iload_n (pc := 299) (dAt dtX4_goes_c2 26 rfl) rfl (wc_bipush (pc := 300) (dAt dtX4_goes_c2 27 rfl) ⟨by decide, by decide, by decide⟩ (wc_icmp_eq (pc := 302) (tgt := 323) (dAt dtX4_goes_c2 28 rfl) (by decide) (fun c171 => (k159 (Or.inr (Or.inr (Or.inr (Or.inr (Or.inr (Or.inl c171)))))))) (fun c171 => wc_iload_n (pc := 305) (dAt dtX4_goes_c2 29 rfl) rfl (wc_bipush (pc := 306) (dAt dtX4_goes_c2 30 rfl) ⟨by decide, by decide, by decide⟩ (wc_icmp_eq (pc := 308) (tgt := 323) (dAt dtX4_goes_c2 31 rfl) (by decide) (fun c172 => (k159 (Or.inr (Or.inr (Or.inr (Or.inr (Or.inr (Or.inr (Or.inl c172))))))))) (fun c172 => wc_iload_n (pc := 311) (dAt dtX4_goes_c2 32 rfl) rfl (wc_bipush (pc := 312) (dAt dtX4_goes_c2 33 rfl) ⟨by decide, by decide, by decide⟩ (wc_icmp_eq (pc := 314) (tgt := 323) (dAt dtX4_goes_c2 34 rfl) (by decide) (fun c173 => (k159 (Or.inr (Or.inr (Or.inr (Or.inr (Or.inr (Or.inr (Or.inr (Or.inl c173)))))))))) (fun c173 => wc_iload_n (pc := 317) (dAt dtX4_goes_c2 35 rfl) rfl (wc_bipush (pc := 318) (dAt dtX4_goes_c2 36 rfl) ⟨by decide, by decide, by decide⟩ (wc_icmp_ne (pc := 320) (tgt := 327) (dAt dtX4_goes_c2 37 rfl) (by decide) (fun c174 => (k160 (fun z => z.elim c166 (fun z => z.elim c167 (fun z => z.elim c168 (fun z => z.elim c169 (fun z => z.elim c170 (fun z => z.elim c171 (fun z => z.elim c172 (fun z => z.elim c173 (fun z => z c174))))))))))) (fun c174 => (k159 (Or.inr (Or.inr (Or.inr (Or.inr (Or.inr (Or.inr (Or.inr (Or.inr c174))))))))))))))))))))))))))))))))))
          · replace hm := ite_t c136 hm
            refine wc_drp [1] rfl (wc_L (L' := [some (vR 75), none]) rfl (?_))
            refine wh1_ind (P := fun (h137 : Hp) => Wc G tX4_goes (d + 1) h Q 187 [some (vR 75), none] [] h137) (fun C138 ih139 h137 hm => ?_) hm
            obtain ⟨o140, hm⟩ := hm
            refine wc_aload_n (pc := 187) (dAt dtX4_goes_c1 31 rfl) rfl (wc_aload_n (pc := 188) (dAt dtX4_goes_c1 32 rfl) rfl (wc_getKI hg (pc := 189) (dAt dtX4_goes_c1 33 rfl) flX4_97_4 rfl ka75 (wc_kf hg fun zk => wc_callV (k := 4) (y' := tX4_byteAt) (P := eI (vX4_byteAt (hI h137 75 27) h137) h137) (pc := 192) (dAt dtX4_goes_c1 34 rfl) lkX4_100 moX4_byteAt q2542 qs68 (by decide) (zk.2 _ ka75).1 rfl rfl (Nat.le_of_ble_eq_true rfl) (wX4_byteAt hg o140 ⟨rfl, rfl⟩) (ep_I (wc_callS (y' := tX4_isDigit) (P := eI (vX4_isDigit (vX4_byteAt (hI h137 75 27) h137) h137) h137) (pc := 195) (dAt dtX4_goes_c1 35 rfl) lkX4_122 moX4_isDigit q2548 q134 rfl rfl (Nat.le_of_ble_eq_true rfl) (wX4_isDigit hg ⟨rfl, rfl⟩) (ep_I (wc_if_eq (pc := 198) (tgt := 250) (dAt dtX4_goes_c1 36 rfl) (by decide) (fun c141 => ?_) (fun c141 => ?_))) ex_I)) ex_I)))
            · replace hm := ite_f (fun z => z c141) hm
              obtain ⟨h153, eh153⟩ : ∃ h153 : Hp, h153 = sI h137 75 28 2 := ⟨_, rfl⟩
              replace hm := hm h153 eh153
              exact wc_aload_n (pc := 250) (dAt dtX4_goes_c2 0 rfl) rfl (wc_iconst (pc := 251) (dAt dtX4_goes_c2 1 rfl) ⟨by decide, by decide⟩ (wc_putKI hg (pc := 252) (dAt dtX4_goes_c2 2 rfl) flX4_116_4 (Or.inl rfl) rfl ka75 (by decide) (okI_int _) (wc_hp eh153 (wc_goto (pc := 255) (tgt := 331) (dAt dtX4_goes_c2 3 rfl) (by decide) (kj116 _ hm)))))
            · replace hm := ite_t c141 hm
              obtain ⟨o142, hm⟩ := hm
              refine wc_aload_n (pc := 201) (dAt dtX4_goes_c1 37 rfl) rfl (wc_getKI hg (pc := 202) (dAt dtX4_goes_c1 38 rfl) flX4_97_4 rfl ka75 (wc_aload_n (pc := 205) (dAt dtX4_goes_c1 39 rfl) rfl (wc_getKI hg (pc := 206) (dAt dtX4_goes_c1 40 rfl) flX4_103_4 rfl ka75 (wc_isub (pc := 209) (dAt dtX4_goes_c1 41 rfl) o142 (wc_iconst (pc := 210) (dAt dtX4_goes_c1 42 rfl) ⟨by decide, by decide⟩ (?_))))))
              refine jn1_ind (P := fun (h145 : Hp) => Wc G tX4_goes (d + 1) h Q 237 [some (vR 75), none] [] h145) (fun h145 hm => ?_) (fun K143 kj144 hm => ?_) hm
              · obtain ⟨o151, hm⟩ := hm
                obtain ⟨h152, eh152⟩ : ∃ h152 : Hp, h152 = sI h145 75 27 ((hI h145 75 27) + 1) := ⟨_, rfl⟩
                replace hm := hm h152 eh152
                exact wc_aload_n (pc := 237) (dAt dtX4_goes_c1 57 rfl) rfl (wc_dup (pc := 238) (dAt dtX4_goes_c1 58 rfl) rfl (wc_getKI hg (pc := 239) (dAt dtX4_goes_c1 59 rfl) flX4_97_4 rfl ka75 (wc_iconst (pc := 242) (dAt dtX4_goes_c1 60 rfl) ⟨by decide, by decide⟩ (wc_iadd (pc := 243) (dAt dtX4_goes_c1 61 rfl) o151 (wc_putKI hg (pc := 244) (dAt dtX4_goes_c1 62 rfl) flX4_97_4 (Or.inl rfl) rfl ka75 (by decide) (okI_int _) (wc_hp eh152 (wc_goto (pc := 247) (tgt := 187) (dAt dtX4_goes_c1 63 rfl) (by decide) (ih139 _ hm))))))))
              · refine wc_icmp_ge (pc := 211) (tgt := 237) (dAt dtX4_goes_c1 43 rfl) (by decide) (fun c146 => ?_) (fun c146 => ?_)
                · replace hm := ite_f (fun z => z c146) hm
                  exact kj144 _ hm
                · replace hm := ite_t c146 hm
                  obtain ⟨o147, o148, o149, hm⟩ := hm
                  obtain ⟨h150, eh150⟩ : ∃ h150 : Hp, h150 = sI h137 75 31 (((10 * (hI h137 75 31)) + (vX4_byteAt (hI h137 75 27) h137)) - 48) := ⟨_, rfl⟩
                  replace hm := hm h150 eh150
                  exact wc_aload_n (pc := 214) (dAt dtX4_goes_c1 44 rfl) rfl (wc_bipush (pc := 215) (dAt dtX4_goes_c1 45 rfl) ⟨by decide, by decide, by decide⟩ (wc_aload_n (pc := 217) (dAt dtX4_goes_c1 46 rfl) rfl (wc_getKI hg (pc := 218) (dAt dtX4_goes_c1 47 rfl) flX4_110_4 rfl ka75 (wc_imul (pc := 221) (dAt dtX4_goes_c1 48 rfl) o147 (wc_aload_n (pc := 222) (dAt dtX4_goes_c1 49 rfl) rfl (wc_aload_n (pc := 223) (dAt dtX4_goes_c1 50 rfl) rfl (wc_getKI hg (pc := 224) (dAt dtX4_goes_c1 51 rfl) flX4_97_4 rfl ka75 (wc_kf hg fun zk => wc_callV (k := 4) (y' := tX4_byteAt) (P := eI (vX4_byteAt (hI h137 75 27) h137) h137) (pc := 227) (dAt dtX4_goes_c1 52 rfl) lkX4_100 moX4_byteAt q2542 qs68 (by decide) (zk.2 _ ka75).1 rfl rfl (Nat.le_of_ble_eq_true rfl) (wX4_byteAt hg o140 ⟨rfl, rfl⟩) (ep_I (wc_iadd (pc := 230) (dAt dtX4_goes_c1 53 rfl) o148 (wc_bipush (pc := 231) (dAt dtX4_goes_c1 54 rfl) ⟨by decide, by decide, by decide⟩ (wc_isub (pc := 233) (dAt dtX4_goes_c1 55 rfl) o149 (wc_putKI hg (pc := 234) (dAt dtX4_goes_c1 56 rfl) flX4_110_4 (Or.inl rfl) rfl ka75 (by decide) (okI_int _) (wc_hp eh150 (kj144 _ hm))))))) ex_I))))))))
        · replace hm := ite_t c120 hm
          refine wc_drp [1] rfl (wc_L (L' := [some (vR 75), none]) rfl (?_))
          refine wh1_ind (P := fun (h121 : Hp) => Wc G tX4_goes (d + 1) h Q 108 [some (vR 75), none] [] h121) (fun C122 ih123 h121 hm => ?_) hm
          obtain ⟨o124, hm⟩ := hm
          refine wc_aload_n (pc := 108) (dAt dtX4_goes_c0 54 rfl) rfl (wc_aload_n (pc := 109) (dAt dtX4_goes_c0 55 rfl) rfl (wc_getKI hg (pc := 110) (dAt dtX4_goes_c0 56 rfl) flX4_97_4 rfl ka75 (wc_kf hg fun zk => wc_callV (k := 4) (y' := tX4_byteAt) (P := eI (vX4_byteAt (hI h121 75 27) h121) h121) (pc := 113) (dAt dtX4_goes_c0 57 rfl) lkX4_100 moX4_byteAt q2542 qs68 (by decide) (zk.2 _ ka75).1 rfl rfl (Nat.le_of_ble_eq_true rfl) (wX4_byteAt hg o124 ⟨rfl, rfl⟩) (ep_I (wc_callS (y' := tX4_isLetter) (P := eI (vX4_isLetter (vX4_byteAt (hI h121 75 27) h121) h121) h121) (pc := 116) (dAt dtX4_goes_c0 58 rfl) lkX4_119 moX4_isLetter q2545 q134 rfl rfl (Nat.le_of_ble_eq_true rfl) (wX4_isLetter hg ⟨rfl, rfl⟩) (ep_I (wc_if_eq (pc := 119) (tgt := 172) (dAt dtX4_goes_c0 59 rfl) (by decide) (fun c125 => ?_) (fun c125 => ?_))) ex_I)) ex_I)))
          · replace hm := ite_f (fun z => z c125) hm
            obtain ⟨h135, eh135⟩ : ∃ h135 : Hp, h135 = sI h121 75 28 1 := ⟨_, rfl⟩
            replace hm := hm h135 eh135
            exact wc_aload_n (pc := 172) (dAt dtX4_goes_c1 24 rfl) rfl (wc_iconst (pc := 173) (dAt dtX4_goes_c1 25 rfl) ⟨by decide, by decide⟩ (wc_putKI hg (pc := 174) (dAt dtX4_goes_c1 26 rfl) flX4_116_4 (Or.inl rfl) rfl ka75 (by decide) (okI_int _) (wc_hp eh135 (wc_goto (pc := 177) (tgt := 331) (dAt dtX4_goes_c1 27 rfl) (by decide) (kj116 _ hm)))))
          · replace hm := ite_t c125 hm
            obtain ⟨o126, hm⟩ := hm
            refine wc_aload_n (pc := 122) (dAt dtX4_goes_c0 60 rfl) rfl (wc_getKI hg (pc := 123) (dAt dtX4_goes_c0 61 rfl) flX4_97_4 rfl ka75 (wc_aload_n (pc := 126) (dAt dtX4_goes_c0 62 rfl) rfl (wc_getKI hg (pc := 127) (dAt dtX4_goes_c0 63 rfl) flX4_103_4 rfl ka75 (wc_isub (pc := 130) (dAt dtX4_goes_c1 0 rfl) o126 (wc_bipush (pc := 131) (dAt dtX4_goes_c1 1 rfl) ⟨by decide, by decide, by decide⟩ (?_))))))
            refine jn1_ind (P := fun (h129 : Hp) => Wc G tX4_goes (d + 1) h Q 159 [some (vR 75), none] [] h129) (fun h129 hm => ?_) (fun K127 kj128 hm => ?_) hm
            · obtain ⟨o133, hm⟩ := hm
              obtain ⟨h134, eh134⟩ : ∃ h134 : Hp, h134 = sI h129 75 27 ((hI h129 75 27) + 1) := ⟨_, rfl⟩
              replace hm := hm h134 eh134
              exact wc_aload_n (pc := 159) (dAt dtX4_goes_c1 17 rfl) rfl (wc_dup (pc := 160) (dAt dtX4_goes_c1 18 rfl) rfl (wc_getKI hg (pc := 161) (dAt dtX4_goes_c1 19 rfl) flX4_97_4 rfl ka75 (wc_iconst (pc := 164) (dAt dtX4_goes_c1 20 rfl) ⟨by decide, by decide⟩ (wc_iadd (pc := 165) (dAt dtX4_goes_c1 21 rfl) o133 (wc_putKI hg (pc := 166) (dAt dtX4_goes_c1 22 rfl) flX4_97_4 (Or.inl rfl) rfl ka75 (by decide) (okI_int _) (wc_hp eh134 (wc_goto (pc := 169) (tgt := 108) (dAt dtX4_goes_c1 23 rfl) (by decide) (ih123 _ hm))))))))
            · refine wc_icmp_ge (pc := 133) (tgt := 159) (dAt dtX4_goes_c1 2 rfl) (by decide) (fun c130 => ?_) (fun c130 => ?_)
              · replace hm := ite_f (fun z => z c130) hm
                exact kj128 _ hm
              · replace hm := ite_t c130 hm
                obtain ⟨o131, hm⟩ := hm
                obtain ⟨h132, eh132⟩ : ∃ h132 : Hp, h132 = sL h121 75 33 (lor (lshl (hL h121 75 33) 5) ((vX4_byteAt (hI h121 75 27) h121) - 96)) := ⟨_, rfl⟩
                replace hm := hm h132 eh132
                exact wc_aload_n (pc := 136) (dAt dtX4_goes_c1 3 rfl) rfl (wc_aload_n (pc := 137) (dAt dtX4_goes_c1 4 rfl) rfl (wc_getKL hg (pc := 138) (dAt dtX4_goes_c1 5 rfl) flX4_106_4 rfl ka75 (wc_iconst (pc := 141) (dAt dtX4_goes_c1 6 rfl) ⟨by decide, by decide⟩ (wc_lshl (pc := 142) (dAt dtX4_goes_c1 7 rfl) (wc_aload_n (pc := 143) (dAt dtX4_goes_c1 8 rfl) rfl (wc_aload_n (pc := 144) (dAt dtX4_goes_c1 9 rfl) rfl (wc_getKI hg (pc := 145) (dAt dtX4_goes_c1 10 rfl) flX4_97_4 rfl ka75 (wc_kf hg fun zk => wc_callV (k := 4) (y' := tX4_byteAt) (P := eI (vX4_byteAt (hI h121 75 27) h121) h121) (pc := 148) (dAt dtX4_goes_c1 11 rfl) lkX4_100 moX4_byteAt q2542 qs68 (by decide) (zk.2 _ ka75).1 rfl rfl (Nat.le_of_ble_eq_true rfl) (wX4_byteAt hg o124 ⟨rfl, rfl⟩) (ep_I (wc_bipush (pc := 151) (dAt dtX4_goes_c1 12 rfl) ⟨by decide, by decide, by decide⟩ (wc_isub (pc := 153) (dAt dtX4_goes_c1 13 rfl) o131 (wc_i2l (pc := 154) (dAt dtX4_goes_c1 14 rfl) (wc_lor (pc := 155) (dAt dtX4_goes_c1 15 rfl) (wc_putKL hg (pc := 156) (dAt dtX4_goes_c1 16 rfl) flX4_106_4 (Or.inl rfl) rfl ka75 (by decide) (wc_hp eh132 (kj128 _ hm)))))))) ex_I))))))))
      · replace hm := ite_t c118 hm
        obtain ⟨h119, eh119⟩ : ∃ h119 : Hp, h119 = sI h114 75 28 0 := ⟨_, rfl⟩
        replace hm := hm h119 eh119
        exact wc_aload_n (pc := 93) (dAt dtX4_goes_c0 47 rfl) rfl (wc_iconst (pc := 94) (dAt dtX4_goes_c0 48 rfl) ⟨by decide, by decide⟩ (wc_putKI hg (pc := 95) (dAt dtX4_goes_c0 49 rfl) flX4_116_4 (Or.inl rfl) rfl ka75 (by decide) (okI_int _) (wc_hp eh119 (wc_goto (pc := 98) (tgt := 331) (dAt dtX4_goes_c0 50 rfl) (by decide) (wc_drp [1] rfl (kj116 _ hm))))))
  exact wc_icmp_ge (pc := 8) (tgt := 50) (dAt dtX4_goes_c0 4 rfl) (by decide) (fun c179 => (k178 (fun z => z.1 c179))) (fun c179 => wc_aload_n (pc := 11) (dAt dtX4_goes_c0 5 rfl) rfl (wc_aload_n (pc := 12) (dAt dtX4_goes_c0 6 rfl) rfl (wc_getKI hg (pc := 13) (dAt dtX4_goes_c0 7 rfl) flX4_97_4 rfl ka75 (wc_kf hg fun zk => wc_callV (k := 4) (y' := tX4_byteAt) (P := eI (vX4_byteAt (hI h101 75 27) h101) h101) (pc := 16) (dAt dtX4_goes_c0 8 rfl) lkX4_100 moX4_byteAt q2542 qs68 (by decide) (zk.2 _ ka75).1 rfl rfl (Nat.le_of_ble_eq_true rfl) (wX4_byteAt hg (o105 c179) ⟨rfl, rfl⟩) (ep_I (wc_bipush (pc := 19) (dAt dtX4_goes_c0 9 rfl) ⟨by decide, by decide, by decide⟩ (wc_icmp_eq (pc := 21) (tgt := 37) (dAt dtX4_goes_c0 10 rfl) (by decide) (fun c180 => (k177 ⟨c179, (Or.inl c180)⟩)) (fun c180 => wc_aload_n (pc := 24) (dAt dtX4_goes_c0 11 rfl) rfl (wc_aload_n (pc := 25) (dAt dtX4_goes_c0 12 rfl) rfl (wc_getKI hg (pc := 26) (dAt dtX4_goes_c0 13 rfl) flX4_97_4 rfl ka75 (wc_kf hg fun zk => wc_callV (k := 4) (y' := tX4_byteAt) (P := eI (vX4_byteAt (hI h101 75 27) h101) h101) (pc := 29) (dAt dtX4_goes_c0 14 rfl) lkX4_100 moX4_byteAt q2542 qs68 (by decide) (zk.2 _ ka75).1 rfl rfl (Nat.le_of_ble_eq_true rfl) (wX4_byteAt hg (o105 c179) ⟨rfl, rfl⟩) (ep_I (wc_bipush (pc := 32) (dAt dtX4_goes_c0 15 rfl) ⟨by decide, by decide, by decide⟩ (wc_icmp_ne (pc := 34) (tgt := 50) (dAt dtX4_goes_c0 16 rfl) (by decide) (fun c181 => (k178 (fun z => (fun z => z.elim c180 (fun z => z c181)) z.2))) (fun c181 => (k177 ⟨c179, (Or.inr c181)⟩))))) ex_I))))))) ex_I))))
def tX4_isGood : Mt := (⟨"FlyingDoctorsModel", "isGood", "()Z"⟩, prog_24_method_26_code, 1, (Option.some Jvm.ClassFile.FieldType.boolean), [])
def DX4_isGood : List (Nat × Instr × Nat) := [(0, .aload_n 0, 1), (1, .getfield 344, 3), (4, .ifCond .ne 7, 3), (7, .iconst 1, 1), (8, .goto 4, 3), (11, .iconst 0, 1), (12, .ireturn, 1)]
theorem dtX4_isGood : chkD (mB tX4_isGood) DX4_isGood = true := by decide +kernel
theorem moX4_isGood : MethOk tX4_isGood 0 := ⟨Or.inl ⟨rfl, q2553⟩, by decide +kernel, ⟨by decide, by decide⟩, by decide +kernel⟩
def vX4_isGood  (h : Hp) : Int := (b2i (¬ ((hI h 75 24) ≠ 0)))
theorem wX4_isGood {G : Gx} (hg : gF G = true) {d : Nat}  {h : Hp} {Q : Rs → Hp → Prop} (hq : Q (rV (vI (vX4_isGood h))) h) : Ct G tX4_isGood (d + 0) [vR 75] h Q := by
  refine ct_enter (L0 := [some (vR 75)]) rfl rfl ?_
  have k101 : (¬ ((hI h 75 24) ≠ 0)) → Wc G tX4_isGood (d + 0) h Q 7 [some (vR 75)] [] h := fun c103 => by
    have z : Q (rV (vI 1)) h := by
      rw [show (vX4_isGood h) = 1 from (b2i_t c103)] at hq
      exact hq
    exact wc_iconst (pc := 7) (dAt dtX4_isGood 3 rfl) ⟨by decide, by decide⟩ (wc_goto (pc := 8) (tgt := 12) (dAt dtX4_isGood 4 rfl) (by decide) (wc_iret (pc := 12) (dAt dtX4_isGood 6 rfl) rfl (nar_bool (Or.inr rfl)) z))
  have k102 : ¬ (¬ ((hI h 75 24) ≠ 0)) → Wc G tX4_isGood (d + 0) h Q 11 [some (vR 75)] [] h := fun c103 => by
    have z : Q (rV (vI 0)) h := by
      rw [show (vX4_isGood h) = 0 from (b2i_f c103)] at hq
      exact hq
    exact wc_iconst (pc := 11) (dAt dtX4_isGood 5 rfl) ⟨by decide, by decide⟩ (wc_iret (pc := 12) (dAt dtX4_isGood 6 rfl) rfl (nar_bool (Or.inl rfl)) z)
  exact wc_aload_n (pc := 0) (dAt dtX4_isGood 0 rfl) rfl (wc_getKI hg (pc := 1) (dAt dtX4_isGood 1 rfl) flX4_344_4 rfl ka75 (wc_if_ne (pc := 4) (tgt := 11) (dAt dtX4_isGood 2 rfl) (by decide) (fun c104 => (k102 (fun z => z c104))) (fun c104 => (k101 c104))))
theorem bX4_isGood  (h : Hp) : (vX4_isGood h) = 0 ∨ (vX4_isGood h) = 1 := (bool_b2i _)
def tX4_knownWord : Mt := (⟨"FlyingDoctorsModel", "knownWord", "()I"⟩, prog_24_method_24_code, 2, (Option.some Jvm.ClassFile.FieldType.int), [])
def DX4_knownWord : List (Nat × Instr × Nat) := [(0, .aload_n 0, 1), (1, .getfield 116, 3), (4, .iconst 1, 1), (5, .if_icmp .ne 12, 3), (8, .aload_n 0, 1), (9, .getfield 125, 3), (12, .bipush 8, 2), (14, .if_icmp .le 5, 3), (17, .iconst (-1), 1), (18, .ireturn, 1), (19, .iconst 0, 1), (20, .istore_n 1, 1), (21, .iload_n 1, 1), (22, .bipush 27, 2), (24, .if_icmp .ge 25, 3), (27, .aload_n 0, 1), (28, .getfield 143, 3), (31, .iload_n 1, 1), (32, .laload, 1), (33, .aload_n 0, 1), (34, .getfield 106, 3), (37, .lcmp, 1), (38, .ifCond .ne 5, 3), (41, .iload_n 1, 1), (42, .ireturn, 1), (43, .iinc 1 1, 3), (46, .goto (-25), 3), (49, .iconst (-1), 1), (50, .ireturn, 1)]
theorem dtX4_knownWord : chkD (mB tX4_knownWord) DX4_knownWord = true := by decide +kernel
theorem moX4_knownWord : MethOk tX4_knownWord 0 := ⟨Or.inl ⟨rfl, q2561⟩, by decide +kernel, ⟨by decide, by decide⟩, by decide +kernel⟩
def mX4_knownWord  (h : Hp) (Q : Rs → Hp → Prop) : Prop := if ((hI h 75 28) ≠ 1) ∨ (¬ ((hI h 75 30) ≤ 8)) then Q (rV (vI (-1))) h else wh1 (fun (C103 : Int → Prop) (x102 : Int) => if ¬ (27 ≤ x102) then 0 ≤ x102 ∧ x102 < 27 ∧ if ¬ ((lcm (hL h 94 (Int.toNat x102)) (hL h 75 33)) ≠ 0) then Q (rV (vI x102)) h else nm (x102 + 1) ∧ ∀ i110 : Int, i110 = (x102 + 1) → C103 i110 else Q (rV (vI (-1))) h) 0
theorem wX4_knownWord {G : Gx} (hg : gF G = true) {d : Nat}  {h : Hp} {Q : Rs → Hp → Prop} (hm : mX4_knownWord  h Q) : Ct G tX4_knownWord (d + 0) [vR 75] h Q := by
  refine ct_enter (L0 := [some (vR 75), none]) rfl rfl ?_
  unfold mX4_knownWord at hm
  refine wc_aload_n (pc := 0) (dAt dtX4_knownWord 0 rfl) rfl (wc_getKI hg (pc := 1) (dAt dtX4_knownWord 1 rfl) flX4_116_4 rfl ka75 (wc_iconst (pc := 4) (dAt dtX4_knownWord 2 rfl) ⟨by decide, by decide⟩ (?_)))
  have k111 : (((hI h 75 28) ≠ 1) ∨ (¬ ((hI h 75 30) ≤ 8))) → Wc G tX4_knownWord (d + 0) h Q 17 [some (vR 75), none] [] h := fun c101 => by
    replace hm := ite_t c101 hm
    exact wc_iconst (pc := 17) (dAt dtX4_knownWord 8 rfl) ⟨by decide, by decide⟩ (wc_iret (pc := 18) (dAt dtX4_knownWord 9 rfl) rfl (nar_int _) hm)
  have k112 : ¬ (((hI h 75 28) ≠ 1) ∨ (¬ ((hI h 75 30) ≤ 8))) → Wc G tX4_knownWord (d + 0) h Q 19 [some (vR 75), none] [] h := fun c101 => by
    replace hm := ite_f c101 hm
    refine wc_iconst (pc := 19) (dAt dtX4_knownWord 10 rfl) ⟨by decide, by decide⟩ (wc_istore_n (pc := 20) (dAt dtX4_knownWord 11 rfl) (by decide) (wc_L (L' := [some (vR 75), some (vI 0)]) rfl (?_)))
    refine wh1_ind (P := fun (x102 : Int) => Wc G tX4_knownWord (d + 0) h Q 21 [some (vR 75), some (vI x102)] [] h) (fun C103 ih104 x102 hm => ?_) hm
    refine wc_iload_n (pc := 21) (dAt dtX4_knownWord 12 rfl) rfl (wc_bipush (pc := 22) (dAt dtX4_knownWord 13 rfl) ⟨by decide, by decide, by decide⟩ (wc_icmp_ge (pc := 24) (tgt := 49) (dAt dtX4_knownWord 14 rfl) (by decide) (fun c105 => ?_) (fun c105 => ?_)))
    · replace hm := ite_f (fun z => z c105) hm
      exact wc_iconst (pc := 49) (dAt dtX4_knownWord 27 rfl) ⟨by decide, by decide⟩ (wc_iret (pc := 50) (dAt dtX4_knownWord 28 rfl) rfl (nar_int _) hm)
    · replace hm := ite_t c105 hm
      obtain ⟨o106, o107, hm⟩ := hm
      refine wc_aload_n (pc := 27) (dAt dtX4_knownWord 15 rfl) rfl (wc_getKR hg (pc := 28) (dAt dtX4_knownWord 16 rfl) flX4_143_4 rfl ka75 kf75_34 (wc_iload_n (pc := 31) (dAt dtX4_knownWord 17 rfl) rfl (wc_laldK hg (pc := 32) (dAt dtX4_knownWord 18 rfl) kr94 o106 o107 (wc_aload_n (pc := 33) (dAt dtX4_knownWord 19 rfl) rfl (wc_getKL hg (pc := 34) (dAt dtX4_knownWord 20 rfl) flX4_106_4 rfl ka75 (wc_lcmp (pc := 37) (dAt dtX4_knownWord 21 rfl) (wc_if_ne (pc := 38) (tgt := 43) (dAt dtX4_knownWord 22 rfl) (by decide) (fun c108 => ?_) (fun c108 => ?_))))))))
      · replace hm := ite_f (fun z => z c108) hm
        obtain ⟨o109, hm⟩ := hm
        obtain ⟨i110, ei110⟩ : ∃ i110 : Int, i110 = (x102 + 1) := ⟨_, rfl⟩
        replace hm := hm i110 ei110
        exact wc_iinc (v := i110) (pc := 43) (dAt dtX4_knownWord 25 rfl) rfl ei110 (ei110 ▸ o109) (by decide) (wc_L (L' := [some (vR 75), some (vI i110)]) rfl (wc_goto (pc := 46) (tgt := 21) (dAt dtX4_knownWord 26 rfl) (by decide) (ih104 _ hm)))
      · replace hm := ite_t c108 hm
        exact wc_iload_n (pc := 41) (dAt dtX4_knownWord 23 rfl) rfl (wc_iret (pc := 42) (dAt dtX4_knownWord 24 rfl) rfl (nar_int _) hm)
  exact wc_icmp_ne (pc := 5) (tgt := 17) (dAt dtX4_knownWord 3 rfl) (by decide) (fun c113 => (k111 (Or.inl c113))) (fun c113 => wc_aload_n (pc := 8) (dAt dtX4_knownWord 4 rfl) rfl (wc_getKI hg (pc := 9) (dAt dtX4_knownWord 5 rfl) flX4_125_4 rfl ka75 (wc_bipush (pc := 12) (dAt dtX4_knownWord 6 rfl) ⟨by decide, by decide, by decide⟩ (wc_icmp_le (pc := 14) (tgt := 19) (dAt dtX4_knownWord 7 rfl) (by decide) (fun c114 => (k112 (fun z => z.elim c113 (fun z => z c114)))) (fun c114 => (k111 (Or.inr c114)))))))
def tX4_wrong : Mt := (⟨"FlyingDoctorsModel", "wrong", "(I)V"⟩, prog_24_method_25_code, 2, (Option.none : Option Jvm.ClassFile.FieldType), [])
def DX4_wrong : List (Nat × Instr × Nat) := [(0, .aload_n 0, 1), (1, .getfield 344, 3), (4, .ifCond .eq 4, 3), (7, .return_, 1), (8, .aload_n 0, 1), (9, .iload_n 1, 1), (10, .putfield 344, 3), (13, .aload_n 0, 1), (14, .aload_n 0, 1), (15, .getfield 103, 3), (18, .putfield 140, 3), (21, .return_, 1)]
theorem dtX4_wrong : chkD (mB tX4_wrong) DX4_wrong = true := by decide +kernel
theorem moX4_wrong : MethOk tX4_wrong 1 := ⟨Or.inl ⟨rfl, q2565⟩, by decide +kernel, ⟨by decide, by decide⟩, by decide +kernel⟩
def mX4_wrong (x1 : Int) (h : Hp) (Q : Rs → Hp → Prop) : Prop := if ¬ ((hI h 75 24) = 0) then Q rN h else ∀ h102 : Hp, h102 = sI h 75 24 x1 → ∀ h103 : Hp, h103 = sI h102 75 25 (hI h102 75 29) → Q rN h103
theorem wX4_wrong {G : Gx} (hg : gF G = true) {d : Nat} {x1 : Int} {h : Hp} {Q : Rs → Hp → Prop} (hm : mX4_wrong x1 h Q) : Ct G tX4_wrong (d + 0) [vR 75, vI x1] h Q := by
  refine ct_enter (L0 := [some (vR 75), some (vI x1)]) rfl rfl ?_
  unfold mX4_wrong at hm
  refine wc_aload_n (pc := 0) (dAt dtX4_wrong 0 rfl) rfl (wc_getKI hg (pc := 1) (dAt dtX4_wrong 1 rfl) flX4_344_4 rfl ka75 (wc_if_eq (pc := 4) (tgt := 8) (dAt dtX4_wrong 2 rfl) (by decide) (fun c101 => ?_) (fun c101 => ?_)))
  · replace hm := ite_f (fun z => z c101) hm
    obtain ⟨h102, eh102⟩ : ∃ h102 : Hp, h102 = sI h 75 24 x1 := ⟨_, rfl⟩
    replace hm := hm h102 eh102
    obtain ⟨h103, eh103⟩ : ∃ h103 : Hp, h103 = sI h102 75 25 (hI h102 75 29) := ⟨_, rfl⟩
    replace hm := hm h103 eh103
    exact wc_aload_n (pc := 8) (dAt dtX4_wrong 4 rfl) rfl (wc_iload_n (pc := 9) (dAt dtX4_wrong 5 rfl) rfl (wc_putKI hg (pc := 10) (dAt dtX4_wrong 6 rfl) flX4_344_4 (Or.inl rfl) rfl ka75 (by decide) (okI_int _) (wc_hp eh102 (wc_aload_n (pc := 13) (dAt dtX4_wrong 7 rfl) rfl (wc_aload_n (pc := 14) (dAt dtX4_wrong 8 rfl) rfl (wc_getKI hg (pc := 15) (dAt dtX4_wrong 9 rfl) flX4_103_4 rfl ka75 (wc_putKI hg (pc := 18) (dAt dtX4_wrong 10 rfl) flX4_140_4 (Or.inl rfl) rfl ka75 (by decide) (okI_int _) (wc_hp eh103 (wc_vret (pc := 21) (dAt dtX4_wrong 11 rfl) rfl hm)))))))))
  · replace hm := ite_t c101 hm
    exact wc_vret (pc := 7) (dAt dtX4_wrong 3 rfl) rfl hm
def tX4_findWord : Mt := (⟨"FlyingDoctorsModel", "findWord", "()I"⟩, prog_24_method_33_code, 2, (Option.some Jvm.ClassFile.FieldType.int), [])
def DX4_findWord : List (Nat × Instr × Nat) := [(0, .iconst 0, 1), (1, .istore_n 1, 1), (2, .iload_n 1, 1), (3, .aload_n 0, 1), (4, .getfield 372, 3), (7, .if_icmp .ge 44, 3), (10, .aload_n 0, 1), (11, .getfield 174, 3), (14, .aload_n 0, 1), (15, .getfield 177, 3), (18, .iload_n 1, 1), (19, .iaload, 1), (20, .laload, 1), (21, .aload_n 0, 1), (22, .getfield 106, 3), (25, .lcmp, 1), (26, .ifCond .ne 19, 3), (29, .aload_n 0, 1), (30, .getfield 125, 3), (33, .bipush 8, 2), (35, .if_icmp .gt 10, 3), (38, .aload_n 0, 1), (39, .getfield 177, 3), (42, .iload_n 1, 1), (43, .iaload, 1), (44, .ireturn, 1), (45, .iinc 1 1, 3), (48, .goto (-46), 3), (51, .iconst (-1), 1), (52, .ireturn, 1)]
theorem dtX4_findWord : chkD (mB tX4_findWord) DX4_findWord = true := by decide +kernel
theorem moX4_findWord : MethOk tX4_findWord 0 := ⟨Or.inl ⟨rfl, q2573⟩, by decide +kernel, ⟨by decide, by decide⟩, by decide +kernel⟩
def mX4_findWord  (h : Hp) (Q : Rs → Hp → Prop) : Prop := wh1 (fun (C102 : Int → Prop) (x101 : Int) => if ¬ ((hI h 75 38) ≤ x101) then 0 ≤ x101 ∧ x101 < 12 ∧ 0 ≤ (hI h 105 (Int.toNat x101)) ∧ (hI h 105 (Int.toNat x101)) < 32 ∧ if ¬ ((lcm (hL h 104 (Int.toNat (hI h 105 (Int.toNat x101)))) (hL h 75 33)) ≠ 0) ∧ (¬ (8 < (hI h 75 30))) then Q (rV (vI (hI h 105 (Int.toNat x101)))) h else nm (x101 + 1) ∧ ∀ i111 : Int, i111 = (x101 + 1) → C102 i111 else Q (rV (vI (-1))) h) 0
theorem wX4_findWord {G : Gx} (hg : gF G = true) {d : Nat}  {h : Hp} {Q : Rs → Hp → Prop} (hm : mX4_findWord  h Q) : Ct G tX4_findWord (d + 0) [vR 75] h Q := by
  refine ct_enter (L0 := [some (vR 75), none]) rfl rfl ?_
  unfold mX4_findWord at hm
  refine wc_iconst (pc := 0) (dAt dtX4_findWord 0 rfl) ⟨by decide, by decide⟩ (wc_istore_n (pc := 1) (dAt dtX4_findWord 1 rfl) (by decide) (wc_L (L' := [some (vR 75), some (vI 0)]) rfl (?_)))
  refine wh1_ind (P := fun (x101 : Int) => Wc G tX4_findWord (d + 0) h Q 2 [some (vR 75), some (vI x101)] [] h) (fun C102 ih103 x101 hm => ?_) hm
  refine wc_iload_n (pc := 2) (dAt dtX4_findWord 2 rfl) rfl (wc_aload_n (pc := 3) (dAt dtX4_findWord 3 rfl) rfl (wc_getKI hg (pc := 4) (dAt dtX4_findWord 4 rfl) flX4_372_4 rfl ka75 (wc_icmp_ge (pc := 7) (tgt := 51) (dAt dtX4_findWord 5 rfl) (by decide) (fun c104 => ?_) (fun c104 => ?_))))
  · replace hm := ite_f (fun z => z c104) hm
    exact wc_iconst (pc := 51) (dAt dtX4_findWord 28 rfl) ⟨by decide, by decide⟩ (wc_iret (pc := 52) (dAt dtX4_findWord 29 rfl) rfl (nar_int _) hm)
  · replace hm := ite_t c104 hm
    obtain ⟨o105, o106, o107, o108, hm⟩ := hm
    refine wc_aload_n (pc := 10) (dAt dtX4_findWord 6 rfl) rfl (wc_getKR hg (pc := 11) (dAt dtX4_findWord 7 rfl) flX4_174_4 rfl ka75 kf75_49 (wc_aload_n (pc := 14) (dAt dtX4_findWord 8 rfl) rfl (wc_getKR hg (pc := 15) (dAt dtX4_findWord 9 rfl) flX4_177_4 rfl ka75 kf75_50 (wc_iload_n (pc := 18) (dAt dtX4_findWord 10 rfl) rfl (wc_ialdK hg (pc := 19) (dAt dtX4_findWord 11 rfl) kr105 o105 o106 (wc_laldK hg (pc := 20) (dAt dtX4_findWord 12 rfl) kr104 o107 o108 (wc_aload_n (pc := 21) (dAt dtX4_findWord 13 rfl) rfl (wc_getKL hg (pc := 22) (dAt dtX4_findWord 14 rfl) flX4_106_4 rfl ka75 (wc_lcmp (pc := 25) (dAt dtX4_findWord 15 rfl) (?_))))))))))
    have k112 : (¬ ((lcm (hL h 104 (Int.toNat (hI h 105 (Int.toNat x101)))) (hL h 75 33)) ≠ 0) ∧ (¬ (8 < (hI h 75 30)))) → Wc G tX4_findWord (d + 0) h Q 38 [some (vR 75), some (vI x101)] [] h := fun c109 => by
      replace hm := ite_t c109 hm
      exact wc_aload_n (pc := 38) (dAt dtX4_findWord 21 rfl) rfl (wc_getKR hg (pc := 39) (dAt dtX4_findWord 22 rfl) flX4_177_4 rfl ka75 kf75_50 (wc_iload_n (pc := 42) (dAt dtX4_findWord 23 rfl) rfl (wc_ialdK hg (pc := 43) (dAt dtX4_findWord 24 rfl) kr105 o105 o106 (wc_iret (pc := 44) (dAt dtX4_findWord 25 rfl) rfl (nar_int _) hm))))
    have k113 : ¬ (¬ ((lcm (hL h 104 (Int.toNat (hI h 105 (Int.toNat x101)))) (hL h 75 33)) ≠ 0) ∧ (¬ (8 < (hI h 75 30)))) → Wc G tX4_findWord (d + 0) h Q 45 [some (vR 75), some (vI x101)] [] h := fun c109 => by
      replace hm := ite_f c109 hm
      obtain ⟨o110, hm⟩ := hm
      obtain ⟨i111, ei111⟩ : ∃ i111 : Int, i111 = (x101 + 1) := ⟨_, rfl⟩
      replace hm := hm i111 ei111
      exact wc_iinc (v := i111) (pc := 45) (dAt dtX4_findWord 26 rfl) rfl ei111 (ei111 ▸ o110) (by decide) (wc_L (L' := [some (vR 75), some (vI i111)]) rfl (wc_goto (pc := 48) (tgt := 2) (dAt dtX4_findWord 27 rfl) (by decide) (ih103 _ hm)))
    exact wc_if_ne (pc := 26) (tgt := 45) (dAt dtX4_findWord 16 rfl) (by decide) (fun c114 => (k113 (fun z => z.1 c114))) (fun c114 => wc_aload_n (pc := 29) (dAt dtX4_findWord 17 rfl) rfl (wc_getKI hg (pc := 30) (dAt dtX4_findWord 18 rfl) flX4_125_4 rfl ka75 (wc_bipush (pc := 33) (dAt dtX4_findWord 19 rfl) ⟨by decide, by decide, by decide⟩ (wc_icmp_gt (pc := 35) (tgt := 45) (dAt dtX4_findWord 20 rfl) (by decide) (fun c115 => (k113 (fun z => (fun z => z c115) z.2))) (fun c115 => (k112 ⟨c114, c115⟩))))))
