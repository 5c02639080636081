set_option maxRecDepth 100000
set_option maxHeartbeats 1000000
/-! what methods do, and their walks, by program -/
def tX8_clause : Mt := (⟨"FlyingDoctors$Reader", "clause", "(LFlyingDoctors$Rules;)V"⟩, prog_16_method_27_code, 6, (Option.none : Option Jvm.ClassFile.FieldType), [])
def DX8_clause : List (Nat × Instr × Nat) := [(0, .aload_n 0, 1), (1, .ldc 243, 2), (3, .invokevirtual 126, 3), (6, .istore_n 2, 1), (7, .aload_n 0, 1), (8, .ldc 245, 2), (10, .invokevirtual 126, 3), (13, .istore_n 3, 1), (14, .aload_n 0, 1), (15, .ldc 247, 2), (17, .invokevirtual 126, 3), (20, .istore 4, 2), (22, .aload_n 0, 1), (23, .ldc 249, 2), (25, .invokevirtual 126, 3), (28, .istore 5, 2), (30, .aload_n 0, 1), (31, .iload_n 2, 1), (32, .ifCond .ne 26, 3), (35, .iload_n 3, 1), (36, .ifCond .ne 22, 3), (39, .iload 4, 2), (41, .ifCond .ne 17, 3), (44, .iload 5, 2), (46, .ifCond .ne 12, 3), (49, .aload_n 0, 1), (50, .ldc 251, 2), (52, .invokevirtual 126, 3), (55, .ifCond .eq 7, 3), (58, .iconst 1, 1), (59, .goto 4, 3), (62, .iconst 0, 1), (63, .invokevirtual 111, 3), (66, .aload_n 0, 1), (67, .getfield 253, 3), (70, .bipush 30, 2), (72, .if_icmp .ne 12, 3), (75, .new 102, 3), (78, .dup, 1), (79, .iconst 2, 1), (80, .invokespecial 104, 3), (83, .athrow, 1), (84, .aload_n 0, 1), (85, .dup, 1), (86, .getfield 253, 3), (89, .iconst 1, 1), (90, .iadd, 1), (91, .putfield 253, 3), (94, .iload_n 2, 1), (95, .ifCond .eq 10, 3), (98, .aload_n 0, 1), (99, .invokevirtual 256, 3), (102, .goto 58, 3), (105, .iload_n 3, 1), (106, .ifCond .eq 14, 3), (109, .aload_n 1, 1), (110, .aload_n 0, 1), (111, .invokevirtual 258, 3), (114, .putfield 261, 3), (117, .goto 43, 3), (120, .iload 4, 2), (122, .ifCond .eq 20, 3), (125, .aload_n 1, 1), (126, .getfield 263, 3), (129, .aload_n 0, 1), (130, .invokevirtual 258, 3), (133, .invokeinterface 215 2, 5), (138, .pop, 1), (139, .goto 21, 3), (142, .iload 5, 2), (144, .ifCond .eq 11, 3), (147, .aload_n 0, 1), (148, .aload_n 1, 1), (149, .invokevirtual 266, 3), (152, .goto 8, 3), (155, .aload_n 0, 1), (156, .aload_n 1, 1), (157, .invokevirtual 269, 3), (160, .return_, 1)]
theorem dtX8_clause : chkD (mB tX8_clause) DX8_clause = true := by decide +kernel
theorem moX8_clause : MethOk tX8_clause 1 := ⟨Or.inl ⟨rfl, q932⟩, by decide +kernel, ⟨by decide, by decide⟩, by decide +kernel⟩
def mX8_clause (r0 : Nat) (r1 : Nat) (h : Hp) (Q : Rs → Hp → Prop) : Prop := ob h r0 8 ∧ mX8_is r0 12 h (kI Q (fun x103 h102 => ob h102 r0 8 ∧ mX8_is r0 13 h102 (kI Q (fun x106 h105 => ob h105 r0 8 ∧ mX8_is r0 14 h105 (kI Q (fun x109 h108 => ob h108 r0 8 ∧ mX8_is r0 15 h108 (kI Q (fun x112 h111 => jn (fun (h115 : Hp) => ob h115 r0 8 ∧ mX8_want r0 1 h115 (kN Q (fun h160 => ob h160 r0 8 ∧ if ¬ ((hI h160 r0 8) ≠ 30) then hn h160 + 1 ≤ 878547 ∧ hq h160 + 7 ≤ 6460613 ∧ ∀ r166 : Nat, r166 = hn h160 → ∀ h167 : Hp, h167 = nw h160 9 0 7 → mX9_init r166 2 h167 (kN Q (fun h168 => ob h168 r166 9 ∧ Q (rX r166) h168)) else nm ((hI h160 r0 8) + 1) ∧ ∀ h172 : Hp, h172 = sI h160 r0 8 ((hI h160 r0 8) + 1) → if ¬ (x103 = 0) then mX8_word r0 h172 (kN Q (fun h174 => Q rN h174)) else if ¬ (x106 = 0) then mX8_clauseOf r0 h172 (kR Q (fun r177 h176 => ob h176 r1 2 ∧ ∀ h180 : Hp, h180 = sR h176 r1 3 r177 → Q rN h180)) else if ¬ (x109 = 0) then ob h172 r1 2 ∧ mX8_clauseOf r0 h172 (kR Q (fun r184 h183 => ob h183 (hR h172 r1 1) 32 ∧ mJ2_add (hR h172 r1 1) r184 h183 (kI Q (fun x187 h186 => Q rN h186)))) else if ¬ (x112 = 0) then mX8_chest r0 r1 h172 (kN Q (fun h189 => Q rN h189)) else mX8_set r0 r1 h172 (kN Q (fun h190 => Q rN h190))))) (fun K113 => if ¬ (x103 ≠ 0) ∧ (¬ (x106 ≠ 0) ∧ (¬ (x109 ≠ 0) ∧ (¬ (x112 ≠ 0)))) then ob h111 r0 8 ∧ mX8_is r0 16 h111 (kI Q (fun x119 h118 => if ¬ (x119 = 0) then K113 h118 else ob h118 r0 8 ∧ mX8_want r0 0 h118 (kN Q (fun h122 => ob h122 r0 8 ∧ if ¬ ((hI h122 r0 8) ≠ 30) then hn h122 + 1 ≤ 878547 ∧ hq h122 + 7 ≤ 6460613 ∧ ∀ r128 : Nat, r128 = hn h122 → ∀ h129 : Hp, h129 = nw h122 9 0 7 → mX9_init r128 2 h129 (kN Q (fun h130 => ob h130 r128 9 ∧ Q (rX r128) h130)) else nm ((hI h122 r0 8) + 1) ∧ ∀ h134 : Hp, h134 = sI h122 r0 8 ((hI h122 r0 8) + 1) → if ¬ (x103 = 0) then mX8_word r0 h134 (kN Q (fun h136 => Q rN h136)) else if ¬ (x106 = 0) then mX8_clauseOf r0 h134 (kR Q (fun r139 h138 => ob h138 r1 2 ∧ ∀ h142 : Hp, h142 = sR h138 r1 3 r139 → Q rN h142)) else if ¬ (x109 = 0) then ob h134 r1 2 ∧ mX8_clauseOf r0 h134 (kR Q (fun r146 h145 => ob h145 (hR h134 r1 1) 32 ∧ mJ2_add (hR h134 r1 1) r146 h145 (kI Q (fun x149 h148 => Q rN h148)))) else if ¬ (x112 = 0) then mX8_chest r0 r1 h134 (kN Q (fun h151 => Q rN h151)) else mX8_set r0 r1 h134 (kN Q (fun h152 => Q rN h152)))))) else K113 h111)))))))))
theorem wX8_clause {G : Gx} (hg : gF G = true) {d : Nat} {r0 : Nat} {r1 : Nat} {h : Hp} {Q : Rs → Hp → Prop} (hm : mX8_clause r0 r1 h Q) : Ct G tX8_clause (d + 93) [vR r0, vR r1] h Q := by
  refine ct_enter (L0 := [some (vR r0), some (vR r1), none, none, none, none]) rfl rfl ?_
  unfold mX8_clause at hm
  obtain ⟨o101, hm⟩ := hm
  refine wc_aload_n (pc := 0) (dAt dtX8_clause 0 rfl) rfl (wc_ldcS (a := 12) (tx := "word") (pc := 1) (dAt dtX8_clause 1 rfl) (by decide +kernel) (by decide) (wc_callV (k := 8) (y' := tX8_is) (av := [vR 12]) (st := []) (pc := 3) (dAt dtX8_clause 2 rfl) lkX8_126 moX8_is q936 qs12 (by decide) o101 rfl rfl (Nat.le_of_ble_eq_true rfl) (wX8_is hg hm) (kr_I (fun x103 h102 hm => ?_)) (kx_I rfl)))
  obtain ⟨o104, hm⟩ := hm
  refine wc_istore_n (pc := 6) (dAt dtX8_clause 3 rfl) (by decide) (wc_L (L' := [some (vR r0), some (vR r1), some (vI x103), none, none, none]) rfl (wc_aload_n (pc := 7) (dAt dtX8_clause 4 rfl) rfl (wc_ldcS (a := 13) (tx := "first") (pc := 8) (dAt dtX8_clause 5 rfl) (by decide +kernel) (by decide) (wc_callV (k := 8) (y' := tX8_is) (av := [vR 13]) (st := []) (pc := 10) (dAt dtX8_clause 6 rfl) lkX8_126 moX8_is q936 qs12 (by decide) o104 rfl rfl (Nat.le_of_ble_eq_true rfl) (wX8_is hg hm) (kr_I (fun x106 h105 hm => ?_)) (kx_I rfl)))))
  obtain ⟨o107, hm⟩ := hm
  refine wc_istore_n (pc := 13) (dAt dtX8_clause 7 rfl) (by decide) (wc_L (L' := [some (vR r0), some (vR r1), some (vI x103), some (vI x106), none, none]) rfl (wc_aload_n (pc := 14) (dAt dtX8_clause 8 rfl) rfl (wc_ldcS (a := 14) (tx := "fly") (pc := 15) (dAt dtX8_clause 9 rfl) (by decide +kernel) (by decide) (wc_callV (k := 8) (y' := tX8_is) (av := [vR 14]) (st := []) (pc := 17) (dAt dtX8_clause 10 rfl) lkX8_126 moX8_is q936 qs12 (by decide) o107 rfl rfl (Nat.le_of_ble_eq_true rfl) (wX8_is hg hm) (kr_I (fun x109 h108 hm => ?_)) (kx_I rfl)))))
  obtain ⟨o110, hm⟩ := hm
  refine wc_istore (pc := 20) (dAt dtX8_clause 11 rfl) (by decide) (wc_L (L' := [some (vR r0), some (vR r1), some (vI x103), some (vI x106), some (vI x109), none]) rfl (wc_aload_n (pc := 22) (dAt dtX8_clause 12 rfl) rfl (wc_ldcS (a := 15) (tx := "chest") (pc := 23) (dAt dtX8_clause 13 rfl) (by decide +kernel) (by decide) (wc_callV (k := 8) (y' := tX8_is) (av := [vR 15]) (st := []) (pc := 25) (dAt dtX8_clause 14 rfl) lkX8_126 moX8_is q936 qs12 (by decide) o110 rfl rfl (Nat.le_of_ble_eq_true rfl) (wX8_is hg hm) (kr_I (fun x112 h111 hm => ?_)) (kx_I rfl)))))
  refine wc_istore (pc := 28) (dAt dtX8_clause 15 rfl) (by decide) (wc_L (L' := [some (vR r0), some (vR r1), some (vI x103), some (vI x106), some (vI x109), some (vI x112)]) rfl (wc_aload_n (pc := 30) (dAt dtX8_clause 16 rfl) rfl (wc_iload_n (pc := 31) (dAt dtX8_clause 17 rfl) rfl (?_))))
  refine jn1_ind (P := fun (h115 : Hp) => Wc G tX8_clause (d + 93) h Q 58 [some (vR r0), some (vR r1), some (vI x103), some (vI x106), some (vI x109), some (vI x112)] [vR r0] h115) (fun h115 hm => ?_) (fun K113 kj114 hm => ?_) hm
  · obtain ⟨o159, hm⟩ := hm
    refine wc_iconst (pc := 58) (dAt dtX8_clause 29 rfl) ⟨by decide, by decide⟩ (wc_goto (pc := 59) (tgt := 63) (dAt dtX8_clause 30 rfl) (by decide) (wc_callV (k := 8) (y' := tX8_want) (av := [vI 1]) (st := []) (pc := 63) (dAt dtX8_clause 32 rfl) lkX8_111 moX8_want q963 qs13 (by decide) o159 rfl rfl (Nat.le_of_ble_eq_true rfl) (wX8_want hg hm) (kr_N (fun h160 hm => ?_)) (kx_N rfl)))
    obtain ⟨o161, hm⟩ := hm
    refine wc_aload_n (pc := 66) (dAt dtX8_clause 33 rfl) rfl (wc_getI (pc := 67) (dAt dtX8_clause 34 rfl) flX8_253_8 rfl o161 (wc_bipush (pc := 70) (dAt dtX8_clause 35 rfl) ⟨by decide, by decide, by decide⟩ (wc_icmp_ne (pc := 72) (tgt := 84) (dAt dtX8_clause 36 rfl) (by decide) (fun c162 => ?_) (fun c162 => ?_))))
    · replace hm := ite_f (fun z => z c162) hm
      obtain ⟨o170, hm⟩ := hm
      obtain ⟨h172, eh172⟩ : ∃ h172 : Hp, h172 = sI h160 r0 8 ((hI h160 r0 8) + 1) := ⟨_, rfl⟩
      replace hm := hm h172 eh172
      refine wc_aload_n (pc := 84) (dAt dtX8_clause 42 rfl) rfl (wc_dup (pc := 85) (dAt dtX8_clause 43 rfl) rfl (wc_getI (pc := 86) (dAt dtX8_clause 44 rfl) flX8_253_8 rfl o161 (wc_iconst (pc := 89) (dAt dtX8_clause 45 rfl) ⟨by decide, by decide⟩ (wc_iadd (pc := 90) (dAt dtX8_clause 46 rfl) o170 (wc_newer o161 (by decide) fun n171 => (wc_putI (pc := 91) (dAt dtX8_clause 47 rfl) flX8_253_8 (Or.inl rfl) rfl o161 n171 (okI_int _) (wc_hp eh172 (wc_iload_n (pc := 94) (dAt dtX8_clause 48 rfl) rfl (wc_if_eq (pc := 95) (tgt := 105) (dAt dtX8_clause 49 rfl) (by decide) (fun c173 => ?_) (fun c173 => ?_))))))))))
      · replace hm := ite_f (fun z => z c173) hm
        refine wc_iload_n (pc := 105) (dAt dtX8_clause 53 rfl) rfl (wc_if_eq (pc := 106) (tgt := 120) (dAt dtX8_clause 54 rfl) (by decide) (fun c175 => ?_) (fun c175 => ?_))
        · replace hm := ite_f (fun z => z c175) hm
          refine wc_iload (pc := 120) (dAt dtX8_clause 60 rfl) rfl (wc_if_eq (pc := 122) (tgt := 142) (dAt dtX8_clause 61 rfl) (by decide) (fun c181 => ?_) (fun c181 => ?_))
          · replace hm := ite_f (fun z => z c181) hm
            refine wc_iload (pc := 142) (dAt dtX8_clause 69 rfl) rfl (wc_if_eq (pc := 144) (tgt := 155) (dAt dtX8_clause 70 rfl) (by decide) (fun c188 => ?_) (fun c188 => ?_))
            · replace hm := ite_f (fun z => z c188) hm
              refine wc_aload_n (pc := 155) (dAt dtX8_clause 75 rfl) rfl (wc_aload_n (pc := 156) (dAt dtX8_clause 76 rfl) rfl (wc_callV (k := 8) (y' := tX8_set) (av := [vR r1]) (st := []) (pc := 157) (dAt dtX8_clause 77 rfl) lkX8_269 moX8_set q1455 qs32 (by decide) (ob_sI eh172 o161) rfl rfl (Nat.le_of_ble_eq_true rfl) (wX8_set hg hm) (kr_N (fun h190 hm => ?_)) (kx_N rfl)))
              exact wc_vret (pc := 160) (dAt dtX8_clause 78 rfl) rfl hm
            · replace hm := ite_t c188 hm
              refine wc_aload_n (pc := 147) (dAt dtX8_clause 71 rfl) rfl (wc_aload_n (pc := 148) (dAt dtX8_clause 72 rfl) rfl (wc_callV (k := 8) (y' := tX8_chest) (av := [vR r1]) (st := []) (pc := 149) (dAt dtX8_clause 73 rfl) lkX8_266 moX8_chest q1430 qs31 (by decide) (ob_sI eh172 o161) rfl rfl (Nat.le_of_ble_eq_true rfl) (wX8_chest hg hm) (kr_N (fun h189 hm => ?_)) (kx_N rfl)))
              exact wc_goto (pc := 152) (tgt := 160) (dAt dtX8_clause 74 rfl) (by decide) (wc_vret (pc := 160) (dAt dtX8_clause 78 rfl) rfl hm)
          · replace hm := ite_t c181 hm
            obtain ⟨o182, hm⟩ := hm
            refine wc_aload_n (pc := 125) (dAt dtX8_clause 62 rfl) rfl (wc_getR (pc := 126) (dAt dtX8_clause 63 rfl) flX8_263_2 rfl o182 (wc_aload_n (pc := 129) (dAt dtX8_clause 64 rfl) rfl (wc_callV (k := 8) (y' := tX8_clauseOf) (av := []) (st := [vR (hR h172 r1 1)]) (pc := 130) (dAt dtX8_clause 65 rfl) lkX8_258 moX8_clauseOf q1296 qs20 (by decide) (ob_sI eh172 o161) rfl rfl (Nat.le_of_ble_eq_true rfl) (wX8_clauseOf hg hm) (kr_R (fun r184 h183 hm => ?_)) (kx_R rfl))))
            obtain ⟨o185, hm⟩ := hm
            refine wc_callF (k := 32) (x := ⟨"java/util/List", "add", "(Ljava/lang/Object;)Z"⟩) (y' := tJ2_add) (av := [vR r184]) (st := []) (pc := 133) (dAt dtX8_clause 66 rfl) q1285 q424 q423 ⟨by decide, by decide⟩ moJ2_add rfl q427 q428 q426 q367 q425 (by decide) o185 rfl rfl (Nat.le_of_ble_eq_true rfl) (wJ2_add hg hm) (kr_I (fun x187 h186 hm => ?_)) (kx_I rfl)
            exact wc_pop (pc := 138) (dAt dtX8_clause 67 rfl) rfl (wc_goto (pc := 139) (tgt := 160) (dAt dtX8_clause 68 rfl) (by decide) (wc_vret (pc := 160) (dAt dtX8_clause 78 rfl) rfl hm))
        · replace hm := ite_t c175 hm
          refine wc_aload_n (pc := 109) (dAt dtX8_clause 55 rfl) rfl (wc_aload_n (pc := 110) (dAt dtX8_clause 56 rfl) rfl (wc_callV (k := 8) (y' := tX8_clauseOf) (av := []) (st := [vR r1]) (pc := 111) (dAt dtX8_clause 57 rfl) lkX8_258 moX8_clauseOf q1296 qs20 (by decide) (ob_sI eh172 o161) rfl rfl (Nat.le_of_ble_eq_true rfl) (wX8_clauseOf hg hm) (kr_R (fun r177 h176 hm => ?_)) (kx_R rfl)))
          obtain ⟨o178, hm⟩ := hm
          obtain ⟨h180, eh180⟩ : ∃ h180 : Hp, h180 = sR h176 r1 3 r177 := ⟨_, rfl⟩
          replace hm := hm h180 eh180
          exact wc_newer o178 (by decide) fun n179 => (wc_putR (pc := 114) (dAt dtX8_clause 58 rfl) flX8_261_2 (Or.inl rfl) rfl o178 n179 (fun _ => ⟨by decide, by decide, by decide⟩) (wc_hp eh180 (wc_goto (pc := 117) (tgt := 160) (dAt dtX8_clause 59 rfl) (by decide) (wc_vret (pc := 160) (dAt dtX8_clause 78 rfl) rfl hm))))
      · replace hm := ite_t c173 hm
        refine wc_aload_n (pc := 98) (dAt dtX8_clause 50 rfl) rfl (wc_callV (k := 8) (y' := tX8_word) (av := []) (st := []) (pc := 99) (dAt dtX8_clause 51 rfl) lkX8_256 moX8_word q991 qs14 (by decide) (ob_sI eh172 o161) rfl rfl (Nat.le_of_ble_eq_true rfl) (wX8_word hg hm) (kr_N (fun h174 hm => ?_)) (kx_N rfl))
        exact wc_goto (pc := 102) (tgt := 160) (dAt dtX8_clause 52 rfl) (by decide) (wc_vret (pc := 160) (dAt dtX8_clause 78 rfl) rfl hm)
    · replace hm := ite_t c162 hm
      obtain ⟨o163, o164, hm⟩ := hm
      obtain ⟨r166, er166⟩ : ∃ r166 : Nat, r166 = hn h160 := ⟨_, rfl⟩
      replace hm := hm r166 er166
      obtain ⟨h167, eh167⟩ : ∃ h167 : Hp, h167 = nw h160 9 0 7 := ⟨_, rfl⟩
      replace hm := hm h167 eh167
      refine wc_k0 fun n165 => (wc_new (k := 9) (pc := 75) (dAt dtX8_clause 37 rfl) q965 q966 q154 (by decide) o163 o164 (wc_hp eh167 (wc_vr er166 (wc_dup (pc := 78) (dAt dtX8_clause 38 rfl) rfl (wc_iconst (pc := 79) (dAt dtX8_clause 39 rfl) ⟨by decide, by decide⟩ (wc_callI (y' := tX9_init) (av := [vI 2]) (st := [vR r166]) (pc := 80) (dAt dtX8_clause 40 rfl) lkX8_104 moX9_init q975 rfl q976 (k0_at er166 n165) rfl rfl (Nat.le_of_ble_eq_true rfl) (wX9_init hg hm) (kr_N (fun h168 hm => ?_)) (kx_N rfl)))))))
      obtain ⟨o169, hm⟩ := hm
      exact wc_athrow (pc := 83) (dAt dtX8_clause 41 rfl) (by decide) o169 rfl hm
  · have k153 : (¬ (x103 ≠ 0) ∧ (¬ (x106 ≠ 0) ∧ (¬ (x109 ≠ 0) ∧ (¬ (x112 ≠ 0))))) → Wc G tX8_clause (d + 93) h Q 49 [some (vR r0), some (vR r1), some (vI x103), some (vI x106), some (vI x109), some (vI x112)] [vR r0] h111 := fun c116 => by
      replace hm := ite_t c116 hm
      obtain ⟨o117, hm⟩ := hm
      refine wc_aload_n (pc := 49) (dAt dtX8_clause 25 rfl) rfl (wc_ldcS (a := 16) (tx := "set") (pc := 50) (dAt dtX8_clause 26 rfl) (by decide +kernel) (by decide) (wc_callV (k := 8) (y' := tX8_is) (av := [vR 16]) (st := [vR r0]) (pc := 52) (dAt dtX8_clause 27 rfl) lkX8_126 moX8_is q936 qs12 (by decide) o117 rfl rfl (Nat.le_of_ble_eq_true rfl) (wX8_is hg hm) (kr_I (fun x119 h118 hm => ?_)) (kx_I rfl)))
      refine wc_if_eq (pc := 55) (tgt := 62) (dAt dtX8_clause 28 rfl) (by decide) (fun c120 => ?_) (fun c120 => ?_)
      · replace hm := ite_f (fun z => z c120) hm
        obtain ⟨o121, hm⟩ := hm
        refine wc_iconst (pc := 62) (dAt dtX8_clause 31 rfl) ⟨by decide, by decide⟩ (wc_callV (k := 8) (y' := tX8_want) (av := [vI 0]) (st := []) (pc := 63) (dAt dtX8_clause 32 rfl) lkX8_111 moX8_want q963 qs13 (by decide) o121 rfl rfl (Nat.le_of_ble_eq_true rfl) (wX8_want hg hm) (kr_N (fun h122 hm => ?_)) (kx_N rfl))
        obtain ⟨o123, hm⟩ := hm
        refine wc_aload_n (pc := 66) (dAt dtX8_clause 33 rfl) rfl (wc_getI (pc := 67) (dAt dtX8_clause 34 rfl) flX8_253_8 rfl o123 (wc_bipush (pc := 70) (dAt dtX8_clause 35 rfl) ⟨by decide, by decide, by decide⟩ (wc_icmp_ne (pc := 72) (tgt := 84) (dAt dtX8_clause 36 rfl) (by decide) (fun c124 => ?_) (fun c124 => ?_))))
        · replace hm := ite_f (fun z => z c124) hm
          obtain ⟨o132, hm⟩ := hm
          obtain ⟨h134, eh134⟩ : ∃ h134 : Hp, h134 = sI h122 r0 8 ((hI h122 r0 8) + 1) := ⟨_, rfl⟩
          replace hm := hm h134 eh134
          refine wc_aload_n (pc := 84) (dAt dtX8_clause 42 rfl) rfl (wc_dup (pc := 85) (dAt dtX8_clause 43 rfl) rfl (wc_getI (pc := 86) (dAt dtX8_clause 44 rfl) flX8_253_8 rfl o123 (wc_iconst (pc := 89) (dAt dtX8_clause 45 rfl) ⟨by decide, by decide⟩ (wc_iadd (pc := 90) (dAt dtX8_clause 46 rfl) o132 (wc_newer o123 (by decide) fun n133 => (wc_putI (pc := 91) (dAt dtX8_clause 47 rfl) flX8_253_8 (Or.inl rfl) rfl o123 n133 (okI_int _) (wc_hp eh134 (wc_iload_n (pc := 94) (dAt dtX8_clause 48 rfl) rfl (wc_if_eq (pc := 95) (tgt := 105) (dAt dtX8_clause 49 rfl) (by decide) (fun c135 => ?_) (fun c135 => ?_))))))))))
          · replace hm := ite_f (fun z => z c135) hm
            refine wc_iload_n (pc := 105) (dAt dtX8_clause 53 rfl) rfl (wc_if_eq (pc := 106) (tgt := 120) (dAt dtX8_clause 54 rfl) (by decide) (fun c137 => ?_) (fun c137 => ?_))
            · replace hm := ite_f (fun z => z c137) hm
              refine wc_iload (pc := 120) (dAt dtX8_clause 60 rfl) rfl (wc_if_eq (pc := 122) (tgt := 142) (dAt dtX8_clause 61 rfl) (by decide) (fun c143 => ?_) (fun c143 => ?_))
              · replace hm := ite_f (fun z => z c143) hm
                refine wc_iload (pc := 142) (dAt dtX8_clause 69 rfl) rfl (wc_if_eq (pc := 144) (tgt := 155) (dAt dtX8_clause 70 rfl) (by decide) (fun c150 => ?_) (fun c150 => ?_))
                · replace hm := ite_f (fun z => z c150) hm
                  refine wc_aload_n (pc := 155) (dAt dtX8_clause 75 rfl) rfl (wc_aload_n (pc := 156) (dAt dtX8_clause 76 rfl) rfl (wc_callV (k := 8) (y' := tX8_set) (av := [vR r1]) (st := []) (pc := 157) (dAt dtX8_clause 77 rfl) lkX8_269 moX8_set q1455 qs32 (by decide) (ob_sI eh134 o123) rfl rfl (Nat.le_of_ble_eq_true rfl) (wX8_set hg hm) (kr_N (fun h152 hm => ?_)) (kx_N rfl)))
                  exact wc_vret (pc := 160) (dAt dtX8_clause 78 rfl) rfl hm
                · replace hm := ite_t c150 hm
                  refine wc_aload_n (pc := 147) (dAt dtX8_clause 71 rfl) rfl (wc_aload_n (pc := 148) (dAt dtX8_clause 72 rfl) rfl (wc_callV (k := 8) (y' := tX8_chest) (av := [vR r1]) (st := []) (pc := 149) (dAt dtX8_clause 73 rfl) lkX8_266 moX8_chest q1430 qs31 (by decide) (ob_sI eh134 o123) rfl rfl (Nat.le_of_ble_eq_true rfl) (wX8_chest hg hm) (kr_N (fun h151 hm => ?_)) (kx_N rfl)))
                  exact wc_goto (pc := 152) (tgt := 160) (dAt dtX8_clause 74 rfl) (by decide) (wc_vret (pc := 160) (dAt dtX8_clause 78 rfl) rfl hm)
              · replace hm := ite_t c143 hm
                obtain ⟨o144, hm⟩ := hm
                refine wc_aload_n (pc := 125) (dAt dtX8_clause 62 rfl) rfl (wc_getR (pc := 126) (dAt dtX8_clause 63 rfl) flX8_263_2 rfl o144 (wc_aload_n (pc := 129) (dAt dtX8_clause 64 rfl) rfl (wc_callV (k := 8) (y' := tX8_clauseOf) (av := []) (st := [vR (hR h134 r1 1)]) (pc := 130) (dAt dtX8_clause 65 rfl) lkX8_258 moX8_clauseOf q1296 qs20 (by decide) (ob_sI eh134 o123) rfl rfl (Nat.le_of_ble_eq_true rfl) (wX8_clauseOf hg hm) (kr_R (fun r146 h145 hm => ?_)) (kx_R rfl))))
                obtain ⟨o147, hm⟩ := hm
                refine wc_callF (k := 32) (x := ⟨"java/util/List", "add", "(Ljava/lang/Object;)Z"⟩) (y' := tJ2_add) (av := [vR r146]) (st := []) (pc := 133) (dAt dtX8_clause 66 rfl) q1285 q424 q423 ⟨by decide, by decide⟩ moJ2_add rfl q427 q428 q426 q367 q425 (by decide) o147 rfl rfl (Nat.le_of_ble_eq_true rfl) (wJ2_add hg hm) (kr_I (fun x149 h148 hm => ?_)) (kx_I rfl)
                exact wc_pop (pc := 138) (dAt dtX8_clause 67 rfl) rfl (wc_goto (pc := 139) (tgt := 160) (dAt dtX8_clause 68 rfl) (by decide) (wc_vret (pc := 160) (dAt dtX8_clause 78 rfl) rfl hm))
            · replace hm := ite_t c137 hm
              refine wc_aload_n (pc := 109) (dAt dtX8_clause 55 rfl) rfl (wc_aload_n (pc := 110) (dAt dtX8_clause 56 rfl) rfl (wc_callV (k := 8) (y' := tX8_clauseOf) (av := []) (st := [vR r1]) (pc := 111) (dAt dtX8_clause 57 rfl) lkX8_258 moX8_clauseOf q1296 qs20 (by decide) (ob_sI eh134 o123) rfl rfl (Nat.le_of_ble_eq_true rfl) (wX8_clauseOf hg hm) (kr_R (fun r139 h138 hm => ?_)) (kx_R rfl)))
              obtain ⟨o140, hm⟩ := hm
              obtain ⟨h142, eh142⟩ : ∃ h142 : Hp, h142 = sR h138 r1 3 r139 := ⟨_, rfl⟩
              replace hm := hm h142 eh142
              exact wc_newer o140 (by decide) fun n141 => (wc_putR (pc := 114) (dAt dtX8_clause 58 rfl) flX8_261_2 (Or.inl rfl) rfl o140 n141 (fun _ => ⟨by decide, by decide, by decide⟩) (wc_hp eh142 (wc_goto (pc := 117) (tgt := 160) (dAt dtX8_clause 59 rfl) (by decide) (wc_vret (pc := 160) (dAt dtX8_clause 78 rfl) rfl hm))))
          · replace hm := ite_t c135 hm
            refine wc_aload_n (pc := 98) (dAt dtX8_clause 50 rfl) rfl (wc_callV (k := 8) (y' := tX8_word) (av := []) (st := []) (pc := 99) (dAt dtX8_clause 51 rfl) lkX8_256 moX8_word q991 qs14 (by decide) (ob_sI eh134 o123) rfl rfl (Nat.le_of_ble_eq_true rfl) (wX8_word hg hm) (kr_N (fun h136 hm => ?_)) (kx_N rfl))
            exact wc_goto (pc := 102) (tgt := 160) (dAt dtX8_clause 52 rfl) (by decide) (wc_vret (pc := 160) (dAt dtX8_clause 78 rfl) rfl hm)
        · replace hm := ite_t c124 hm
          obtain ⟨o125, o126, hm⟩ := hm
          obtain ⟨r128, er128⟩ : ∃ r128 : Nat, r128 = hn h122 := ⟨_, rfl⟩
          replace hm := hm r128 er128
          obtain ⟨h129, eh129⟩ : ∃ h129 : Hp, h129 = nw h122 9 0 7 := ⟨_, rfl⟩
          replace hm := hm h129 eh129
          refine wc_k0 fun n127 => (wc_new (k := 9) (pc := 75) (dAt dtX8_clause 37 rfl) q965 q966 q154 (by decide) o125 o126 (wc_hp eh129 (wc_vr er128 (wc_dup (pc := 78) (dAt dtX8_clause 38 rfl) rfl (wc_iconst (pc := 79) (dAt dtX8_clause 39 rfl) ⟨by decide, by decide⟩ (wc_callI (y' := tX9_init) (av := [vI 2]) (st := [vR r128]) (pc := 80) (dAt dtX8_clause 40 rfl) lkX8_104 moX9_init q975 rfl q976 (k0_at er128 n127) rfl rfl (Nat.le_of_ble_eq_true rfl) (wX9_init hg hm) (kr_N (fun h130 hm => ?_)) (kx_N rfl)))))))
          obtain ⟨o131, hm⟩ := hm
          exact wc_athrow (pc := 83) (dAt dtX8_clause 41 rfl) (by decide) o131 rfl hm
      · replace hm := ite_t c120 hm
        exact kj114 _ hm
    have k154 : ¬ (¬ (x103 ≠ 0) ∧ (¬ (x106 ≠ 0) ∧ (¬ (x109 ≠ 0) ∧ (¬ (x112 ≠ 0))))) → Wc G tX8_clause (d + 93) h Q 58 [some (vR r0), some (vR r1), some (vI x103), some (vI x106), some (vI x109), some (vI x112)] [vR r0] h111 := fun c116 => by
      replace hm := ite_f c116 hm
      exact kj114 _ hm
    exact wc_if_ne (pc := 32) (tgt := 58) (dAt dtX8_clause 18 rfl) (by decide) (fun c155 => (k154 (fun z => z.1 c155))) (fun c155 => wc_iload_n (pc := 35) (dAt dtX8_clause 19 rfl) rfl (wc_if_ne (pc := 36) (tgt := 58) (dAt dtX8_clause 20 rfl) (by decide) (fun c156 => (k154 (fun z => (fun z => z.1 c156) z.2))) (fun c156 => wc_iload (pc := 39) (dAt dtX8_clause 21 rfl) rfl (wc_if_ne (pc := 41) (tgt := 58) (dAt dtX8_clause 22 rfl) (by decide) (fun c157 => (k154 (fun z => (fun z => (fun z => z.1 c157) z.2) z.2))) (fun c157 => wc_iload (pc := 44) (dAt dtX8_clause 23 rfl) rfl (wc_if_ne (pc := 46) (tgt := 58) (dAt dtX8_clause 24 rfl) (by decide) (fun c158 => (k154 (fun z => (fun z => (fun z => (fun z => z c158) z.2) z.2) z.2))) (fun c158 => (k153 ⟨c155, ⟨c156, ⟨c157, c158⟩⟩⟩))))))))
def tX8_read : Mt := (⟨"FlyingDoctors$Reader", "read", "()LFlyingDoctors$Rules;"⟩, prog_16_method_28_code, 2, (Option.some (Jvm.ClassFile.FieldType.object "FlyingDoctors$Rules")), [])
def DX8_read : List (Nat × Instr × Nat) := [(0, .new 235, 3), (3, .dup, 1), (4, .invokespecial 271, 3), (7, .astore_n 1, 1), (8, .aload_n 0, 1), (9, .invokevirtual 115, 3), (12, .aload_n 0, 1), (13, .getfield 47, 3), (16, .ifCond .eq 11, 3), (19, .aload_n 0, 1), (20, .aload_n 1, 1), (21, .invokevirtual 272, 3), (24, .goto (-12), 3), (27, .aload_n 1, 1), (28, .areturn, 1)]
theorem dtX8_read : chkD (mB tX8_read) DX8_read = true := by decide +kernel
theorem moX8_read : MethOk tX8_read 0 := ⟨Or.inl ⟨rfl, q824⟩, by decide +kernel, ⟨by decide, by decide⟩, by decide +kernel⟩
def mX8_read (r0 : Nat) (h : Hp) (Q : Rs → Hp → Prop) : Prop := hn h + 1 ≤ 878547 ∧ hq h + 5 ≤ 6460613 ∧ ∀ r104 : Nat, r104 = hn h → ∀ h105 : Hp, h105 = nw h 2 0 5 → mX2_init r104 h105 (kN Q (fun h106 => ob h106 r0 8 ∧ mX8_next r0 h106 (kN Q (fun h108 => wh1 (fun (C110 : Hp → Prop) (h109 : Hp) => ob h109 r0 8 ∧ if ¬ ((hI h109 r0 4) = 0) then mX8_clause r0 r104 h109 (kN Q (fun h114 => C110 h114)) else Q (rV (vR r104)) h109) h108))))
theorem wX8_read {G : Gx} (hg : gF G = true) {d : Nat} {r0 : Nat} {h : Hp} {Q : Rs → Hp → Prop} (hm : mX8_read r0 h Q) : Ct G tX8_read (d + 94) [vR r0] h Q := by
  refine ct_enter (L0 := [some (vR r0), none]) rfl rfl ?_
  unfold mX8_read at hm
  obtain ⟨o101, o102, hm⟩ := hm
  obtain ⟨r104, er104⟩ : ∃ r104 : Nat, r104 = hn h := ⟨_, rfl⟩
  replace hm := hm r104 er104
  obtain ⟨h105, eh105⟩ : ∃ h105 : Hp, h105 = nw h 2 0 5 := ⟨_, rfl⟩
  replace hm := hm h105 eh105
  refine wc_k0 fun n103 => (wc_new (k := 2) (pc := 0) (dAt dtX8_read 0 rfl) q825 q212 q132 (by decide) o101 o102 (wc_hp eh105 (wc_vr er104 (wc_dup (pc := 3) (dAt dtX8_read 1 rfl) rfl (wc_callI (y' := tX2_init) (av := []) (st := [vR r104]) (pc := 4) (dAt dtX8_read 2 rfl) lkX8_271 moX2_init q214 rfl q215 (k0_at er104 n103) rfl rfl (Nat.le_of_ble_eq_true rfl) (wX2_init hg hm) (kr_N (fun h106 hm => ?_)) (kx_N rfl))))))
  obtain ⟨o107, hm⟩ := hm
  refine wc_astore_n (pc := 7) (dAt dtX8_read 3 rfl) (by decide) (wc_L (L' := [some (vR r0), some (vR r104)]) rfl (wc_aload_n (pc := 8) (dAt dtX8_read 4 rfl) rfl (wc_callV (k := 8) (y' := tX8_next) (av := []) (st := []) (pc := 9) (dAt dtX8_read 5 rfl) lkX8_115 moX8_next q829 qs7 (by decide) o107 rfl rfl (Nat.le_of_ble_eq_true rfl) (wX8_next hg hm) (kr_N (fun h108 hm => ?_)) (kx_N rfl))))
  refine wh1_ind (P := fun (h109 : Hp) => Wc G tX8_read (d + 94) h Q 12 [some (vR r0), some (vR r104)] [] h109) (fun C110 ih111 h109 hm => ?_) hm
  obtain ⟨o112, hm⟩ := hm
  refine wc_aload_n (pc := 12) (dAt dtX8_read 6 rfl) rfl (wc_getI (pc := 13) (dAt dtX8_read 7 rfl) flX8_47_8 rfl o112 (wc_if_eq (pc := 16) (tgt := 27) (dAt dtX8_read 8 rfl) (by decide) (fun c113 => ?_) (fun c113 => ?_)))
  · replace hm := ite_f (fun z => z c113) hm
    exact wc_aload_n (pc := 27) (dAt dtX8_read 13 rfl) rfl (wc_aret (pc := 28) (dAt dtX8_read 14 rfl) rfl (Or.inl ⟨_, rfl⟩) hm)
  · replace hm := ite_t c113 hm
    refine wc_aload_n (pc := 19) (dAt dtX8_read 9 rfl) rfl (wc_aload_n (pc := 20) (dAt dtX8_read 10 rfl) rfl (wc_callV (k := 8) (y' := tX8_clause) (av := [vR r104]) (st := []) (pc := 21) (dAt dtX8_read 11 rfl) lkX8_272 moX8_clause q931 qs11 (by decide) o112 rfl rfl (Nat.le_of_ble_eq_true rfl) (wX8_clause hg hm) (kr_N (fun h114 hm => ?_)) (kx_N rfl)))
    exact wc_goto (pc := 24) (tgt := 12) (dAt dtX8_read 12 rfl) (by decide) (ih111 _ hm)
def tJ2_toArray : Mt := (⟨"java/util/ArrayList", "toArray", "()[Ljava/lang/Object;"⟩, prog_50_method_16_code, 1, (Option.some (Jvm.ClassFile.FieldType.array (Jvm.ClassFile.FieldType.object "java/lang/Object"))), [])
def DJ2_toArray : List (Nat × Instr × Nat) := [(0, .aload_n 0, 1), (1, .getfield 9, 3), (4, .aload_n 0, 1), (5, .getfield 48, 3), (8, .invokestatic 66, 3), (11, .areturn, 1)]
theorem dtJ2_toArray : chkD (mB tJ2_toArray) DJ2_toArray = true := by decide +kernel
theorem moJ2_toArray : MethOk tJ2_toArray 0 := ⟨Or.inl ⟨rfl, q1475⟩, by decide +kernel, ⟨by decide, by decide⟩, by decide +kernel⟩
def mJ2_toArray (r0 : Nat) (h : Hp) (Q : Rs → Hp → Prop) : Prop := ob h r0 32 ∧ mJ5_copyOf (hR h r0 1) (hI h r0 2) h (kR Q (fun r103 h102 => Q (rV (vR r103)) h102))
theorem wJ2_toArray {G : Gx} (hg : gF G = true) {d : Nat} {r0 : Nat} {h : Hp} {Q : Rs → Hp → Prop} (hm : mJ2_toArray r0 h Q) : Ct G tJ2_toArray (d + 3) [vR r0] h Q := by
  refine ct_enter (L0 := [some (vR r0)]) rfl rfl ?_
  unfold mJ2_toArray at hm
  obtain ⟨o101, hm⟩ := hm
  refine wc_aload_n (pc := 0) (dAt dtJ2_toArray 0 rfl) rfl (wc_getR (pc := 1) (dAt dtJ2_toArray 1 rfl) flJ2_9_32 rfl o101 (wc_aload_n (pc := 4) (dAt dtJ2_toArray 2 rfl) rfl (wc_getI (pc := 5) (dAt dtJ2_toArray 3 rfl) flJ2_48_32 rfl o101 (wc_callS (y' := tJ5_copyOf) (av := [vR (hR h r0 1), vI (hI h r0 2)]) (st := []) (pc := 8) (dAt dtJ2_toArray 4 rfl) lkJ2_66 moJ5_copyOf q453 q138 rfl rfl (Nat.le_of_ble_eq_true rfl) (wJ5_copyOf hg hm) (kr_R (fun r103 h102 hm => ?_)) (kx_R rfl)))))
  exact wc_aret (pc := 11) (dAt dtJ2_toArray 5 rfl) rfl (Or.inr ⟨_, rfl⟩) hm
def tJ2_addAll : Mt := (⟨"java/util/ArrayList", "addAll", "(Ljava/util/Collection;)Z"⟩, prog_50_method_41_code, 6, (Option.some Jvm.ClassFile.FieldType.boolean), [])
def DJ2_addAll : List (Nat × Instr × Nat) := [(0, .aload_n 1, 1), (1, .invokeinterface 42 1, 5), (6, .astore_n 2, 1), (7, .aload_n 0, 1), (8, .dup, 1), (9, .getfield 63, 3), (12, .iconst 1, 1), (13, .iadd, 1), (14, .putfield 63, 3), (17, .aload_n 2, 1), (18, .arraylength, 1), (19, .istore_n 3, 1), (20, .iload_n 3, 1), (21, .ifCond .ne 5, 3), (24, .iconst 0, 1), (25, .ireturn, 1), (26, .iload_n 3, 1), (27, .aload_n 0, 1), (28, .getfield 9, 3), (31, .dup, 1), (32, .astore 4, 2), (34, .arraylength, 1), (35, .aload_n 0, 1), (36, .getfield 48, 3), (39, .dup, 1), (40, .istore 5, 2), (42, .isub, 1), (43, .if_icmp .le 13, 3), (46, .aload_n 0, 1), (47, .iload 5, 2), (49, .iload_n 3, 1), (50, .iadd, 1), (51, .invokevirtual 69, 3), (54, .astore 4, 2), (56, .aload_n 2, 1), (57, .iconst 0, 1), (58, .aload 4, 2), (60, .iload 5, 2), (62, .iload_n 3, 1), (63, .invokestatic 112, 3), (66, .aload_n 0, 1), (67, .iload 5, 2), (69, .iload_n 3, 1), (70, .iadd, 1), (71, .putfield 48, 3), (74, .iconst 1, 1), (75, .ireturn, 1)]
theorem dtJ2_addAll : chkD (mB tJ2_addAll) DJ2_addAll = true := by decide +kernel
theorem moJ2_addAll : MethOk tJ2_addAll 1 := ⟨Or.inl ⟨rfl, q1465⟩, by decide +kernel, ⟨by decide, by decide⟩, by decide +kernel⟩
def mJ2_addAll (r0 : Nat) (r1 : Nat) (h : Hp) (Q : Rs → Hp → Prop) : Prop := ob h r1 32 ∧ mJ2_toArray r1 h (kR Q (fun r103 h102 => ob h102 r0 32 ∧ nm ((hI h102 r0 0) + 1) ∧ ∀ h107 : Hp, h107 = sI h102 r0 0 ((hI h102 r0 0) + 1) → ob h107 r103 74 ∧ nm (hN h107 r103 : Int) ∧ ∀ v110 : Int, v110 = (hN h107 r103 : Int) → if ¬ (v110 ≠ 0) then Q (rV (vI 0)) h107 else ∀ r112 : Nat, r112 = (hR h107 r0 1) → ob h107 (hR h107 r0 1) 74 ∧ nm (hN h107 (hR h107 r0 1) : Int) ∧ ∀ v115 : Int, v115 = (hI h107 r0 2) → nm ((hN h107 (hR h107 r0 1) : Int) - (hI h107 r0 2)) ∧ jn (fun (r124 : Nat) (h119 : Hp) => ob h119 r103 74 ∧ ob h119 r124 74 ∧ 50 ≤ r124 ∧ 0 ≤ v115 ∧ 0 ≤ v110 ∧ (0 : Int) + v110 ≤ hN h119 r103 ∧ (v115 : Int) + v110 ≤ hN h119 r124 ∧ (∀ i : Nat, i < (Int.toNat v110) → rOb h119 (hR h119 r103 (0 + i))) ∧ ∀ h134 : Hp, h134 = cpR h119 r124 (Int.toNat v115) r103 0 (Int.toNat v110) → nm (v115 + v110) ∧ ob h134 r0 32 ∧ ∀ h137 : Hp, h137 = sI h134 r0 2 (v115 + v110) → Q (rV (vI 1)) h137) (fun K117 => if ¬ (v110 ≤ ((hN h107 (hR h107 r0 1) : Int) - (hI h107 r0 2))) then nm (v115 + v110) ∧ mJ2_grow_2 r0 (v115 + v110) h107 (kR Q (fun r123 h122 => K117 r123 h122)) else K117 r112 h107)))
theorem wJ2_addAll {G : Gx} (hg : gF G = true) {d : Nat} {r0 : Nat} {r1 : Nat} {h : Hp} {Q : Rs → Hp → Prop} (hm : mJ2_addAll r0 r1 h Q) : Ct G tJ2_addAll (d + 4) [vR r0, vR r1] h Q := by
  refine ct_enter (L0 := [some (vR r0), some (vR r1), none, none, none, none]) rfl rfl ?_
  unfold mJ2_addAll at hm
  obtain ⟨o101, hm⟩ := hm
  refine wc_aload_n (pc := 0) (dAt dtJ2_addAll 0 rfl) rfl (wc_callF (k := 32) (x := ⟨"java/util/Collection", "toArray", "()[Ljava/lang/Object;"⟩) (y' := tJ2_toArray) (av := []) (st := []) (pc := 1) (dAt dtJ2_addAll 1 rfl) q1467 q1469 q1468 ⟨by decide, by decide⟩ moJ2_toArray rfl q1473 q1474 q1472 q1470 q1471 (by decide) o101 rfl rfl (Nat.le_of_ble_eq_true rfl) (wJ2_toArray hg hm) (kr_R (fun r103 h102 hm => ?_)) (kx_R rfl))
  obtain ⟨o104, o105, hm⟩ := hm
  obtain ⟨h107, eh107⟩ : ∃ h107 : Hp, h107 = sI h102 r0 0 ((hI h102 r0 0) + 1) := ⟨_, rfl⟩
  replace hm := hm h107 eh107
  obtain ⟨o108, o109, hm⟩ := hm
  obtain ⟨v110, ev110⟩ : ∃ v110 : Int, v110 = (hN h107 r103 : Int) := ⟨_, rfl⟩
  replace hm := hm v110 ev110
  refine wc_astore_n (pc := 6) (dAt dtJ2_addAll 2 rfl) (by decide) (wc_L (L' := [some (vR r0), some (vR r1), some (vR r103), none, none, none]) rfl (wc_aload_n (pc := 7) (dAt dtJ2_addAll 3 rfl) rfl (wc_dup (pc := 8) (dAt dtJ2_addAll 4 rfl) rfl (wc_getI (pc := 9) (dAt dtJ2_addAll 5 rfl) flJ2_63_32 rfl o104 (wc_iconst (pc := 12) (dAt dtJ2_addAll 6 rfl) ⟨by decide, by decide⟩ (wc_iadd (pc := 13) (dAt dtJ2_addAll 7 rfl) o105 (wc_newer o104 (by decide) fun n106 => (wc_putI (pc := 14) (dAt dtJ2_addAll 8 rfl) flJ2_63_32 (Or.inl rfl) rfl o104 n106 (okI_int _) (wc_hp eh107 (wc_aload_n (pc := 17) (dAt dtJ2_addAll 9 rfl) rfl (wc_alen (pc := 18) (dAt dtJ2_addAll 10 rfl) ⟨by decide, by decide⟩ o108 o109 (wc_vi ev110 (wc_istore_n (pc := 19) (dAt dtJ2_addAll 11 rfl) (by decide) (wc_L (L' := [some (vR r0), some (vR r1), some (vR r103), some (vI v110), none, none]) rfl (wc_iload_n (pc := 20) (dAt dtJ2_addAll 12 rfl) rfl (wc_if_ne (pc := 21) (tgt := 26) (dAt dtJ2_addAll 13 rfl) (by decide) (fun c111 => ?_) (fun c111 => ?_)))))))))))))))))
  · replace hm := ite_f (fun z => z c111) hm
    obtain ⟨r112, er112⟩ : ∃ r112 : Nat, r112 = (hR h107 r0 1) := ⟨_, rfl⟩
    replace hm := hm r112 er112
    obtain ⟨o113, o114, hm⟩ := hm
    obtain ⟨v115, ev115⟩ : ∃ v115 : Int, v115 = (hI h107 r0 2) := ⟨_, rfl⟩
    replace hm := hm v115 ev115
    obtain ⟨o116, hm⟩ := hm
    refine wc_iload_n (pc := 26) (dAt dtJ2_addAll 16 rfl) rfl (wc_aload_n (pc := 27) (dAt dtJ2_addAll 17 rfl) rfl (wc_getR (pc := 28) (dAt dtJ2_addAll 18 rfl) flJ2_9_32 rfl (ob_sI eh107 o104) (wc_dup (pc := 31) (dAt dtJ2_addAll 19 rfl) rfl (wc_vr er112 (wc_astore (pc := 32) (dAt dtJ2_addAll 20 rfl) (by decide) (wc_L (L' := [some (vR r0), some (vR r1), some (vR r103), some (vI v110), some (vR r112), none]) rfl (wc_alen (pc := 34) (dAt dtJ2_addAll 21 rfl) ⟨by decide, by decide⟩ o113 o114 (wc_aload_n (pc := 35) (dAt dtJ2_addAll 22 rfl) rfl (wc_getI (pc := 36) (dAt dtJ2_addAll 23 rfl) flJ2_48_32 rfl (ob_sI eh107 o104) (wc_dup (pc := 39) (dAt dtJ2_addAll 24 rfl) rfl (wc_vi ev115 (wc_istore (pc := 40) (dAt dtJ2_addAll 25 rfl) (by decide) (wc_L (L' := [some (vR r0), some (vR r1), some (vR r103), some (vI v110), some (vR r112), some (vI v115)]) rfl (wc_isub (pc := 42) (dAt dtJ2_addAll 26 rfl) o116 (?_)))))))))))))))
    refine jn2_ind (P := fun (r124 : Nat) (h119 : Hp) => Wc G tJ2_addAll (d + 4) h Q 56 [some (vR r0), none, some (vR r103), some (vI v110), some (vR r124), some (vI v115)] [] h119) (fun r124 h119 hm => ?_) (fun K117 kj118 hm => ?_) hm
    · obtain ⟨o125, o126, o127, o128, o129, o130, o131, o133, hm⟩ := hm
      obtain ⟨h134, eh134⟩ : ∃ h134 : Hp, h134 = cpR h119 r124 (Int.toNat v115) r103 0 (Int.toNat v110) := ⟨_, rfl⟩
      replace hm := hm h134 eh134
      obtain ⟨o135, o136, hm⟩ := hm
      obtain ⟨h137, eh137⟩ : ∃ h137 : Hp, h137 = sI h134 r0 2 (v115 + v110) := ⟨_, rfl⟩
      replace hm := hm h137 eh137
      exact wc_aload_n (pc := 56) (dAt dtJ2_addAll 34 rfl) rfl (wc_iconst (pc := 57) (dAt dtJ2_addAll 35 rfl) ⟨by decide, by decide⟩ (wc_aload (pc := 58) (dAt dtJ2_addAll 36 rfl) rfl (wc_iload (pc := 60) (dAt dtJ2_addAll 37 rfl) rfl (wc_iload_n (pc := 62) (dAt dtJ2_addAll 38 rfl) rfl (wc_copyR (pc := 63) (dAt dtJ2_addAll 39 rfl) q1476 q498 q497 q139 o125 o126 o127 (by decide) o128 o129 o130 o131 (Nat.le_of_ble_eq_true rfl) o133 asAll (wc_hp eh134 (wc_aload_n (pc := 66) (dAt dtJ2_addAll 40 rfl) rfl (wc_iload (pc := 67) (dAt dtJ2_addAll 41 rfl) rfl (wc_iload_n (pc := 69) (dAt dtJ2_addAll 42 rfl) rfl (wc_iadd (pc := 70) (dAt dtJ2_addAll 43 rfl) o135 (wc_putI (pc := 71) (dAt dtJ2_addAll 44 rfl) flJ2_48_32 (Or.inl rfl) rfl o136 n106 (okI_int _) (wc_hp eh137 (wc_iconst (pc := 74) (dAt dtJ2_addAll 45 rfl) ⟨by decide, by decide⟩ (wc_iret (pc := 75) (dAt dtJ2_addAll 46 rfl) rfl (nar_bool (Or.inr rfl)) hm))))))))))))))
    · refine wc_icmp_le (pc := 43) (tgt := 56) (dAt dtJ2_addAll 27 rfl) (by decide) (fun c120 => ?_) (fun c120 => ?_)
      · replace hm := ite_f (fun z => z c120) hm
        exact wc_drp [1] rfl (kj118 _ _ hm)
      · replace hm := ite_t c120 hm
        obtain ⟨o121, hm⟩ := hm
        refine wc_aload_n (pc := 46) (dAt dtJ2_addAll 28 rfl) rfl (wc_iload (pc := 47) (dAt dtJ2_addAll 29 rfl) rfl (wc_iload_n (pc := 49) (dAt dtJ2_addAll 30 rfl) rfl (wc_iadd (pc := 50) (dAt dtJ2_addAll 31 rfl) o121 (wc_callV (k := 32) (y' := tJ2_grow_2) (av := [vI (v115 + v110)]) (st := []) (pc := 51) (dAt dtJ2_addAll 32 rfl) lkJ2_69 moJ2_grow_2 q440 qs2 (by decide) (ob_sI eh107 o104) rfl rfl (Nat.le_of_ble_eq_true rfl) (wJ2_grow_2 hg hm) (kr_R (fun r123 h122 hm => ?_)) (kx_R rfl)))))
        exact wc_astore (pc := 54) (dAt dtJ2_addAll 33 rfl) (by decide) (wc_L (L' := [some (vR r0), some (vR r1), some (vR r103), some (vI v110), some (vR r123), some (vI v115)]) rfl (wc_drp [1] rfl (kj118 _ _ hm)))
  · replace hm := ite_t c111 hm
    exact wc_iconst (pc := 24) (dAt dtJ2_addAll 14 rfl) ⟨by decide, by decide⟩ (wc_iret (pc := 25) (dAt dtJ2_addAll 15 rfl) rfl (nar_bool (Or.inl rfl)) hm)
def tX1_rules : Mt := (⟨"FlyingDoctors", "rules", "(I)I"⟩, prog_1_method_29_code, 4, (Option.some Jvm.ClassFile.FieldType.int), [((57 : Nat), (95 : Nat), (98 : Nat), (359 : Nat))])
def DX1_rules : List (Nat × Instr × Nat) := [(0, .iload_n 1, 1), (1, .ifCond .lt 15, 3), (4, .iload_n 1, 1), (5, .aload_n 0, 1), (6, .getfield 340, 3), (9, .if_icmp .gt 7, 3), (12, .iconst 1, 1), (13, .goto 4, 3), (16, .iconst 0, 1), (17, .invokestatic 337, 3), (20, .aload_n 0, 1), (21, .iconst 0, 1), (22, .putfield 340, 3), (25, .aload_n 0, 1), (26, .iconst (-1), 1), (27, .putfield 305, 3), (30, .aload_n 0, 1), (31, .getfield 40, 3), (34, .invokeinterface 16 1, 5), (39, .bipush 12, 2), (41, .if_icmp .ne 6, 3), (44, .bipush (-9), 2), (46, .ireturn, 1), (47, .new 343, 3), (50, .dup, 1), (51, .aload_n 0, 1), (52, .iload_n 1, 1), (53, .invokespecial 345, 3), (56, .astore_n 2, 1), (57, .aload_n 2, 1), (58, .invokevirtual 348, 3), (61, .astore_n 3, 1), (62, .aload_n 3, 1), (63, .aload_n 0, 1), (64, .getfield 173, 3), (67, .putfield 45, 3), (70, .aload_n 0, 1), (71, .getfield 40, 3), (74, .aload_n 3, 1), (75, .invokeinterface 262 2, 5), (80, .pop, 1), (81, .aload_n 0, 1), (82, .getfield 275, 3), (85, .aload_n 2, 1), (86, .getfield 352, 3), (89, .invokeinterface 355 2, 5), (94, .pop, 1), (95, .goto 17, 3), (98, .astore_n 3, 1), (99, .aload_n 0, 1), (100, .aload_n 2, 1), (101, .getfield 361, 3), (104, .putfield 305, 3), (107, .aload_n 3, 1), (108, .getfield 364, 3), (111, .ireturn, 1), (112, .iconst 0, 1), (113, .ireturn, 1)]
theorem dtX1_rules : chkD (mB tX1_rules) DX1_rules = true := by decide +kernel
theorem moX1_rules : MethOk tX1_rules 1 := ⟨Or.inr q778, by decide +kernel, ⟨by decide, by decide⟩, by decide +kernel⟩
def mX1_rules (x1 : Int) (h : Hp) (Q : Rs → Hp → Prop) : Prop := ∀ v101 : Int, v101 = (b2i (¬ (x1 < 0) ∧ (¬ ((hI h 50 21) < x1)))) → mX1_right v101 h (kN Q (fun h102 => ∀ h103 : Hp, h103 = sI h102 50 21 0 → ∀ h104 : Hp, h104 = sI h103 50 22 (-1) → oJ2_size 57 h104 ∧ if ¬ ((vJ2_size 57 h104) ≠ 12) then Q (rV (vI (-9))) h104 else hn h104 + 1 ≤ 878547 ∧ hq h104 + 10 ≤ 6460613 ∧ ∀ r110 : Nat, r110 = hn h104 → ∀ h111 : Hp, h111 = nw h104 8 0 10 → mX8_init r110 x1 h111 (kN Q (fun h112 => ob h112 r110 8 ∧ mX8_read r110 h112 (kRx (fun a116 h117 => ob h117 a116 9 ∧ (ob h117 r110 8 ∧ ∀ h120 : Hp, h120 = sI h117 50 22 (hI h117 r110 5) → Q (rV (vI (hI h120 a116 6))) h120)) (fun r115 h114 => ob h114 r115 2 ∧ ∀ h123 : Hp, h123 = sI h114 r115 4 (hI h114 50 20) → mJ2_add 57 r115 h123 (kIx (fun a126 h127 => ob h127 a126 9 ∧ (ob h127 r110 8 ∧ ∀ h130 : Hp, h130 = sI h127 50 22 (hI h127 r110 5) → Q (rV (vI (hI h130 a126 6))) h130)) (fun x125 h124 => ob h124 r110 8 ∧ mJ2_addAll 58 (hR h124 r110 1) h124 (kIx (fun a134 h135 => ob h135 a134 9 ∧ (ob h135 r110 8 ∧ ∀ h138 : Hp, h138 = sI h135 50 22 (hI h135 r110 5) → Q (rV (vI (hI h138 a134 6))) h138)) (fun x133 h132 => Q (rV (vI 0)) h132))))))))))
theorem wX1_rules {G : Gx} (hg : gF G = true) {d : Nat} {x1 : Int} {h : Hp} {Q : Rs → Hp → Prop} (hm : mX1_rules x1 h Q) : Ct G tX1_rules (d + 95) [vR 50, vI x1] h Q := by
  refine ct_enter (L0 := [some (vR 50), some (vI x1), none, none]) rfl rfl ?_
  unfold mX1_rules at hm
  obtain ⟨v101, ev101⟩ : ∃ v101 : Int, v101 = (b2i (¬ (x1 < 0) ∧ (¬ ((hI h 50 21) < x1)))) := ⟨_, rfl⟩
  replace hm := hm v101 ev101
  refine wc_iload_n (pc := 0) (dAt dtX1_rules 0 rfl) rfl (?_)
  have kj139 : Wc G tX1_rules (d + 95) h Q 17 [some (vR 50), some (vI x1), none, none] [vI v101] h := by
    refine wc_callS (y' := tX1_right) (av := [vI v101]) (st := []) (pc := 17) (dAt dtX1_rules 9 rfl) lkX1_337 moX1_right q755 q128 rfl rfl (Nat.le_of_ble_eq_true rfl) (wX1_right hg hm) (kr_N (fun h102 hm => ?_)) (kx_N rfl)
    obtain ⟨h103, eh103⟩ : ∃ h103 : Hp, h103 = sI h102 50 21 0 := ⟨_, rfl⟩
    replace hm := hm h103 eh103
    obtain ⟨h104, eh104⟩ : ∃ h104 : Hp, h104 = sI h103 50 22 (-1) := ⟨_, rfl⟩
    replace hm := hm h104 eh104
    obtain ⟨o105, hm⟩ := hm
    refine wc_aload_n (pc := 20) (dAt dtX1_rules 10 rfl) rfl (wc_iconst (pc := 21) (dAt dtX1_rules 11 rfl) ⟨by decide, by decide⟩ (wc_putKI hg (pc := 22) (dAt dtX1_rules 12 rfl) flX1_340_1 (Or.inl rfl) rfl ka50 (by decide) (okI_int _) (wc_hp eh103 (wc_aload_n (pc := 25) (dAt dtX1_rules 13 rfl) rfl (wc_iconst (pc := 26) (dAt dtX1_rules 14 rfl) ⟨by decide, by decide⟩ (wc_putKI hg (pc := 27) (dAt dtX1_rules 15 rfl) flX1_305_1 (Or.inl rfl) rfl ka50 (by decide) (okI_int _) (wc_hp eh104 (wc_aload_n (pc := 30) (dAt dtX1_rules 16 rfl) rfl (wc_getKR hg (pc := 31) (dAt dtX1_rules 17 rfl) flX1_40_1 rfl ka50 kf50_7 (wc_kf hg fun zk => (wc_callF (k := 32) (x := ⟨"java/util/List", "size", "()I"⟩) (y' := tJ2_size) (P := eI (vJ2_size 57 h104) h104) (pc := 34) (dAt dtX1_rules 18 rfl) q364 q366 q365 ⟨by decide, by decide⟩ moJ2_size rfl q370 q371 q369 q367 q368 (by decide) (zk.2 _ ka57).1 rfl rfl (Nat.le_of_ble_eq_true rfl) (wJ2_size hg o105 ⟨rfl, rfl⟩) (ep_I (wc_bipush (pc := 39) (dAt dtX1_rules 19 rfl) ⟨by decide, by decide, by decide⟩ (wc_icmp_ne (pc := 41) (tgt := 47) (dAt dtX1_rules 20 rfl) (by decide) (fun c106 => ?_) (fun c106 => ?_)))) ex_I)))))))))))
    · replace hm := ite_f (fun z => z c106) hm
      obtain ⟨o107, o108, hm⟩ := hm
      obtain ⟨r110, er110⟩ : ∃ r110 : Nat, r110 = hn h104 := ⟨_, rfl⟩
      replace hm := hm r110 er110
      obtain ⟨h111, eh111⟩ : ∃ h111 : Hp, h111 = nw h104 8 0 10 := ⟨_, rfl⟩
      replace hm := hm h111 eh111
      refine wc_k0 fun n109 => (wc_new (k := 8) (pc := 47) (dAt dtX1_rules 23 rfl) q780 q781 q149 (by decide) o107 o108 (wc_hp eh111 (wc_vr er110 (wc_dup (pc := 50) (dAt dtX1_rules 24 rfl) rfl (wc_aload_n (pc := 51) (dAt dtX1_rules 25 rfl) rfl (wc_iload_n (pc := 52) (dAt dtX1_rules 26 rfl) rfl (wc_callI (y' := tX8_init) (av := [vR 50, vI x1]) (st := [vR r110]) (pc := 53) (dAt dtX1_rules 27 rfl) lkX1_345 moX8_init q783 rfl q784 (k0_at er110 n109) rfl rfl (Nat.le_of_ble_eq_true rfl) (wX8_init hg hm) (kr_N (fun h112 hm => ?_)) (kx_N rfl))))))))
      obtain ⟨o113, hm⟩ := hm
      refine wc_astore_n (pc := 56) (dAt dtX1_rules 28 rfl) (by decide) (wc_L (L' := [some (vR 50), some (vI x1), some (vR r110), none]) rfl (wc_aload_n (pc := 57) (dAt dtX1_rules 29 rfl) rfl (wc_callV (k := 8) (y' := tX8_read) (av := []) (st := []) (pc := 58) (dAt dtX1_rules 30 rfl) lkX1_348 moX8_read q822 q823 (by decide) o113 rfl rfl (Nat.le_of_ble_eq_true rfl) (wX8_read hg hm) (krx_R (fun r115 h114 hm => ?_)) (kxx_R (fun a116 h117 hm => ?_)))))
      · obtain ⟨o121, hm⟩ := hm
        obtain ⟨h123, eh123⟩ : ∃ h123 : Hp, h123 = sI h114 r115 4 (hI h114 50 20) := ⟨_, rfl⟩
        replace hm := hm h123 eh123
        refine wc_astore_n (pc := 61) (dAt dtX1_rules 31 rfl) (by decide) (wc_L (L' := [some (vR 50), some (vI x1), some (vR r110), some (vR r115)]) rfl (wc_aload_n (pc := 62) (dAt dtX1_rules 32 rfl) rfl (wc_aload_n (pc := 63) (dAt dtX1_rules 33 rfl) rfl (wc_getKI hg (pc := 64) (dAt dtX1_rules 34 rfl) flX1_173_1 rfl ka50 (wc_newer o121 (by decide) fun n122 => (wc_putI (pc := 67) (dAt dtX1_rules 35 rfl) flX1_45_2 (Or.inl rfl) rfl o121 n122 (okI_int _) (wc_hp eh123 (wc_aload_n (pc := 70) (dAt dtX1_rules 36 rfl) rfl (wc_getKR hg (pc := 71) (dAt dtX1_rules 37 rfl) flX1_40_1 rfl ka50 kf50_7 (wc_aload_n (pc := 74) (dAt dtX1_rules 38 rfl) rfl (wc_kf hg fun zk => (wc_callF (k := 32) (x := ⟨"java/util/List", "add", "(Ljava/lang/Object;)Z"⟩) (y' := tJ2_add) (av := [vR r115]) (st := []) (pc := 75) (dAt dtX1_rules 39 rfl) q422 q424 q423 ⟨by decide, by decide⟩ moJ2_add rfl q427 q428 q426 q367 q425 (by decide) (zk.2 _ ka57).1 rfl rfl (Nat.le_of_ble_eq_true rfl) (wJ2_add hg hm) (krx_I (fun x125 h124 hm => ?_)) (kxx_I (fun a126 h127 hm => ?_))))))))))))))
        · obtain ⟨o131, hm⟩ := hm
          refine wc_pop (pc := 80) (dAt dtX1_rules 40 rfl) rfl (wc_aload_n (pc := 81) (dAt dtX1_rules 41 rfl) rfl (wc_getKR hg (pc := 82) (dAt dtX1_rules 42 rfl) flX1_275_1 rfl ka50 kf50_8 (wc_aload_n (pc := 85) (dAt dtX1_rules 43 rfl) rfl (wc_getR (pc := 86) (dAt dtX1_rules 44 rfl) flX1_352_8 rfl o131 (wc_kf hg fun zk => (wc_callF (k := 32) (x := ⟨"java/util/List", "addAll", "(Ljava/util/Collection;)Z"⟩) (y' := tJ2_addAll) (av := [vR (hR h124 r110 1)]) (st := []) (pc := 89) (dAt dtX1_rules 45 rfl) q1458 q1460 q1459 ⟨by decide, by decide⟩ moJ2_addAll rfl q1463 q1464 q1462 q367 q1461 (by decide) (zk.2 _ ka58).1 rfl rfl (Nat.le_of_ble_eq_true rfl) (wJ2_addAll hg hm) (krx_I (fun x133 h132 hm => ?_)) (kxx_I (fun a134 h135 hm => ?_))))))))
          · exact wc_pop (pc := 94) (dAt dtX1_rules 46 rfl) rfl (wc_goto (pc := 95) (tgt := 112) (dAt dtX1_rules 47 rfl) (by decide) (wc_iconst (pc := 112) (dAt dtX1_rules 56 rfl) ⟨by decide, by decide⟩ (wc_iret (pc := 113) (dAt dtX1_rules 57 rfl) rfl (nar_int _) hm)))
          · obtain ⟨o136, hm⟩ := hm
            refine wx_hit rfl rfl (by decide) q779 (by decide) o136 rfl ?_
            obtain ⟨o137, hm⟩ := hm
            obtain ⟨h138, eh138⟩ : ∃ h138 : Hp, h138 = sI h135 50 22 (hI h135 r110 5) := ⟨_, rfl⟩
            replace hm := hm h138 eh138
            exact wc_astore_n (pc := 98) (dAt dtX1_rules 48 rfl) (by decide) (wc_L (L' := [some (vR 50), some (vI x1), some (vR r110), some (vR a134)]) rfl (wc_aload_n (pc := 99) (dAt dtX1_rules 49 rfl) rfl (wc_aload_n (pc := 100) (dAt dtX1_rules 50 rfl) rfl (wc_getI (pc := 101) (dAt dtX1_rules 51 rfl) flX1_361_8 rfl o137 (wc_putKI hg (pc := 104) (dAt dtX1_rules 52 rfl) flX1_305_1 (Or.inl rfl) rfl ka50 (by decide) (okI_int _) (wc_hp eh138 (wc_aload_n (pc := 107) (dAt dtX1_rules 53 rfl) rfl (wc_getI (pc := 108) (dAt dtX1_rules 54 rfl) flX1_364_9 rfl (ob_sI eh138 o136) (wc_iret (pc := 111) (dAt dtX1_rules 55 rfl) rfl (nar_int _) hm)))))))))
        · obtain ⟨o128, hm⟩ := hm
          refine wx_hit rfl rfl (by decide) q779 (by decide) o128 rfl ?_
          obtain ⟨o129, hm⟩ := hm
          obtain ⟨h130, eh130⟩ : ∃ h130 : Hp, h130 = sI h127 50 22 (hI h127 r110 5) := ⟨_, rfl⟩
          replace hm := hm h130 eh130
          exact wc_astore_n (pc := 98) (dAt dtX1_rules 48 rfl) (by decide) (wc_L (L' := [some (vR 50), some (vI x1), some (vR r110), some (vR a126)]) rfl (wc_aload_n (pc := 99) (dAt dtX1_rules 49 rfl) rfl (wc_aload_n (pc := 100) (dAt dtX1_rules 50 rfl) rfl (wc_getI (pc := 101) (dAt dtX1_rules 51 rfl) flX1_361_8 rfl o129 (wc_putKI hg (pc := 104) (dAt dtX1_rules 52 rfl) flX1_305_1 (Or.inl rfl) rfl ka50 (by decide) (okI_int _) (wc_hp eh130 (wc_aload_n (pc := 107) (dAt dtX1_rules 53 rfl) rfl (wc_getI (pc := 108) (dAt dtX1_rules 54 rfl) flX1_364_9 rfl (ob_sI eh130 o128) (wc_iret (pc := 111) (dAt dtX1_rules 55 rfl) rfl (nar_int _) hm)))))))))
      · obtain ⟨o118, hm⟩ := hm
        refine wx_hit rfl rfl (by decide) q779 (by decide) o118 rfl ?_
        obtain ⟨o119, hm⟩ := hm
        obtain ⟨h120, eh120⟩ : ∃ h120 : Hp, h120 = sI h117 50 22 (hI h117 r110 5) := ⟨_, rfl⟩
        replace hm := hm h120 eh120
        exact wc_astore_n (pc := 98) (dAt dtX1_rules 48 rfl) (by decide) (wc_L (L' := [some (vR 50), some (vI x1), some (vR r110), some (vR a116)]) rfl (wc_aload_n (pc := 99) (dAt dtX1_rules 49 rfl) rfl (wc_aload_n (pc := 100) (dAt dtX1_rules 50 rfl) rfl (wc_getI (pc := 101) (dAt dtX1_rules 51 rfl) flX1_361_8 rfl o119 (wc_putKI hg (pc := 104) (dAt dtX1_rules 52 rfl) flX1_305_1 (Or.inl rfl) rfl ka50 (by decide) (okI_int _) (wc_hp eh120 (wc_aload_n (pc := 107) (dAt dtX1_rules 53 rfl) rfl (wc_getI (pc := 108) (dAt dtX1_rules 54 rfl) flX1_364_9 rfl (ob_sI eh120 o118) (wc_iret (pc := 111) (dAt dtX1_rules 55 rfl) rfl (nar_int _) hm)))))))))
    · replace hm := ite_t c106 hm
      exact wc_bipush (pc := 44) (dAt dtX1_rules 21 rfl) ⟨by decide, by decide, by decide⟩ (wc_iret (pc := 46) (dAt dtX1_rules 22 rfl) rfl (nar_int _) hm)
  have k140 : (¬ (x1 < 0) ∧ (¬ ((hI h 50 21) < x1))) → Wc G tX1_rules (d + 95) h Q 12 [some (vR 50), some (vI x1), none, none] [] h := fun c142 => by
    have z143 := kj139
    rw [show v101 = 1 from ev101.trans (b2i_t c142)] at z143
    exact wc_iconst (pc := 12) (dAt dtX1_rules 6 rfl) ⟨by decide, by decide⟩ (wc_goto (pc := 13) (tgt := 17) (dAt dtX1_rules 7 rfl) (by decide) (z143))
  have k141 : ¬ (¬ (x1 < 0) ∧ (¬ ((hI h 50 21) < x1))) → Wc G tX1_rules (d + 95) h Q 16 [some (vR 50), some (vI x1), none, none] [] h := fun c142 => by
    have z145 := kj139
    rw [show v101 = 0 from ev101.trans (b2i_f c142)] at z145
    exact wc_iconst (pc := 16) (dAt dtX1_rules 8 rfl) ⟨by decide, by decide⟩ (z145)
  exact wc_if_lt (pc := 1) (tgt := 16) (dAt dtX1_rules 1 rfl) (by decide) (fun c147 => (k141 (fun z => z.1 c147))) (fun c147 => wc_iload_n (pc := 4) (dAt dtX1_rules 2 rfl) rfl (wc_aload_n (pc := 5) (dAt dtX1_rules 3 rfl) rfl (wc_getKI hg (pc := 6) (dAt dtX1_rules 4 rfl) flX1_340_1 rfl ka50 (wc_icmp_gt (pc := 9) (tgt := 16) (dAt dtX1_rules 5 rfl) (by decide) (fun c148 => (k141 (fun z => (fun z => z c148) z.2))) (fun c148 => (k140 ⟨c147, c148⟩))))))
def tX0_rules : Mt := (⟨"FlyingDoctorsLaw", "rules", "(LFlyingDoctors;I[J)I"⟩, method_4_code, 4, (Option.some Jvm.ClassFile.FieldType.int), [((0 : Nat), (9 : Nat), (12 : Nat), (15 : Nat))])
def DX0_rules : List (Nat × Instr × Nat) := [(0, .aload_n 2, 1), (1, .iconst 0, 1), (2, .aload_n 0, 1), (3, .iload_n 1, 1), (4, .invokevirtual 17, 3), (7, .i2l, 1), (8, .lastore, 1), (9, .goto 6, 3), (12, .astore_n 3, 1), (13, .iconst 1, 1), (14, .ireturn, 1), (15, .iconst 0, 1), (16, .ireturn, 1)]
theorem dtX0_rules : chkD (mB tX0_rules) DX0_rules = true := by decide +kernel
theorem moX0_rules : MethOk tX0_rules 3 := ⟨Or.inr q774, by decide +kernel, ⟨by decide, by decide⟩, by decide +kernel⟩
def mX0_rules (x1 : Int) (h : Hp) (Q : Rs → Hp → Prop) : Prop := mX1_rules x1 h (kIx (fun a103 h104 => ob h104 a103 42 ∧ (Q (rV (vI 1)) h104)) (fun x102 h101 => ∀ h106 : Hp, h106 = sL h101 158 0 x102 → Q (rV (vI 0)) h106))
theorem wX0_rules {G : Gx} (hg : gF G = true) {d : Nat} {x1 : Int} {h : Hp} {Q : Rs → Hp → Prop} (hm : mX0_rules x1 h Q) : Ct G tX0_rules (d + 96) [vR 50, vI x1, vR 158] h Q := by
  refine ct_enter (L0 := [some (vR 50), some (vI x1), some (vR 158), none]) rfl rfl ?_
  unfold mX0_rules at hm
  refine wc_aload_n (pc := 0) (dAt dtX0_rules 0 rfl) rfl (wc_iconst (pc := 1) (dAt dtX0_rules 1 rfl) ⟨by decide, by decide⟩ (wc_aload_n (pc := 2) (dAt dtX0_rules 2 rfl) rfl (wc_iload_n (pc := 3) (dAt dtX0_rules 3 rfl) rfl (wc_kf hg fun zk => wc_callV (k := 1) (y' := tX1_rules) (av := [vI x1]) (st := [vI 0, vR 158]) (pc := 4) (dAt dtX0_rules 4 rfl) lkX0_17 moX1_rules q776 q777 (by decide) (zk.2 _ ka50).1 rfl rfl (Nat.le_of_ble_eq_true rfl) (wX1_rules hg hm) (krx_I (fun x102 h101 hm => ?_)) (kxx_I (fun a103 h104 hm => ?_))))))
  · obtain ⟨h106, eh106⟩ : ∃ h106 : Hp, h106 = sL h101 158 0 x102 := ⟨_, rfl⟩
    replace hm := hm h106 eh106
    exact wc_i2l (pc := 7) (dAt dtX0_rules 5 rfl) (wc_lastK hg (pc := 8) (dAt dtX0_rules 6 rfl) kr158 (by decide) (by decide) (by decide) (wc_hp eh106 (wc_goto (pc := 9) (tgt := 15) (dAt dtX0_rules 7 rfl) (by decide) (wc_iconst (pc := 15) (dAt dtX0_rules 11 rfl) ⟨by decide, by decide⟩ (wc_iret (pc := 16) (dAt dtX0_rules 12 rfl) rfl (nar_int _) hm)))))
  · obtain ⟨o105, hm⟩ := hm
    refine wx_hit rfl rfl (by decide) q677 (by decide) o105 rfl ?_
    exact wc_astore_n (pc := 12) (dAt dtX0_rules 8 rfl) (by decide) (wc_L (L' := [some (vR 50), some (vI x1), some (vR 158), some (vR a103)]) rfl (wc_iconst (pc := 13) (dAt dtX0_rules 9 rfl) ⟨by decide, by decide⟩ (wc_iret (pc := 14) (dAt dtX0_rules 10 rfl) rfl (nar_int _) hm)))
def tX4_defaults : Mt := (⟨"FlyingDoctorsModel", "defaults", "(I)V"⟩, prog_24_method_43_code, 2, (Option.none : Option Jvm.ClassFile.FieldType), [])
def DX4_defaults : List (Nat × Instr × Nat) := [(0, .aload_n 0, 1), (1, .getfield 150, 3), (4, .iload_n 1, 1), (5, .bipush 32, 2), (7, .iastore, 1), (8, .aload_n 0, 1), (9, .getfield 150, 3), (12, .iload_n 1, 1), (13, .iconst 1, 1), (14, .iadd, 1), (15, .bipush 40, 2), (17, .iastore, 1), (18, .aload_n 0, 1), (19, .getfield 150, 3), (22, .iload_n 1, 1), (23, .iconst 2, 1), (24, .iadd, 1), (25, .iconst 4, 1), (26, .iastore, 1), (27, .aload_n 0, 1), (28, .getfield 150, 3), (31, .iload_n 1, 1), (32, .iconst 3, 1), (33, .iadd, 1), (34, .iconst 2, 1), (35, .iastore, 1), (36, .aload_n 0, 1), (37, .getfield 150, 3), (40, .iload_n 1, 1), (41, .iconst 4, 1), (42, .iadd, 1), (43, .bipush 14, 2), (45, .iastore, 1), (46, .return_, 1)]
theorem dtX4_defaults : chkD (mB tX4_defaults) DX4_defaults = true := by decide +kernel
theorem moX4_defaults : MethOk tX4_defaults 1 := ⟨Or.inl ⟨rfl, q2535⟩, by decide +kernel, ⟨by decide, by decide⟩, by decide +kernel⟩
def mX4_defaults (x1 : Int) (h : Hp) (Q : Rs → Hp → Prop) : Prop := 0 ≤ x1 ∧ x1 < 60 ∧ ∀ h103 : Hp, h103 = sI h 96 (Int.toNat x1) 32 → nm (x1 + 1) ∧ 0 ≤ (x1 + 1) ∧ (x1 + 1) < 60 ∧ ∀ h107 : Hp, h107 = sI h103 96 (Int.toNat (x1 + 1)) 40 → nm (x1 + 2) ∧ 0 ≤ (x1 + 2) ∧ (x1 + 2) < 60 ∧ ∀ h111 : Hp, h111 = sI h107 96 (Int.toNat (x1 + 2)) 4 → nm (x1 + 3) ∧ 0 ≤ (x1 + 3) ∧ (x1 + 3) < 60 ∧ ∀ h115 : Hp, h115 = sI h111 96 (Int.toNat (x1 + 3)) 2 → nm (x1 + 4) ∧ 0 ≤ (x1 + 4) ∧ (x1 + 4) < 60 ∧ ∀ h119 : Hp, h119 = sI h115 96 (Int.toNat (x1 + 4)) 14 → Q rN h119
theorem wX4_defaults {G : Gx} (hg : gF G = true) {d : Nat} {x1 : Int} {h : Hp} {Q : Rs → Hp → Prop} (hm : mX4_defaults x1 h Q) : Ct G tX4_defaults (d + 0) [vR 75, vI x1] h Q := by
  refine ct_enter (L0 := [some (vR 75), some (vI x1)]) rfl rfl ?_
  unfold mX4_defaults at hm
  obtain ⟨o101, o102, hm⟩ := hm
  obtain ⟨h103, eh103⟩ : ∃ h103 : Hp, h103 = sI h 96 (Int.toNat x1) 32 := ⟨_, rfl⟩
  replace hm := hm h103 eh103
  obtain ⟨o104, o105, o106, hm⟩ := hm
  obtain ⟨h107, eh107⟩ : ∃ h107 : Hp, h107 = sI h103 96 (Int.toNat (x1 + 1)) 40 := ⟨_, rfl⟩
  replace hm := hm h107 eh107
  obtain ⟨o108, o109, o110, hm⟩ := hm
  obtain ⟨h111, eh111⟩ : ∃ h111 : Hp, h111 = sI h107 96 (Int.toNat (x1 + 2)) 4 := ⟨_, rfl⟩
  replace hm := hm h111 eh111
  obtain ⟨o112, o113, o114, hm⟩ := hm
  obtain ⟨h115, eh115⟩ : ∃ h115 : Hp, h115 = sI h111 96 (Int.toNat (x1 + 3)) 2 := ⟨_, rfl⟩
  replace hm := hm h115 eh115
  obtain ⟨o116, o117, o118, hm⟩ := hm
  obtain ⟨h119, eh119⟩ : ∃ h119 : Hp, h119 = sI h115 96 (Int.toNat (x1 + 4)) 14 := ⟨_, rfl⟩
  replace hm := hm h119 eh119
  exact wc_aload_n (pc := 0) (dAt dtX4_defaults 0 rfl) rfl (wc_getKR hg (pc := 1) (dAt dtX4_defaults 1 rfl) flX4_150_4 rfl ka75 kf75_41 (wc_iload_n (pc := 4) (dAt dtX4_defaults 2 rfl) rfl (wc_bipush (pc := 5) (dAt dtX4_defaults 3 rfl) ⟨by decide, by decide, by decide⟩ (wc_iastK hg (pc := 7) (dAt dtX4_defaults 4 rfl) kr96 (by decide) o101 o102 (wc_hp eh103 (wc_aload_n (pc := 8) (dAt dtX4_defaults 5 rfl) rfl (wc_getKR hg (pc := 9) (dAt dtX4_defaults 6 rfl) flX4_150_4 rfl ka75 kf75_41 (wc_iload_n (pc := 12) (dAt dtX4_defaults 7 rfl) rfl (wc_iconst (pc := 13) (dAt dtX4_defaults 8 rfl) ⟨by decide, by decide⟩ (wc_iadd (pc := 14) (dAt dtX4_defaults 9 rfl) o104 (wc_bipush (pc := 15) (dAt dtX4_defaults 10 rfl) ⟨by decide, by decide, by decide⟩ (wc_iastK hg (pc := 17) (dAt dtX4_defaults 11 rfl) kr96 (by decide) o105 o106 (wc_hp eh107 (wc_aload_n (pc := 18) (dAt dtX4_defaults 12 rfl) rfl (wc_getKR hg (pc := 19) (dAt dtX4_defaults 13 rfl) flX4_150_4 rfl ka75 kf75_41 (wc_iload_n (pc := 22) (dAt dtX4_defaults 14 rfl) rfl (wc_iconst (pc := 23) (dAt dtX4_defaults 15 rfl) ⟨by decide, by decide⟩ (wc_iadd (pc := 24) (dAt dtX4_defaults 16 rfl) o108 (wc_iconst (pc := 25) (dAt dtX4_defaults 17 rfl) ⟨by decide, by decide⟩ (wc_iastK hg (pc := 26) (dAt dtX4_defaults 18 rfl) kr96 (by decide) o109 o110 (wc_hp eh111 (wc_aload_n (pc := 27) (dAt dtX4_defaults 19 rfl) rfl (wc_getKR hg (pc := 28) (dAt dtX4_defaults 20 rfl) flX4_150_4 rfl ka75 kf75_41 (wc_iload_n (pc := 31) (dAt dtX4_defaults 21 rfl) rfl (wc_iconst (pc := 32) (dAt dtX4_defaults 22 rfl) ⟨by decide, by decide⟩ (wc_iadd (pc := 33) (dAt dtX4_defaults 23 rfl) o112 (wc_iconst (pc := 34) (dAt dtX4_defaults 24 rfl) ⟨by decide, by decide⟩ (wc_iastK hg (pc := 35) (dAt dtX4_defaults 25 rfl) kr96 (by decide) o113 o114 (wc_hp eh115 (wc_aload_n (pc := 36) (dAt dtX4_defaults 26 rfl) rfl (wc_getKR hg (pc := 37) (dAt dtX4_defaults 27 rfl) flX4_150_4 rfl ka75 kf75_41 (wc_iload_n (pc := 40) (dAt dtX4_defaults 28 rfl) rfl (wc_iconst (pc := 41) (dAt dtX4_defaults 29 rfl) ⟨by decide, by decide⟩ (wc_iadd (pc := 42) (dAt dtX4_defaults 30 rfl) o116 (wc_bipush (pc := 43) (dAt dtX4_defaults 31 rfl) ⟨by decide, by decide, by decide⟩ (wc_iastK hg (pc := 45) (dAt dtX4_defaults 32 rfl) kr96 (by decide) o117 o118 (wc_hp eh119 (wc_vret (pc := 46) (dAt dtX4_defaults 33 rfl) rfl hm))))))))))))))))))))))))))))))))))))))
def tX4_byteAt : Mt := (⟨"FlyingDoctorsModel", "byteAt", "(I)I"⟩, prog_24_method_18_code, 2, (Option.some Jvm.ClassFile.FieldType.int), [])
def DX4_byteAt : List (Nat × Instr × Nat) := [(0, .iload_n 1, 1), (1, .aload_n 0, 1), (2, .getfield 94, 3), (5, .if_icmp .ge 12, 3), (8, .aload_n 0, 1), (9, .getfield 91, 3), (12, .iload_n 1, 1), (13, .iaload, 1), (14, .goto 4, 3), (17, .iconst 0, 1), (18, .ireturn, 1)]
theorem dtX4_byteAt : chkD (mB tX4_byteAt) DX4_byteAt = true := by decide +kernel
theorem moX4_byteAt : MethOk tX4_byteAt 1 := ⟨Or.inl ⟨rfl, q2543⟩, by decide +kernel, ⟨by decide, by decide⟩, by decide +kernel⟩
def vX4_byteAt (x1 : Int) (h : Hp) : Int := (if ¬ ((hI h 75 26) ≤ x1) then (hI h 93 (Int.toNat x1)) else 0)
def oX4_byteAt (x1 : Int) (h : Hp) : Prop := ((¬ ((hI h 75 26) ≤ x1)) → 0 ≤ x1 ∧ x1 < 800)
theorem wX4_byteAt {G : Gx} (hg : gF G = true) {d : Nat} {x1 : Int} {h : Hp} {Q : Rs → Hp → Prop} (hm : oX4_byteAt x1 h) (hq : Q (rV (vI (vX4_byteAt x1 h))) h) : Ct G tX4_byteAt (d + 0) [vR 75, vI x1] h Q := by
  refine ct_enter (L0 := [some (vR 75), some (vI x1)]) rfl rfl ?_
  have p103 := hm
  have k104 : (¬ ((hI h 75 26) ≤ x1)) → Wc G tX4_byteAt (d + 0) h Q 8 [some (vR 75), some (vI x1)] [] h := fun c106 => by
    obtain ⟨o101, o102⟩ := (p103 c106)
    have z : Q (rV (vI (hI h 93 (Int.toNat x1)))) h := by
      rw [show (vX4_byteAt x1 h) = (hI h 93 (Int.toNat x1)) from (if_pos c106)] at hq
      exact hq
    exact wc_aload_n (pc := 8) (dAt dtX4_byteAt 4 rfl) rfl (wc_getKR hg (pc := 9) (dAt dtX4_byteAt 5 rfl) flX4_91_4 rfl ka75 kf75_22 (wc_iload_n (pc := 12) (dAt dtX4_byteAt 6 rfl) rfl (wc_ialdK hg (pc := 13) (dAt dtX4_byteAt 7 rfl) kr93 o101 o102 (wc_goto (pc := 14) (tgt := 18) (dAt dtX4_byteAt 8 rfl) (by decide) (wc_iret (pc := 18) (dAt dtX4_byteAt 10 rfl) rfl (nar_int _) z)))))
  have k105 : ¬ (¬ ((hI h 75 26) ≤ x1)) → Wc G tX4_byteAt (d + 0) h Q 17 [some (vR 75), some (vI x1)] [] h := fun c106 => by
    have z : Q (rV (vI 0)) h := by
      rw [show (vX4_byteAt x1 h) = 0 from (if_neg c106)] at hq
      exact hq
    exact wc_iconst (pc := 17) (dAt dtX4_byteAt 9 rfl) ⟨by decide, by decide⟩ (wc_iret (pc := 18) (dAt dtX4_byteAt 10 rfl) rfl (nar_int _) z)
  exact wc_iload_n (pc := 0) (dAt dtX4_byteAt 0 rfl) rfl (wc_aload_n (pc := 1) (dAt dtX4_byteAt 1 rfl) rfl (wc_getKI hg (pc := 2) (dAt dtX4_byteAt 2 rfl) flX4_94_4 rfl ka75 (wc_icmp_ge (pc := 5) (tgt := 17) (dAt dtX4_byteAt 3 rfl) (by decide) (fun c107 => (k105 (fun z => z c107))) (fun c107 => (k104 c107)))))
