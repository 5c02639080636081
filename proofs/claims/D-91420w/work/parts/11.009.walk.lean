set_option maxRecDepth 100000
set_option maxHeartbeats 1000000
/-! what methods do, and their walks, by program -/
def tX8_word : Mt := (⟨"FlyingDoctors$Reader", "word", "()V"⟩, prog_16_method_23_code, 2, (Option.none : Option Jvm.ClassFile.FieldType), [])
def DX8_word : List (Nat × Instr × Nat) := [(0, .aload_n 0, 1), (1, .getfield 22, 3), (4, .invokeinterface 118 1, 5), (9, .bipush 12, 2), (11, .if_icmp .ne 12, 3), (14, .new 102, 3), (17, .dup, 1), (18, .iconst 2, 1), (19, .invokespecial 104, 3), (22, .athrow, 1), (23, .aload_n 0, 1), (24, .invokevirtual 115, 3), (27, .aload_n 0, 1), (28, .aload_n 0, 1), (29, .getfield 47, 3), (32, .iconst 1, 1), (33, .if_icmp .ne 37, 3), (36, .aload_n 0, 1), (37, .ldc 206, 2), (39, .invokevirtual 158, 3), (42, .iconst (-1), 1), (43, .if_icmp .ne 27, 3), (46, .aload_n 0, 1), (47, .ldc 164, 2), (49, .invokevirtual 158, 3), (52, .iconst (-1), 1), (53, .if_icmp .ne 17, 3), (56, .aload_n 0, 1), (57, .ldc 156, 2), (59, .invokevirtual 158, 3), (62, .iconst (-1), 1), (63, .if_icmp .ne 7, 3), (66, .iconst 1, 1), (67, .goto 4, 3), (70, .iconst 0, 1), (71, .invokevirtual 111, 3), (74, .aload_n 0, 1), (75, .getfield 75, 3), (78, .aload_n 0, 1), (79, .getfield 44, 3), (82, .isub, 1), (83, .bipush 8, 2), (85, .if_icmp .le 12, 3), (88, .new 102, 3), (91, .dup, 1), (92, .iconst 2, 1), (93, .invokespecial 104, 3), (96, .athrow, 1), (97, .aload_n 0, 1), (98, .invokevirtual 208, 3), (101, .astore_n 1, 1), (102, .aload_n 0, 1), (103, .getfield 22, 3), (106, .aload_n 1, 1), (107, .invokeinterface 211 2, 5), (112, .ifCond .eq 12, 3), (115, .new 102, 3), (118, .dup, 1), (119, .iconst 4, 1), (120, .invokespecial 104, 3), (123, .athrow, 1), (124, .aload_n 0, 1), (125, .getfield 3, 3), (128, .getfield 134, 3), (131, .aload_n 1, 1), (132, .invokeinterface 211 2, 5), (137, .ifCond .ne 50, 3), (140, .aload_n 0, 1), (141, .getfield 3, 3), (144, .getfield 134, 3), (147, .invokeinterface 118 1, 5), (152, .aload_n 0, 1), (153, .getfield 18, 3), (156, .invokeinterface 118 1, 5), (161, .iadd, 1), (162, .bipush 16, 2), (164, .if_icmp .ne 12, 3), (167, .new 102, 3), (170, .dup, 1), (171, .iconst 2, 1), (172, .invokespecial 104, 3), (175, .athrow, 1), (176, .aload_n 0, 1), (177, .getfield 18, 3), (180, .aload_n 1, 1), (181, .invokeinterface 215 2, 5), (186, .pop, 1), (187, .aload_n 0, 1), (188, .getfield 22, 3), (191, .aload_n 1, 1), (192, .invokeinterface 215 2, 5), (197, .pop, 1), (198, .aload_n 0, 1), (199, .invokevirtual 115, 3), (202, .aload_n 0, 1), (203, .bipush 59, 2), (205, .invokevirtual 153, 3), (208, .return_, 1)]
theorem dtX8_word : chkD (mB tX8_word) DX8_word = true := by decide +kernel
theorem moX8_word : MethOk tX8_word 0 := ⟨Or.inl ⟨rfl, q992⟩, by decide +kernel, ⟨by decide, by decide⟩, by decide +kernel⟩
def mX8_word (r0 : Nat) (h : Hp) (Q : Rs → Hp → Prop) : Prop := ob h r0 8 ∧ oJ2_size (hR h r0 2) h ∧ ob h (hR h r0 2) 32 ∧ if ¬ ((vJ2_size (hR h r0 2) h) ≠ 12) then hn h + 1 ≤ 878547 ∧ hq h + 7 ≤ 6460613 ∧ ∀ r108 : Nat, r108 = hn h → ∀ h109 : Hp, h109 = nw h 9 0 7 → mX9_init r108 2 h109 (kN Q (fun h110 => ob h110 r108 9 ∧ Q (rX r108) h110)) else mX8_next r0 h (kN Q (fun h112 => ob h112 r0 8 ∧ jn (fun (h116 : Hp) => ob h116 r0 8 ∧ mX8_want r0 0 h116 (kN Q (fun h188 => ob h188 r0 8 ∧ nm ((hI h188 r0 6) - (hI h188 r0 5)) ∧ if ¬ (((hI h188 r0 6) - (hI h188 r0 5)) ≤ 8) then hn h188 + 1 ≤ 878547 ∧ hq h188 + 7 ≤ 6460613 ∧ ∀ r195 : Nat, r195 = hn h188 → ∀ h196 : Hp, h196 = nw h188 9 0 7 → mX9_init r195 2 h196 (kN Q (fun h197 => ob h197 r195 9 ∧ Q (rX r195) h197)) else mX8_text r0 h188 (kR Q (fun r200 h199 => ob h199 r0 8 ∧ ob h199 (hR h199 r0 2) 32 ∧ mJ2_contains (hR h199 r0 2) r200 h199 (kI Q (fun x204 h203 => if ¬ (x204 = 0) then hn h203 + 1 ≤ 878547 ∧ hq h203 + 7 ≤ 6460613 ∧ ∀ r209 : Nat, r209 = hn h203 → ∀ h210 : Hp, h210 = nw h203 9 0 7 → mX9_init r209 4 h210 (kN Q (fun h211 => ob h211 r209 9 ∧ Q (rX r209) h211)) else ob h203 r0 8 ∧ hR h203 r0 9 = 50 ∧ mJ2_contains 58 r200 h203 (kI Q (fun x216 h215 => jn (fun (h219 : Hp) => ob h219 r0 8 ∧ ob h219 (hR h219 r0 2) 32 ∧ mJ2_add (hR h219 r0 2) r200 h219 (kI Q (fun x240 h239 => ob h239 r0 8 ∧ mX8_next r0 h239 (kN Q (fun h242 => ob h242 r0 8 ∧ mX8_need r0 59 h242 (kN Q (fun h244 => Q rN h244))))))) (fun K217 => if ¬ (x216 ≠ 0) then ob h215 r0 8 ∧ hR h215 r0 9 = 50 ∧ oJ2_size 58 h215 ∧ oJ2_size (hR h215 r0 1) h215 ∧ ob h215 (hR h215 r0 1) 32 ∧ nm ((vJ2_size 58 h215) + (vJ2_size (hR h215 r0 1) h215)) ∧ if ¬ (((vJ2_size 58 h215) + (vJ2_size (hR h215 r0 1) h215)) ≠ 16) then hn h215 + 1 ≤ 878547 ∧ hq h215 + 7 ≤ 6460613 ∧ ∀ r231 : Nat, r231 = hn h215 → ∀ h232 : Hp, h232 = nw h215 9 0 7 → mX9_init r231 2 h232 (kN Q (fun h233 => ob h233 r231 9 ∧ Q (rX r231) h233)) else mJ2_add (hR h215 r0 1) r200 h215 (kI Q (fun x236 h235 => K217 h235)) else K217 h215)))))))))) (fun K114 => if ¬ ((hI h112 r0 4) ≠ 1) then mX8_among r0 17 h112 (kI Q (fun x119 h118 => if ¬ (x119 ≠ (-1)) then ob h118 r0 8 ∧ mX8_among r0 18 h118 (kI Q (fun x123 h122 => if ¬ (x123 ≠ (-1)) then ob h122 r0 8 ∧ mX8_among r0 19 h122 (kI Q (fun x127 h126 => if ¬ (x127 ≠ (-1)) then ob h126 r0 8 ∧ mX8_want r0 1 h126 (kN Q (fun h130 => ob h130 r0 8 ∧ nm ((hI h130 r0 6) - (hI h130 r0 5)) ∧ if ¬ (((hI h130 r0 6) - (hI h130 r0 5)) ≤ 8) then hn h130 + 1 ≤ 878547 ∧ hq h130 + 7 ≤ 6460613 ∧ ∀ r137 : Nat, r137 = hn h130 → ∀ h138 : Hp, h138 = nw h130 9 0 7 → mX9_init r137 2 h138 (kN Q (fun h139 => ob h139 r137 9 ∧ Q (rX r137) h139)) else mX8_text r0 h130 (kR Q (fun r142 h141 => ob h141 r0 8 ∧ ob h141 (hR h141 r0 2) 32 ∧ mJ2_contains (hR h141 r0 2) r142 h141 (kI Q (fun x146 h145 => if ¬ (x146 = 0) then hn h145 + 1 ≤ 878547 ∧ hq h145 + 7 ≤ 6460613 ∧ ∀ r151 : Nat, r151 = hn h145 → ∀ h152 : Hp, h152 = nw h145 9 0 7 → mX9_init r151 4 h152 (kN Q (fun h153 => ob h153 r151 9 ∧ Q (rX r151) h153)) else ob h145 r0 8 ∧ hR h145 r0 9 = 50 ∧ mJ2_contains 58 r142 h145 (kI Q (fun x158 h157 => jn (fun (h161 : Hp) => ob h161 r0 8 ∧ ob h161 (hR h161 r0 2) 32 ∧ mJ2_add (hR h161 r0 2) r142 h161 (kI Q (fun x182 h181 => ob h181 r0 8 ∧ mX8_next r0 h181 (kN Q (fun h184 => ob h184 r0 8 ∧ mX8_need r0 59 h184 (kN Q (fun h186 => Q rN h186))))))) (fun K159 => if ¬ (x158 ≠ 0) then ob h157 r0 8 ∧ hR h157 r0 9 = 50 ∧ oJ2_size 58 h157 ∧ oJ2_size (hR h157 r0 1) h157 ∧ ob h157 (hR h157 r0 1) 32 ∧ nm ((vJ2_size 58 h157) + (vJ2_size (hR h157 r0 1) h157)) ∧ if ¬ (((vJ2_size 58 h157) + (vJ2_size (hR h157 r0 1) h157)) ≠ 16) then hn h157 + 1 ≤ 878547 ∧ hq h157 + 7 ≤ 6460613 ∧ ∀ r173 : Nat, r173 = hn h157 → ∀ h174 : Hp, h174 = nw h157 9 0 7 → mX9_init r173 2 h174 (kN Q (fun h175 => ob h175 r173 9 ∧ Q (rX r173) h175)) else mJ2_add (hR h157 r0 1) r142 h157 (kI Q (fun x178 h177 => K159 h177)) else K159 h157))))))))) else K114 h126)) else K114 h122)) else K114 h118)) else K114 h112)))
theorem wX8_word {G : Gx} (hg : gF G = true) {d : Nat} {r0 : Nat} {h : Hp} {Q : Rs → Hp → Prop} (hm : mX8_word r0 h Q) : Ct G tX8_word (d + 7) [vR r0] h Q := by
  refine ct_enter (L0 := [some (vR r0), none]) rfl rfl ?_
  unfold mX8_word at hm
  obtain ⟨o101, o102, o103, hm⟩ := hm
  refine wc_aload_n (pc := 0) (dAt dtX8_word 0 rfl) rfl (wc_getR (pc := 1) (dAt dtX8_word 1 rfl) flX8_22_8 rfl o101 (wc_callF (k := 32) (x := ⟨"java/util/List", "size", "()I"⟩) (y' := tJ2_size) (P := eI (vJ2_size (hR h r0 2) h) h) (pc := 4) (dAt dtX8_word 2 rfl) q994 q366 q365 ⟨by decide, by decide⟩ moJ2_size rfl q370 q371 q369 q367 q368 (by decide) o103 rfl rfl (Nat.le_of_ble_eq_true rfl) (wJ2_size hg o102 ⟨rfl, rfl⟩) (ep_I (wc_bipush (pc := 9) (dAt dtX8_word 3 rfl) ⟨by decide, by decide, by decide⟩ (wc_icmp_ne (pc := 11) (tgt := 23) (dAt dtX8_word 4 rfl) (by decide) (fun c104 => ?_) (fun c104 => ?_)))) ex_I))
  · replace hm := ite_f (fun z => z c104) hm
    refine wc_aload_n (pc := 23) (dAt dtX8_word 10 rfl) rfl (wc_callV (k := 8) (y' := tX8_next) (av := []) (st := []) (pc := 24) (dAt dtX8_word 11 rfl) lkX8_115 moX8_next q829 qs7 (by decide) o101 rfl rfl (Nat.le_of_ble_eq_true rfl) (wX8_next hg hm) (kr_N (fun h112 hm => ?_)) (kx_N rfl))
    obtain ⟨o113, hm⟩ := hm
    refine wc_aload_n (pc := 27) (dAt dtX8_word 12 rfl) rfl (wc_aload_n (pc := 28) (dAt dtX8_word 13 rfl) rfl (wc_getI (pc := 29) (dAt dtX8_word 14 rfl) flX8_47_8 rfl o113 (wc_iconst (pc := 32) (dAt dtX8_word 15 rfl) ⟨by decide, by decide⟩ (?_))))
    refine jn1_ind (P := fun (h116 : Hp) => Wc G tX8_word (d + 7) h Q 70 [some (vR r0), none] [vR r0] h116) (fun h116 hm => ?_) (fun K114 kj115 hm => ?_) hm
    · obtain ⟨o187, hm⟩ := hm
      refine wc_iconst (pc := 70) (dAt dtX8_word 34 rfl) ⟨by decide, by decide⟩ (wc_callV (k := 8) (y' := tX8_want) (av := [vI 0]) (st := []) (pc := 71) (dAt dtX8_word 35 rfl) lkX8_111 moX8_want q963 qs13 (by decide) o187 rfl rfl (Nat.le_of_ble_eq_true rfl) (wX8_want hg hm) (kr_N (fun h188 hm => ?_)) (kx_N rfl))
      obtain ⟨o189, o190, hm⟩ := hm
      refine wc_aload_n (pc := 74) (dAt dtX8_word 36 rfl) rfl (wc_getI (pc := 75) (dAt dtX8_word 37 rfl) flX8_75_8 rfl o189 (wc_aload_n (pc := 78) (dAt dtX8_word 38 rfl) rfl (wc_getI (pc := 79) (dAt dtX8_word 39 rfl) flX8_44_8 rfl o189 (wc_isub (pc := 82) (dAt dtX8_word 40 rfl) o190 (wc_bipush (pc := 83) (dAt dtX8_word 41 rfl) ⟨by decide, by decide, by decide⟩ (wc_icmp_le (pc := 85) (tgt := 97) (dAt dtX8_word 42 rfl) (by decide) (fun c191 => ?_) (fun c191 => ?_)))))))
      · replace hm := ite_f (fun z => z c191) hm
        refine wc_aload_n (pc := 97) (dAt dtX8_word 48 rfl) rfl (wc_callV (k := 8) (y' := tX8_text) (av := []) (st := []) (pc := 98) (dAt dtX8_word 49 rfl) lkX8_208 moX8_text q1009 qs17 (by decide) o189 rfl rfl (Nat.le_of_ble_eq_true rfl) (wX8_text hg hm) (kr_R (fun r200 h199 hm => ?_)) (kx_R rfl))
        obtain ⟨o201, o202, hm⟩ := hm
        refine wc_astore_n (pc := 101) (dAt dtX8_word 50 rfl) (by decide) (wc_L (L' := [some (vR r0), some (vR r200)]) rfl (wc_aload_n (pc := 102) (dAt dtX8_word 51 rfl) rfl (wc_getR (pc := 103) (dAt dtX8_word 52 rfl) flX8_22_8 rfl o201 (wc_aload_n (pc := 106) (dAt dtX8_word 53 rfl) rfl (wc_callF (k := 32) (x := ⟨"java/util/List", "contains", "(Ljava/lang/Object;)Z"⟩) (y' := tJ2_contains) (av := [vR r200]) (st := []) (pc := 107) (dAt dtX8_word 54 rfl) q1231 q1233 q1232 ⟨by decide, by decide⟩ moJ2_contains rfl q1236 q1237 q1235 q367 q1234 (by decide) o202 rfl rfl (Nat.le_of_ble_eq_true rfl) (wJ2_contains hg hm) (kr_I (fun x204 h203 hm => ?_)) (kx_I rfl))))))
        refine wc_if_eq (pc := 112) (tgt := 124) (dAt dtX8_word 55 rfl) (by decide) (fun c205 => ?_) (fun c205 => ?_)
        · replace hm := ite_f (fun z => z c205) hm
          obtain ⟨o213, o214, hm⟩ := hm
          refine wc_aload_n (pc := 124) (dAt dtX8_word 61 rfl) rfl (wc_getR (pc := 125) (dAt dtX8_word 62 rfl) flX8_3_8 rfl o213 (wc_vr o214.symm (wc_getKR hg (pc := 128) (dAt dtX8_word 63 rfl) flX8_134_1 rfl ka50 kf50_8 (wc_aload_n (pc := 131) (dAt dtX8_word 64 rfl) rfl (wc_kf hg fun zk => (wc_callF (k := 32) (x := ⟨"java/util/List", "contains", "(Ljava/lang/Object;)Z"⟩) (y' := tJ2_contains) (av := [vR r200]) (st := []) (pc := 132) (dAt dtX8_word 65 rfl) q1231 q1233 q1232 ⟨by decide, by decide⟩ moJ2_contains rfl q1236 q1237 q1235 q367 q1234 (by decide) (zk.2 _ ka58).1 rfl rfl (Nat.le_of_ble_eq_true rfl) (wJ2_contains hg hm) (kr_I (fun x216 h215 hm => ?_)) (kx_I rfl)))))))
          refine jn1_ind (P := fun (h219 : Hp) => Wc G tX8_word (d + 7) h Q 187 [some (vR r0), some (vR r200)] [] h219) (fun h219 hm => ?_) (fun K217 kj218 hm => ?_) hm
          · obtain ⟨o237, o238, hm⟩ := hm
            refine wc_aload_n (pc := 187) (dAt dtX8_word 87 rfl) rfl (wc_getR (pc := 188) (dAt dtX8_word 88 rfl) flX8_22_8 rfl o237 (wc_aload_n (pc := 191) (dAt dtX8_word 89 rfl) rfl (wc_callF (k := 32) (x := ⟨"java/util/List", "add", "(Ljava/lang/Object;)Z"⟩) (y' := tJ2_add) (av := [vR r200]) (st := []) (pc := 192) (dAt dtX8_word 90 rfl) q1285 q424 q423 ⟨by decide, by decide⟩ moJ2_add rfl q427 q428 q426 q367 q425 (by decide) o238 rfl rfl (Nat.le_of_ble_eq_true rfl) (wJ2_add hg hm) (kr_I (fun x240 h239 hm => ?_)) (kx_I rfl))))
            obtain ⟨o241, hm⟩ := hm
            refine wc_pop (pc := 197) (dAt dtX8_word 91 rfl) rfl (wc_aload_n (pc := 198) (dAt dtX8_word 92 rfl) rfl (wc_callV (k := 8) (y' := tX8_next) (av := []) (st := []) (pc := 199) (dAt dtX8_word 93 rfl) lkX8_115 moX8_next q829 qs7 (by decide) o241 rfl rfl (Nat.le_of_ble_eq_true rfl) (wX8_next hg hm) (kr_N (fun h242 hm => ?_)) (kx_N rfl)))
            obtain ⟨o243, hm⟩ := hm
            refine wc_aload_n (pc := 202) (dAt dtX8_word 94 rfl) rfl (wc_bipush (pc := 203) (dAt dtX8_word 95 rfl) ⟨by decide, by decide, by decide⟩ (wc_callV (k := 8) (y' := tX8_need) (av := [vI 59]) (st := []) (pc := 205) (dAt dtX8_word 96 rfl) lkX8_153 moX8_need q1288 qs18 (by decide) o243 rfl rfl (Nat.le_of_ble_eq_true rfl) (wX8_need hg hm) (kr_N (fun h244 hm => ?_)) (kx_N rfl)))
            exact wc_vret (pc := 208) (dAt dtX8_word 97 rfl) rfl hm
          · refine wc_if_ne (pc := 137) (tgt := 187) (dAt dtX8_word 66 rfl) (by decide) (fun c220 => ?_) (fun c220 => ?_)
            · replace hm := ite_f (fun z => z c220) hm
              exact kj218 _ hm
            · replace hm := ite_t c220 hm
              obtain ⟨o221, o222, o223, o224, o225, o226, hm⟩ := hm
              refine wc_aload_n (pc := 140) (dAt dtX8_word 67 rfl) rfl (wc_getR (pc := 141) (dAt dtX8_word 68 rfl) flX8_3_8 rfl o221 (wc_vr o222.symm (wc_getKR hg (pc := 144) (dAt dtX8_word 69 rfl) flX8_134_1 rfl ka50 kf50_8 (wc_kf hg fun zk => (wc_callF (k := 32) (x := ⟨"java/util/List", "size", "()I"⟩) (y' := tJ2_size) (P := eI (vJ2_size 58 h215) h215) (pc := 147) (dAt dtX8_word 70 rfl) q994 q366 q365 ⟨by decide, by decide⟩ moJ2_size rfl q370 q371 q369 q367 q368 (by decide) (zk.2 _ ka58).1 rfl rfl (Nat.le_of_ble_eq_true rfl) (wJ2_size hg o223 ⟨rfl, rfl⟩) (ep_I (wc_aload_n (pc := 152) (dAt dtX8_word 71 rfl) rfl (wc_getR (pc := 153) (dAt dtX8_word 72 rfl) flX8_18_8 rfl o221 (wc_callF (k := 32) (x := ⟨"java/util/List", "size", "()I"⟩) (y' := tJ2_size) (P := eI (vJ2_size (hR h215 r0 1) h215) h215) (pc := 156) (dAt dtX8_word 73 rfl) q994 q366 q365 ⟨by decide, by decide⟩ moJ2_size rfl q370 q371 q369 q367 q368 (by decide) o225 rfl rfl (Nat.le_of_ble_eq_true rfl) (wJ2_size hg o224 ⟨rfl, rfl⟩) (ep_I (wc_iadd (pc := 161) (dAt dtX8_word 74 rfl) o226 (wc_bipush (pc := 162) (dAt dtX8_word 75 rfl) ⟨by decide, by decide, by decide⟩ (wc_icmp_ne (pc := 164) (tgt := 176) (dAt dtX8_word 76 rfl) (by decide) (fun c227 => ?_) (fun c227 => ?_))))) ex_I)))) ex_I)))))
              · replace hm := ite_f (fun z => z c227) hm
                refine wc_aload_n (pc := 176) (dAt dtX8_word 82 rfl) rfl (wc_getR (pc := 177) (dAt dtX8_word 83 rfl) flX8_18_8 rfl o221 (wc_aload_n (pc := 180) (dAt dtX8_word 84 rfl) rfl (wc_callF (k := 32) (x := ⟨"java/util/List", "add", "(Ljava/lang/Object;)Z"⟩) (y' := tJ2_add) (av := [vR r200]) (st := []) (pc := 181) (dAt dtX8_word 85 rfl) q1285 q424 q423 ⟨by decide, by decide⟩ moJ2_add rfl q427 q428 q426 q367 q425 (by decide) o225 rfl rfl (Nat.le_of_ble_eq_true rfl) (wJ2_add hg hm) (kr_I (fun x236 h235 hm => ?_)) (kx_I rfl))))
                exact wc_pop (pc := 186) (dAt dtX8_word 86 rfl) rfl (kj218 _ hm)
              · replace hm := ite_t c227 hm
                obtain ⟨o228, o229, hm⟩ := hm
                obtain ⟨r231, er231⟩ : ∃ r231 : Nat, r231 = hn h215 := ⟨_, rfl⟩
                replace hm := hm r231 er231
                obtain ⟨h232, eh232⟩ : ∃ h232 : Hp, h232 = nw h215 9 0 7 := ⟨_, rfl⟩
                replace hm := hm h232 eh232
                refine wc_k0 fun n230 => (wc_new (k := 9) (pc := 167) (dAt dtX8_word 77 rfl) q965 q966 q154 (by decide) o228 o229 (wc_hp eh232 (wc_vr er231 (wc_dup (pc := 170) (dAt dtX8_word 78 rfl) rfl (wc_iconst (pc := 171) (dAt dtX8_word 79 rfl) ⟨by decide, by decide⟩ (wc_callI (y' := tX9_init) (av := [vI 2]) (st := [vR r231]) (pc := 172) (dAt dtX8_word 80 rfl) lkX8_104 moX9_init q975 rfl q976 (k0_at er231 n230) rfl rfl (Nat.le_of_ble_eq_true rfl) (wX9_init hg hm) (kr_N (fun h233 hm => ?_)) (kx_N rfl)))))))
                obtain ⟨o234, hm⟩ := hm
                exact wc_athrow (pc := 175) (dAt dtX8_word 81 rfl) (by decide) o234 rfl hm
        · replace hm := ite_t c205 hm
          obtain ⟨o206, o207, hm⟩ := hm
          obtain ⟨r209, er209⟩ : ∃ r209 : Nat, r209 = hn h203 := ⟨_, rfl⟩
          replace hm := hm r209 er209
          obtain ⟨h210, eh210⟩ : ∃ h210 : Hp, h210 = nw h203 9 0 7 := ⟨_, rfl⟩
          replace hm := hm h210 eh210
          refine wc_k0 fun n208 => (wc_new (k := 9) (pc := 115) (dAt dtX8_word 56 rfl) q965 q966 q154 (by decide) o206 o207 (wc_hp eh210 (wc_vr er209 (wc_dup (pc := 118) (dAt dtX8_word 57 rfl) rfl (wc_iconst (pc := 119) (dAt dtX8_word 58 rfl) ⟨by decide, by decide⟩ (wc_callI (y' := tX9_init) (av := [vI 4]) (st := [vR r209]) (pc := 120) (dAt dtX8_word 59 rfl) lkX8_104 moX9_init q975 rfl q976 (k0_at er209 n208) rfl rfl (Nat.le_of_ble_eq_true rfl) (wX9_init hg hm) (kr_N (fun h211 hm => ?_)) (kx_N rfl)))))))
          obtain ⟨o212, hm⟩ := hm
          exact wc_athrow (pc := 123) (dAt dtX8_word 60 rfl) (by decide) o212 rfl hm
      · replace hm := ite_t c191 hm
        obtain ⟨o192, o193, hm⟩ := hm
        obtain ⟨r195, er195⟩ : ∃ r195 : Nat, r195 = hn h188 := ⟨_, rfl⟩
        replace hm := hm r195 er195
        obtain ⟨h196, eh196⟩ : ∃ h196 : Hp, h196 = nw h188 9 0 7 := ⟨_, rfl⟩
        replace hm := hm h196 eh196
        refine wc_k0 fun n194 => (wc_new (k := 9) (pc := 88) (dAt dtX8_word 43 rfl) q965 q966 q154 (by decide) o192 o193 (wc_hp eh196 (wc_vr er195 (wc_dup (pc := 91) (dAt dtX8_word 44 rfl) rfl (wc_iconst (pc := 92) (dAt dtX8_word 45 rfl) ⟨by decide, by decide⟩ (wc_callI (y' := tX9_init) (av := [vI 2]) (st := [vR r195]) (pc := 93) (dAt dtX8_word 46 rfl) lkX8_104 moX9_init q975 rfl q976 (k0_at er195 n194) rfl rfl (Nat.le_of_ble_eq_true rfl) (wX9_init hg hm) (kr_N (fun h197 hm => ?_)) (kx_N rfl)))))))
        obtain ⟨o198, hm⟩ := hm
        exact wc_athrow (pc := 96) (dAt dtX8_word 47 rfl) (by decide) o198 rfl hm
    · refine wc_icmp_ne (pc := 33) (tgt := 70) (dAt dtX8_word 16 rfl) (by decide) (fun c117 => ?_) (fun c117 => ?_)
      · replace hm := ite_f (fun z => z c117) hm
        exact kj115 _ hm
      · replace hm := ite_t c117 hm
        refine wc_aload_n (pc := 36) (dAt dtX8_word 17 rfl) rfl (wc_ldcS (a := 17) (tx := " word first fly chest doctor nurse any if set and or not ") (pc := 37) (dAt dtX8_word 18 rfl) (by decide +kernel) (by decide) (wc_callV (k := 8) (y' := tX8_among) (av := [vR 17]) (st := [vR r0]) (pc := 39) (dAt dtX8_word 19 rfl) lkX8_158 moX8_among q998 qs15 (by decide) o113 rfl rfl (Nat.le_of_ble_eq_true rfl) (wX8_among hg hm) (kr_I (fun x119 h118 hm => ?_)) (kx_I rfl)))
        refine wc_iconst (pc := 42) (dAt dtX8_word 20 rfl) ⟨by decide, by decide⟩ (wc_icmp_ne (pc := 43) (tgt := 70) (dAt dtX8_word 21 rfl) (by decide) (fun c120 => ?_) (fun c120 => ?_))
        · replace hm := ite_f (fun z => z c120) hm
          exact kj115 _ hm
        · replace hm := ite_t c120 hm
          obtain ⟨o121, hm⟩ := hm
          refine wc_aload_n (pc := 46) (dAt dtX8_word 22 rfl) rfl (wc_ldcS (a := 18) (tx := " rest duty reserve ground fetch ") (pc := 47) (dAt dtX8_word 23 rfl) (by decide +kernel) (by decide) (wc_callV (k := 8) (y' := tX8_among) (av := [vR 18]) (st := [vR r0]) (pc := 49) (dAt dtX8_word 24 rfl) lkX8_158 moX8_among q998 qs15 (by decide) o121 rfl rfl (Nat.le_of_ble_eq_true rfl) (wX8_among hg hm) (kr_I (fun x123 h122 hm => ?_)) (kx_I rfl)))
          refine wc_iconst (pc := 52) (dAt dtX8_word 25 rfl) ⟨by decide, by decide⟩ (wc_icmp_ne (pc := 53) (tgt := 70) (dAt dtX8_word 26 rfl) (by decide) (fun c124 => ?_) (fun c124 => ?_))
          · replace hm := ite_f (fun z => z c124) hm
            exact kj115 _ hm
          · replace hm := ite_t c124 hm
            obtain ⟨o125, hm⟩ := hm
            refine wc_aload_n (pc := 56) (dAt dtX8_word 27 rfl) rfl (wc_ldcS (a := 19) (tx := " wet strip needs lamps night miles fuel flown waits left ") (pc := 57) (dAt dtX8_word 28 rfl) (by decide +kernel) (by decide) (wc_callV (k := 8) (y' := tX8_among) (av := [vR 19]) (st := [vR r0]) (pc := 59) (dAt dtX8_word 29 rfl) lkX8_158 moX8_among q998 qs15 (by decide) o125 rfl rfl (Nat.le_of_ble_eq_true rfl) (wX8_among hg hm) (kr_I (fun x127 h126 hm => ?_)) (kx_I rfl)))
            refine wc_iconst (pc := 62) (dAt dtX8_word 30 rfl) ⟨by decide, by decide⟩ (wc_icmp_ne (pc := 63) (tgt := 70) (dAt dtX8_word 31 rfl) (by decide) (fun c128 => ?_) (fun c128 => ?_))
            · replace hm := ite_f (fun z => z c128) hm
              exact kj115 _ hm
            · replace hm := ite_t c128 hm
              obtain ⟨o129, hm⟩ := hm
              refine wc_iconst (pc := 66) (dAt dtX8_word 32 rfl) ⟨by decide, by decide⟩ (wc_goto (pc := 67) (tgt := 71) (dAt dtX8_word 33 rfl) (by decide) (wc_callV (k := 8) (y' := tX8_want) (av := [vI 1]) (st := []) (pc := 71) (dAt dtX8_word 35 rfl) lkX8_111 moX8_want q963 qs13 (by decide) o129 rfl rfl (Nat.le_of_ble_eq_true rfl) (wX8_want hg hm) (kr_N (fun h130 hm => ?_)) (kx_N rfl)))
              obtain ⟨o131, o132, hm⟩ := hm
              refine wc_aload_n (pc := 74) (dAt dtX8_word 36 rfl) rfl (wc_getI (pc := 75) (dAt dtX8_word 37 rfl) flX8_75_8 rfl o131 (wc_aload_n (pc := 78) (dAt dtX8_word 38 rfl) rfl (wc_getI (pc := 79) (dAt dtX8_word 39 rfl) flX8_44_8 rfl o131 (wc_isub (pc := 82) (dAt dtX8_word 40 rfl) o132 (wc_bipush (pc := 83) (dAt dtX8_word 41 rfl) ⟨by decide, by decide, by decide⟩ (wc_icmp_le (pc := 85) (tgt := 97) (dAt dtX8_word 42 rfl) (by decide) (fun c133 => ?_) (fun c133 => ?_)))))))
              · replace hm := ite_f (fun z => z c133) hm
                refine wc_aload_n (pc := 97) (dAt dtX8_word 48 rfl) rfl (wc_callV (k := 8) (y' := tX8_text) (av := []) (st := []) (pc := 98) (dAt dtX8_word 49 rfl) lkX8_208 moX8_text q1009 qs17 (by decide) o131 rfl rfl (Nat.le_of_ble_eq_true rfl) (wX8_text hg hm) (kr_R (fun r142 h141 hm => ?_)) (kx_R rfl))
                obtain ⟨o143, o144, hm⟩ := hm
                refine wc_astore_n (pc := 101) (dAt dtX8_word 50 rfl) (by decide) (wc_L (L' := [some (vR r0), some (vR r142)]) rfl (wc_aload_n (pc := 102) (dAt dtX8_word 51 rfl) rfl (wc_getR (pc := 103) (dAt dtX8_word 52 rfl) flX8_22_8 rfl o143 (wc_aload_n (pc := 106) (dAt dtX8_word 53 rfl) rfl (wc_callF (k := 32) (x := ⟨"java/util/List", "contains", "(Ljava/lang/Object;)Z"⟩) (y' := tJ2_contains) (av := [vR r142]) (st := []) (pc := 107) (dAt dtX8_word 54 rfl) q1231 q1233 q1232 ⟨by decide, by decide⟩ moJ2_contains rfl q1236 q1237 q1235 q367 q1234 (by decide) o144 rfl rfl (Nat.le_of_ble_eq_true rfl) (wJ2_contains hg hm) (kr_I (fun x146 h145 hm => ?_)) (kx_I rfl))))))
                refine wc_if_eq (pc := 112) (tgt := 124) (dAt dtX8_word 55 rfl) (by decide) (fun c147 => ?_) (fun c147 => ?_)
                · replace hm := ite_f (fun z => z c147) hm
                  obtain ⟨o155, o156, hm⟩ := hm
                  refine wc_aload_n (pc := 124) (dAt dtX8_word 61 rfl) rfl (wc_getR (pc := 125) (dAt dtX8_word 62 rfl) flX8_3_8 rfl o155 (wc_vr o156.symm (wc_getKR hg (pc := 128) (dAt dtX8_word 63 rfl) flX8_134_1 rfl ka50 kf50_8 (wc_aload_n (pc := 131) (dAt dtX8_word 64 rfl) rfl (wc_kf hg fun zk => (wc_callF (k := 32) (x := ⟨"java/util/List", "contains", "(Ljava/lang/Object;)Z"⟩) (y' := tJ2_contains) (av := [vR r142]) (st := []) (pc := 132) (dAt dtX8_word 65 rfl) q1231 q1233 q1232 ⟨by decide, by decide⟩ moJ2_contains rfl q1236 q1237 q1235 q367 q1234 (by decide) (zk.2 _ ka58).1 rfl rfl (Nat.le_of_ble_eq_true rfl) (wJ2_contains hg hm) (kr_I (fun x158 h157 hm => ?_)) (kx_I rfl)))))))
                  refine jn1_ind (P := fun (h161 : Hp) => Wc G tX8_word (d + 7) h Q 187 [some (vR r0), some (vR r142)] [] h161) (fun h161 hm => ?_) (fun K159 kj160 hm => ?_) hm
                  · obtain ⟨o179, o180, hm⟩ := hm
                    refine wc_aload_n (pc := 187) (dAt dtX8_word 87 rfl) rfl (wc_getR (pc := 188) (dAt dtX8_word 88 rfl) flX8_22_8 rfl o179 (wc_aload_n (pc := 191) (dAt dtX8_word 89 rfl) rfl (wc_callF (k := 32) (x := ⟨"java/util/List", "add", "(Ljava/lang/Object;)Z"⟩) (y' := tJ2_add) (av := [vR r142]) (st := []) (pc := 192) (dAt dtX8_word 90 rfl) q1285 q424 q423 ⟨by decide, by decide⟩ moJ2_add rfl q427 q428 q426 q367 q425 (by decide) o180 rfl rfl (Nat.le_of_ble_eq_true rfl) (wJ2_add hg hm) (kr_I (fun x182 h181 hm => ?_)) (kx_I rfl))))
                    obtain ⟨o183, hm⟩ := hm
                    refine wc_pop (pc := 197) (dAt dtX8_word 91 rfl) rfl (wc_aload_n (pc := 198) (dAt dtX8_word 92 rfl) rfl (wc_callV (k := 8) (y' := tX8_next) (av := []) (st := []) (pc := 199) (dAt dtX8_word 93 rfl) lkX8_115 moX8_next q829 qs7 (by decide) o183 rfl rfl (Nat.le_of_ble_eq_true rfl) (wX8_next hg hm) (kr_N (fun h184 hm => ?_)) (kx_N rfl)))
                    obtain ⟨o185, hm⟩ := hm
                    refine wc_aload_n (pc := 202) (dAt dtX8_word 94 rfl) rfl (wc_bipush (pc := 203) (dAt dtX8_word 95 rfl) ⟨by decide, by decide, by decide⟩ (wc_callV (k := 8) (y' := tX8_need) (av := [vI 59]) (st := []) (pc := 205) (dAt dtX8_word 96 rfl) lkX8_153 moX8_need q1288 qs18 (by decide) o185 rfl rfl (Nat.le_of_ble_eq_true rfl) (wX8_need hg hm) (kr_N (fun h186 hm => ?_)) (kx_N rfl)))
                    exact wc_vret (pc := 208) (dAt dtX8_word 97 rfl) rfl hm
                  · refine wc_if_ne (pc := 137) (tgt := 187) (dAt dtX8_word 66 rfl) (by decide) (fun c162 => ?_) (fun c162 => ?_)
                    · replace hm := ite_f (fun z => z c162) hm
                      exact kj160 _ hm
                    · replace hm := ite_t c162 hm
                      obtain ⟨o163, o164, o165, o166, o167, o168, hm⟩ := hm
                      refine wc_aload_n (pc := 140) (dAt dtX8_word 67 rfl) rfl (wc_getR (pc := 141) (dAt dtX8_word 68 rfl) flX8_3_8 rfl o163 (wc_vr o164.symm (wc_getKR hg (pc := 144) (dAt dtX8_word 69 rfl) flX8_134_1 rfl ka50 kf50_8 (wc_kf hg fun zk => (wc_callF (k := 32) (x := ⟨"java/util/List", "size", "()I"⟩) (y' := tJ2_size) (P := eI (vJ2_size 58 h157) h157) (pc := 147) (dAt dtX8_word 70 rfl) q994 q366 q365 ⟨by decide, by decide⟩ moJ2_size rfl q370 q371 q369 q367 q368 (by decide) (zk.2 _ ka58).1 rfl rfl (Nat.le_of_ble_eq_true rfl) (wJ2_size hg o165 ⟨rfl, rfl⟩) (ep_I (wc_aload_n (pc := 152) (dAt dtX8_word 71 rfl) rfl (wc_getR (pc := 153) (dAt dtX8_word 72 rfl) flX8_18_8 rfl o163 (wc_callF (k := 32) (x := ⟨"java/util/List", "size", "()I"⟩) (y' := tJ2_size) (P := eI (vJ2_size (hR h157 r0 1) h157) h157) (pc := 156) (dAt dtX8_word 73 rfl) q994 q366 q365 ⟨by decide, by decide⟩ moJ2_size rfl q370 q371 q369 q367 q368 (by decide) o167 rfl rfl (Nat.le_of_ble_eq_true rfl) (wJ2_size hg o166 ⟨rfl, rfl⟩) (ep_I (wc_iadd (pc := 161) (dAt dtX8_word 74 rfl) o168 (wc_bipush (pc := 162) (dAt dtX8_word 75 rfl) ⟨by decide, by decide, by decide⟩ (wc_icmp_ne (pc := 164) (tgt := 176) (dAt dtX8_word 76 rfl) (by decide) (fun c169 => ?_) (fun c169 => ?_))))) ex_I)))) ex_I)))))
                      · replace hm := ite_f (fun z => z c169) hm
                        refine wc_aload_n (pc := 176) (dAt dtX8_word 82 rfl) rfl (wc_getR (pc := 177) (dAt dtX8_word 83 rfl) flX8_18_8 rfl o163 (wc_aload_n (pc := 180) (dAt dtX8_word 84 rfl) rfl (wc_callF (k := 32) (x := ⟨"java/util/List", "add", "(Ljava/lang/Object;)Z"⟩) (y' := tJ2_add) (av := [vR r142]) (st := []) (pc := 181) (dAt dtX8_word 85 rfl) q1285 q424 q423 ⟨by decide, by decide⟩ moJ2_add rfl q427 q428 q426 q367 q425 (by decide) o167 rfl rfl (Nat.le_of_ble_eq_true rfl) (wJ2_add hg hm) (kr_I (fun x178 h177 hm => ?_)) (kx_I rfl))))
                        exact wc_pop (pc := 186) (dAt dtX8_word 86 rfl) rfl (kj160 _ hm)
                      · replace hm := ite_t c169 hm
                        obtain ⟨o170, o171, hm⟩ := hm
                        obtain ⟨r173, er173⟩ : ∃ r173 : Nat, r173 = hn h157 := ⟨_, rfl⟩
                        replace hm := hm r173 er173
                        obtain ⟨h174, eh174⟩ : ∃ h174 : Hp, h174 = nw h157 9 0 7 := ⟨_, rfl⟩
                        replace hm := hm h174 eh174
                        refine wc_k0 fun n172 => (wc_new (k := 9) (pc := 167) (dAt dtX8_word 77 rfl) q965 q966 q154 (by decide) o170 o171 (wc_hp eh174 (wc_vr er173 (wc_dup (pc := 170) (dAt dtX8_word 78 rfl) rfl (wc_iconst (pc := 171) (dAt dtX8_word 79 rfl) ⟨by decide, by decide⟩ (wc_callI (y' := tX9_init) (av := [vI 2]) (st := [vR r173]) (pc := 172) (dAt dtX8_word 80 rfl) lkX8_104 moX9_init q975 rfl q976 (k0_at er173 n172) rfl rfl (Nat.le_of_ble_eq_true rfl) (wX9_init hg hm) (kr_N (fun h175 hm => ?_)) (kx_N rfl)))))))
                        obtain ⟨o176, hm⟩ := hm
                        exact wc_athrow (pc := 175) (dAt dtX8_word 81 rfl) (by decide) o176 rfl hm
                · replace hm := ite_t c147 hm
                  obtain ⟨o148, o149, hm⟩ := hm
                  obtain ⟨r151, er151⟩ : ∃ r151 : Nat, r151 = hn h145 := ⟨_, rfl⟩
                  replace hm := hm r151 er151
                  obtain ⟨h152, eh152⟩ : ∃ h152 : Hp, h152 = nw h145 9 0 7 := ⟨_, rfl⟩
                  replace hm := hm h152 eh152
                  refine wc_k0 fun n150 => (wc_new (k := 9) (pc := 115) (dAt dtX8_word 56 rfl) q965 q966 q154 (by decide) o148 o149 (wc_hp eh152 (wc_vr er151 (wc_dup (pc := 118) (dAt dtX8_word 57 rfl) rfl (wc_iconst (pc := 119) (dAt dtX8_word 58 rfl) ⟨by decide, by decide⟩ (wc_callI (y' := tX9_init) (av := [vI 4]) (st := [vR r151]) (pc := 120) (dAt dtX8_word 59 rfl) lkX8_104 moX9_init q975 rfl q976 (k0_at er151 n150) rfl rfl (Nat.le_of_ble_eq_true rfl) (wX9_init hg hm) (kr_N (fun h153 hm => ?_)) (kx_N rfl)))))))
                  obtain ⟨o154, hm⟩ := hm
                  exact wc_athrow (pc := 123) (dAt dtX8_word 60 rfl) (by decide) o154 rfl hm
              · replace hm := ite_t c133 hm
                obtain ⟨o134, o135, hm⟩ := hm
                obtain ⟨r137, er137⟩ : ∃ r137 : Nat, r137 = hn h130 := ⟨_, rfl⟩
                replace hm := hm r137 er137
                obtain ⟨h138, eh138⟩ : ∃ h138 : Hp, h138 = nw h130 9 0 7 := ⟨_, rfl⟩
                replace hm := hm h138 eh138
                refine wc_k0 fun n136 => (wc_new (k := 9) (pc := 88) (dAt dtX8_word 43 rfl) q965 q966 q154 (by decide) o134 o135 (wc_hp eh138 (wc_vr er137 (wc_dup (pc := 91) (dAt dtX8_word 44 rfl) rfl (wc_iconst (pc := 92) (dAt dtX8_word 45 rfl) ⟨by decide, by decide⟩ (wc_callI (y' := tX9_init) (av := [vI 2]) (st := [vR r137]) (pc := 93) (dAt dtX8_word 46 rfl) lkX8_104 moX9_init q975 rfl q976 (k0_at er137 n136) rfl rfl (Nat.le_of_ble_eq_true rfl) (wX9_init hg hm) (kr_N (fun h139 hm => ?_)) (kx_N rfl)))))))
                obtain ⟨o140, hm⟩ := hm
                exact wc_athrow (pc := 96) (dAt dtX8_word 47 rfl) (by decide) o140 rfl hm
  · replace hm := ite_t c104 hm
    obtain ⟨o105, o106, hm⟩ := hm
    obtain ⟨r108, er108⟩ : ∃ r108 : Nat, r108 = hn h := ⟨_, rfl⟩
    replace hm := hm r108 er108
    obtain ⟨h109, eh109⟩ : ∃ h109 : Hp, h109 = nw h 9 0 7 := ⟨_, rfl⟩
    replace hm := hm h109 eh109
    refine wc_k0 fun n107 => (wc_new (k := 9) (pc := 14) (dAt dtX8_word 5 rfl) q965 q966 q154 (by decide) o105 o106 (wc_hp eh109 (wc_vr er108 (wc_dup (pc := 17) (dAt dtX8_word 6 rfl) rfl (wc_iconst (pc := 18) (dAt dtX8_word 7 rfl) ⟨by decide, by decide⟩ (wc_callI (y' := tX9_init) (av := [vI 2]) (st := [vR r108]) (pc := 19) (dAt dtX8_word 8 rfl) lkX8_104 moX9_init q975 rfl q976 (k0_at er108 n107) rfl rfl (Nat.le_of_ble_eq_true rfl) (wX9_init hg hm) (kr_N (fun h110 hm => ?_)) (kx_N rfl)))))))
    obtain ⟨o111, hm⟩ := hm
    exact wc_athrow (pc := 22) (dAt dtX8_word 9 rfl) (by decide) o111 rfl hm
def tX8_number : Mt := (⟨"FlyingDoctors$Reader", "number", "()I"⟩, prog_16_method_13_code, 2, (Option.some Jvm.ClassFile.FieldType.int), [])
def DX8_number : List (Nat × Instr × Nat) := [(0, .aload_n 0, 1), (1, .aload_n 0, 1), (2, .getfield 47, 3), (5, .iconst 2, 1), (6, .if_icmp .ne 7, 3), (9, .iconst 1, 1), (10, .goto 4, 3), (13, .iconst 0, 1), (14, .invokevirtual 111, 3), (17, .aload_n 0, 1), (18, .getfield 75, 3), (21, .aload_n 0, 1), (22, .getfield 44, 3), (25, .isub, 1), (26, .iconst 5, 1), (27, .if_icmp .le 12, 3), (30, .new 102, 3), (33, .dup, 1), (34, .iconst 2, 1), (35, .invokespecial 104, 3), (38, .athrow, 1), (39, .aload_n 0, 1), (40, .getfield 57, 3), (43, .istore_n 1, 1), (44, .aload_n 0, 1), (45, .invokevirtual 115, 3), (48, .iload_n 1, 1), (49, .ireturn, 1)]
theorem dtX8_number : chkD (mB tX8_number) DX8_number = true := by decide +kernel
theorem moX8_number : MethOk tX8_number 0 := ⟨Or.inl ⟨rfl, q1330⟩, by decide +kernel, ⟨by decide, by decide⟩, by decide +kernel⟩
def mX8_number (r0 : Nat) (h : Hp) (Q : Rs → Hp → Prop) : Prop := ob h r0 8 ∧ ∀ v102 : Int, v102 = (b2i (¬ ((hI h r0 4) ≠ 2))) → mX8_want r0 v102 h (kN Q (fun h103 => ob h103 r0 8 ∧ nm ((hI h103 r0 6) - (hI h103 r0 5)) ∧ if ¬ (((hI h103 r0 6) - (hI h103 r0 5)) ≤ 5) then hn h103 + 1 ≤ 878547 ∧ hq h103 + 7 ≤ 6460613 ∧ ∀ r110 : Nat, r110 = hn h103 → ∀ h111 : Hp, h111 = nw h103 9 0 7 → mX9_init r110 2 h111 (kN Q (fun h112 => ob h112 r110 9 ∧ Q (rX r110) h112)) else ∀ v114 : Int, v114 = (hI h103 r0 7) → mX8_next r0 h103 (kN Q (fun h115 => Q (rV (vI v114)) h115))))
theorem wX8_number {G : Gx} (hg : gF G = true) {d : Nat} {r0 : Nat} {h : Hp} {Q : Rs → Hp → Prop} (hm : mX8_number r0 h Q) : Ct G tX8_number (d + 5) [vR r0] h Q := by
  refine ct_enter (L0 := [some (vR r0), none]) rfl rfl ?_
  unfold mX8_number at hm
  obtain ⟨o101, hm⟩ := hm
  obtain ⟨v102, ev102⟩ : ∃ v102 : Int, v102 = (b2i (¬ ((hI h r0 4) ≠ 2))) := ⟨_, rfl⟩
  replace hm := hm v102 ev102
  refine wc_aload_n (pc := 0) (dAt dtX8_number 0 rfl) rfl (wc_aload_n (pc := 1) (dAt dtX8_number 1 rfl) rfl (wc_getI (pc := 2) (dAt dtX8_number 2 rfl) flX8_47_8 rfl o101 (wc_iconst (pc := 5) (dAt dtX8_number 3 rfl) ⟨by decide, by decide⟩ (?_))))
  have kj116 : Wc G tX8_number (d + 5) h Q 14 [some (vR r0), none] [vI v102, vR r0] h := by
    refine wc_callV (k := 8) (y' := tX8_want) (av := [vI v102]) (st := []) (pc := 14) (dAt dtX8_number 8 rfl) lkX8_111 moX8_want q963 qs13 (by decide) o101 rfl rfl (Nat.le_of_ble_eq_true rfl) (wX8_want hg hm) (kr_N (fun h103 hm => ?_)) (kx_N rfl)
    obtain ⟨o104, o105, hm⟩ := hm
    refine wc_aload_n (pc := 17) (dAt dtX8_number 9 rfl) rfl (wc_getI (pc := 18) (dAt dtX8_number 10 rfl) flX8_75_8 rfl o104 (wc_aload_n (pc := 21) (dAt dtX8_number 11 rfl) rfl (wc_getI (pc := 22) (dAt dtX8_number 12 rfl) flX8_44_8 rfl o104 (wc_isub (pc := 25) (dAt dtX8_number 13 rfl) o105 (wc_iconst (pc := 26) (dAt dtX8_number 14 rfl) ⟨by decide, by decide⟩ (wc_icmp_le (pc := 27) (tgt := 39) (dAt dtX8_number 15 rfl) (by decide) (fun c106 => ?_) (fun c106 => ?_)))))))
    · replace hm := ite_f (fun z => z c106) hm
      obtain ⟨v114, ev114⟩ : ∃ v114 : Int, v114 = (hI h103 r0 7) := ⟨_, rfl⟩
      replace hm := hm v114 ev114
      refine wc_aload_n (pc := 39) (dAt dtX8_number 21 rfl) rfl (wc_getI (pc := 40) (dAt dtX8_number 22 rfl) flX8_57_8 rfl o104 (wc_vi ev114 (wc_istore_n (pc := 43) (dAt dtX8_number 23 rfl) (by decide) (wc_L (L' := [some (vR r0), some (vI v114)]) rfl (wc_aload_n (pc := 44) (dAt dtX8_number 24 rfl) rfl (wc_callV (k := 8) (y' := tX8_next) (av := []) (st := []) (pc := 45) (dAt dtX8_number 25 rfl) lkX8_115 moX8_next q829 qs7 (by decide) o104 rfl rfl (Nat.le_of_ble_eq_true rfl) (wX8_next hg hm) (kr_N (fun h115 hm => ?_)) (kx_N rfl)))))))
      exact wc_iload_n (pc := 48) (dAt dtX8_number 26 rfl) rfl (wc_iret (pc := 49) (dAt dtX8_number 27 rfl) rfl (nar_int _) hm)
    · replace hm := ite_t c106 hm
      obtain ⟨o107, o108, hm⟩ := hm
      obtain ⟨r110, er110⟩ : ∃ r110 : Nat, r110 = hn h103 := ⟨_, rfl⟩
      replace hm := hm r110 er110
      obtain ⟨h111, eh111⟩ : ∃ h111 : Hp, h111 = nw h103 9 0 7 := ⟨_, rfl⟩
      replace hm := hm h111 eh111
      refine wc_k0 fun n109 => (wc_new (k := 9) (pc := 30) (dAt dtX8_number 16 rfl) q965 q966 q154 (by decide) o107 o108 (wc_hp eh111 (wc_vr er110 (wc_dup (pc := 33) (dAt dtX8_number 17 rfl) rfl (wc_iconst (pc := 34) (dAt dtX8_number 18 rfl) ⟨by decide, by decide⟩ (wc_callI (y' := tX9_init) (av := [vI 2]) (st := [vR r110]) (pc := 35) (dAt dtX8_number 19 rfl) lkX8_104 moX9_init q975 rfl q976 (k0_at er110 n109) rfl rfl (Nat.le_of_ble_eq_true rfl) (wX9_init hg hm) (kr_N (fun h112 hm => ?_)) (kx_N rfl)))))))
      obtain ⟨o113, hm⟩ := hm
      exact wc_athrow (pc := 38) (dAt dtX8_number 20 rfl) (by decide) o113 rfl hm
  have k117 : (¬ ((hI h r0 4) ≠ 2)) → Wc G tX8_number (d + 5) h Q 9 [some (vR r0), none] [vR r0] h := fun c119 => by
    have z120 := kj116
    rw [show v102 = 1 from ev102.trans (b2i_t c119)] at z120
    exact wc_iconst (pc := 9) (dAt dtX8_number 5 rfl) ⟨by decide, by decide⟩ (wc_goto (pc := 10) (tgt := 14) (dAt dtX8_number 6 rfl) (by decide) (z120))
  have k118 : ¬ (¬ ((hI h r0 4) ≠ 2)) → Wc G tX8_number (d + 5) h Q 13 [some (vR r0), none] [vR r0] h := fun c119 => by
    have z122 := kj116
    rw [show v102 = 0 from ev102.trans (b2i_f c119)] at z122
    exact wc_iconst (pc := 13) (dAt dtX8_number 7 rfl) ⟨by decide, by decide⟩ (z122)
  exact wc_icmp_ne (pc := 6) (tgt := 13) (dAt dtX8_number 4 rfl) (by decide) (fun c124 => (k118 (fun z => z c124))) (fun c124 => (k117 c124))
def tX10_init : Mt := (⟨"FlyingDoctors$Ex", "<init>", "()V"⟩, prog_7_method_1_code, 1, (Option.none : Option Jvm.ClassFile.FieldType), [])
def DX10_init : List (Nat × Instr × Nat) := [(0, .aload_n 0, 1), (1, .invokespecial 1, 3), (4, .return_, 1)]
theorem dtX10_init : chkD (mB tX10_init) DX10_init = true := by decide +kernel
theorem moX10_init : MethOk tX10_init 0 := ⟨Or.inl ⟨rfl, q1336⟩, by decide +kernel, ⟨by decide, by decide⟩, by decide +kernel⟩
def mX10_init (r0 : Nat) (h : Hp) (Q : Rs → Hp → Prop) : Prop := 50 ≤ r0 ∧ Q rN h
theorem wX10_init {G : Gx} (hg : gF G = true) {d : Nat} {r0 : Nat} {h : Hp} {Q : Rs → Hp → Prop} (hm : mX10_init r0 h Q) : Ct G tX10_init (d + 1) [vR r0] h Q := by
  refine ct_enter (L0 := [some (vR r0)]) rfl rfl ?_
  unfold mX10_init at hm
  obtain ⟨o101, hm⟩ := hm
  exact wc_aload_n (pc := 0) (dAt dtX10_init 0 rfl) rfl (wc_obj (pc := 1) (dAt dtX10_init 1 rfl) q1337 q180 q181 o101 (Nat.le_of_ble_eq_true rfl) (wc_vret (pc := 4) (dAt dtX10_init 2 rfl) rfl hm))
def tX12_init : Mt := (⟨"FlyingDoctors$Number", "<init>", "(I)V"⟩, prog_11_method_1_code, 2, (Option.none : Option Jvm.ClassFile.FieldType), [])
def DX12_init : List (Nat × Instr × Nat) := [(0, .aload_n 0, 1), (1, .invokespecial 1, 3), (4, .aload_n 0, 1), (5, .iload_n 1, 1), (6, .putfield 7, 3), (9, .return_, 1)]
theorem dtX12_init : chkD (mB tX12_init) DX12_init = true := by decide +kernel
theorem moX12_init : MethOk tX12_init 1 := ⟨Or.inl ⟨rfl, q1333⟩, by decide +kernel, ⟨by decide, by decide⟩, by decide +kernel⟩
def mX12_init (r0 : Nat) (x1 : Int) (h : Hp) (Q : Rs → Hp → Prop) : Prop := 50 ≤ r0 ∧ mX10_init r0 h (kN Q (fun h102 => ob h102 r0 12 ∧ ∀ h104 : Hp, h104 = sI h102 r0 0 x1 → Q rN h104))
theorem wX12_init {G : Gx} (hg : gF G = true) {d : Nat} {r0 : Nat} {x1 : Int} {h : Hp} {Q : Rs → Hp → Prop} (hm : mX12_init r0 x1 h Q) : Ct G tX12_init (d + 2) [vR r0, vI x1] h Q := by
  refine ct_enter (L0 := [some (vR r0), some (vI x1)]) rfl rfl ?_
  unfold mX12_init at hm
  obtain ⟨o101, hm⟩ := hm
  refine wc_aload_n (pc := 0) (dAt dtX12_init 0 rfl) rfl (wc_callI (y' := tX10_init) (av := []) (st := []) (pc := 1) (dAt dtX12_init 1 rfl) lkX12_1 moX10_init q1335 rfl q1336 o101 rfl rfl (Nat.le_of_ble_eq_true rfl) (wX10_init hg hm) (kr_N (fun h102 hm => ?_)) (kx_N rfl))
  obtain ⟨o103, hm⟩ := hm
  obtain ⟨h104, eh104⟩ : ∃ h104 : Hp, h104 = sI h102 r0 0 x1 := ⟨_, rfl⟩
  replace hm := hm h104 eh104
  exact wc_aload_n (pc := 4) (dAt dtX12_init 2 rfl) rfl (wc_iload_n (pc := 5) (dAt dtX12_init 3 rfl) rfl (wc_putI (pc := 6) (dAt dtX12_init 4 rfl) flX12_7_12 (Or.inr ⟨rfl, rfl, rfl⟩) rfl o103 o101 (okI_int _) (wc_hp eh104 (wc_vret (pc := 9) (dAt dtX12_init 5 rfl) rfl hm))))
def tX13_init : Mt := (⟨"FlyingDoctors$Value", "<init>", "(I)V"⟩, prog_21_method_1_code, 2, (Option.none : Option Jvm.ClassFile.FieldType), [])
def DX13_init : List (Nat × Instr × Nat) := [(0, .aload_n 0, 1), (1, .invokespecial 1, 3), (4, .aload_n 0, 1), (5, .iload_n 1, 1), (6, .putfield 7, 3), (9, .return_, 1)]
theorem dtX13_init : chkD (mB tX13_init) DX13_init = true := by decide +kernel
theorem moX13_init : MethOk tX13_init 1 := ⟨Or.inl ⟨rfl, q1350⟩, by decide +kernel, ⟨by decide, by decide⟩, by decide +kernel⟩
def mX13_init (r0 : Nat) (x1 : Int) (h : Hp) (Q : Rs → Hp → Prop) : Prop := 50 ≤ r0 ∧ mX10_init r0 h (kN Q (fun h102 => ob h102 r0 13 ∧ ∀ h104 : Hp, h104 = sI h102 r0 0 x1 → Q rN h104))
theorem wX13_init {G : Gx} (hg : gF G = true) {d : Nat} {r0 : Nat} {x1 : Int} {h : Hp} {Q : Rs → Hp → Prop} (hm : mX13_init r0 x1 h Q) : Ct G tX13_init (d + 2) [vR r0, vI x1] h Q := by
  refine ct_enter (L0 := [some (vR r0), some (vI x1)]) rfl rfl ?_
  unfold mX13_init at hm
  obtain ⟨o101, hm⟩ := hm
  refine wc_aload_n (pc := 0) (dAt dtX13_init 0 rfl) rfl (wc_callI (y' := tX10_init) (av := []) (st := []) (pc := 1) (dAt dtX13_init 1 rfl) lkX13_1 moX10_init q1335 rfl q1336 o101 rfl rfl (Nat.le_of_ble_eq_true rfl) (wX10_init hg hm) (kr_N (fun h102 hm => ?_)) (kx_N rfl))
  obtain ⟨o103, hm⟩ := hm
  obtain ⟨h104, eh104⟩ : ∃ h104 : Hp, h104 = sI h102 r0 0 x1 := ⟨_, rfl⟩
  replace hm := hm h104 eh104
  exact wc_aload_n (pc := 4) (dAt dtX13_init 2 rfl) rfl (wc_iload_n (pc := 5) (dAt dtX13_init 3 rfl) rfl (wc_putI (pc := 6) (dAt dtX13_init 4 rfl) flX13_7_13 (Or.inr ⟨rfl, rfl, rfl⟩) rfl o103 o101 (okI_int _) (wc_hp eh104 (wc_vret (pc := 9) (dAt dtX13_init 5 rfl) rfl hm))))
def tX14_init : Mt := (⟨"FlyingDoctors$Param", "<init>", "(I)V"⟩, prog_12_method_1_code, 2, (Option.none : Option Jvm.ClassFile.FieldType), [])
def DX14_init : List (Nat × Instr × Nat) := [(0, .aload_n 0, 1), (1, .invokespecial 1, 3), (4, .aload_n 0, 1), (5, .iload_n 1, 1), (6, .putfield 7, 3), (9, .return_, 1)]
theorem dtX14_init : chkD (mB tX14_init) DX14_init = true := by decide +kernel
theorem moX14_init : MethOk tX14_init 1 := ⟨Or.inl ⟨rfl, q1360⟩, by decide +kernel, ⟨by decide, by decide⟩, by decide +kernel⟩
def mX14_init (r0 : Nat) (x1 : Int) (h : Hp) (Q : Rs → Hp → Prop) : Prop := 50 ≤ r0 ∧ mX10_init r0 h (kN Q (fun h102 => ob h102 r0 14 ∧ ∀ h104 : Hp, h104 = sI h102 r0 0 x1 → Q rN h104))
theorem wX14_init {G : Gx} (hg : gF G = true) {d : Nat} {r0 : Nat} {x1 : Int} {h : Hp} {Q : Rs → Hp → Prop} (hm : mX14_init r0 x1 h Q) : Ct G tX14_init (d + 2) [vR r0, vI x1] h Q := by
  refine ct_enter (L0 := [some (vR r0), some (vI x1)]) rfl rfl ?_
  unfold mX14_init at hm
  obtain ⟨o101, hm⟩ := hm
  refine wc_aload_n (pc := 0) (dAt dtX14_init 0 rfl) rfl (wc_callI (y' := tX10_init) (av := []) (st := []) (pc := 1) (dAt dtX14_init 1 rfl) lkX14_1 moX10_init q1335 rfl q1336 o101 rfl rfl (Nat.le_of_ble_eq_true rfl) (wX10_init hg hm) (kr_N (fun h102 hm => ?_)) (kx_N rfl))
  obtain ⟨o103, hm⟩ := hm
  obtain ⟨h104, eh104⟩ : ∃ h104 : Hp, h104 = sI h102 r0 0 x1 := ⟨_, rfl⟩
  replace hm := hm h104 eh104
  exact wc_aload_n (pc := 4) (dAt dtX14_init 2 rfl) rfl (wc_iload_n (pc := 5) (dAt dtX14_init 3 rfl) rfl (wc_putI (pc := 6) (dAt dtX14_init 4 rfl) flX14_7_14 (Or.inr ⟨rfl, rfl, rfl⟩) rfl o103 o101 (okI_int _) (wc_hp eh104 (wc_vret (pc := 9) (dAt dtX14_init 5 rfl) rfl hm))))
def tX8_wordNumber : Mt := (⟨"FlyingDoctors$Reader", "wordNumber", "(Ljava/lang/String;)I"⟩, prog_16_method_15_code, 3, (Option.some Jvm.ClassFile.FieldType.int), [])
def DX8_wordNumber : List (Nat × Instr × Nat) := [(0, .aload_n 0, 1), (1, .getfield 3, 3), (4, .getfield 134, 3), (7, .aload_n 1, 1), (8, .invokeinterface 137 2, 5), (13, .istore_n 2, 1), (14, .iload_n 2, 1), (15, .ifCond .lt 7, 3), (18, .iload_n 2, 1), (19, .goto 26, 3), (22, .aload_n 0, 1), (23, .getfield 3, 3), (26, .getfield 134, 3), (29, .invokeinterface 118 1, 5), (34, .aload_n 0, 1), (35, .getfield 18, 3), (38, .aload_n 1, 1), (39, .invokeinterface 137 2, 5), (44, .iadd, 1), (45, .ireturn, 1)]
theorem dtX8_wordNumber : chkD (mB tX8_wordNumber) DX8_wordNumber = true := by decide +kernel
theorem moX8_wordNumber : MethOk tX8_wordNumber 1 := ⟨Or.inl ⟨rfl, q1376⟩, by decide +kernel, ⟨by decide, by decide⟩, by decide +kernel⟩
def mX8_wordNumber (r0 : Nat) (r1 : Nat) (h : Hp) (Q : Rs → Hp → Prop) : Prop := ob h r0 8 ∧ hR h r0 9 = 50 ∧ mJ2_indexOf 58 r1 h (kI Q (fun x104 h103 => if ¬ (x104 < 0) then Q (rV (vI x104)) h103 else ob h103 r0 8 ∧ hR h103 r0 9 = 50 ∧ oJ2_size 58 h103 ∧ ob h103 (hR h103 r0 1) 32 ∧ mJ2_indexOf (hR h103 r0 1) r1 h103 (kI Q (fun x111 h110 => nm ((vJ2_size 58 h103) + x111) ∧ Q (rV (vI ((vJ2_size 58 h103) + x111))) h110))))
theorem wX8_wordNumber {G : Gx} (hg : gF G = true) {d : Nat} {r0 : Nat} {r1 : Nat} {h : Hp} {Q : Rs → Hp → Prop} (hm : mX8_wordNumber r0 r1 h Q) : Ct G tX8_wordNumber (d + 4) [vR r0, vR r1] h Q := by
  refine ct_enter (L0 := [some (vR r0), some (vR r1), none]) rfl rfl ?_
  unfold mX8_wordNumber at hm
  obtain ⟨o101, o102, hm⟩ := hm
  refine wc_aload_n (pc := 0) (dAt dtX8_wordNumber 0 rfl) rfl (wc_getR (pc := 1) (dAt dtX8_wordNumber 1 rfl) flX8_3_8 rfl o101 (wc_vr o102.symm (wc_getKR hg (pc := 4) (dAt dtX8_wordNumber 2 rfl) flX8_134_1 rfl ka50 kf50_8 (wc_aload_n (pc := 7) (dAt dtX8_wordNumber 3 rfl) rfl (wc_kf hg fun zk => (wc_callF (k := 32) (x := ⟨"java/util/List", "indexOf", "(Ljava/lang/Object;)I"⟩) (y' := tJ2_indexOf) (av := [vR r1]) (st := []) (pc := 8) (dAt dtX8_wordNumber 4 rfl) q1378 q1380 q1379 ⟨by decide, by decide⟩ moJ2_indexOf rfl q1240 q1383 q1382 q367 q1381 (by decide) (zk.2 _ ka58).1 rfl rfl (Nat.le_of_ble_eq_true rfl) (wJ2_indexOf hg hm) (kr_I (fun x104 h103 hm => ?_)) (kx_I rfl)))))))
  refine wc_istore_n (pc := 13) (dAt dtX8_wordNumber 5 rfl) (by decide) (wc_L (L' := [some (vR r0), some (vR r1), some (vI x104)]) rfl (wc_iload_n (pc := 14) (dAt dtX8_wordNumber 6 rfl) rfl (wc_if_lt (pc := 15) (tgt := 22) (dAt dtX8_wordNumber 7 rfl) (by decide) (fun c105 => ?_) (fun c105 => ?_))))
  · replace hm := ite_f (fun z => z c105) hm
    obtain ⟨o106, o107, o108, o109, hm⟩ := hm
    refine wc_aload_n (pc := 22) (dAt dtX8_wordNumber 10 rfl) rfl (wc_getR (pc := 23) (dAt dtX8_wordNumber 11 rfl) flX8_3_8 rfl o106 (wc_vr o107.symm (wc_getKR hg (pc := 26) (dAt dtX8_wordNumber 12 rfl) flX8_134_1 rfl ka50 kf50_8 (wc_kf hg fun zk => (wc_callF (k := 32) (x := ⟨"java/util/List", "size", "()I"⟩) (y' := tJ2_size) (P := eI (vJ2_size 58 h103) h103) (pc := 29) (dAt dtX8_wordNumber 13 rfl) q994 q366 q365 ⟨by decide, by decide⟩ moJ2_size rfl q370 q371 q369 q367 q368 (by decide) (zk.2 _ ka58).1 rfl rfl (Nat.le_of_ble_eq_true rfl) (wJ2_size hg o108 ⟨rfl, rfl⟩) (ep_I (wc_aload_n (pc := 34) (dAt dtX8_wordNumber 14 rfl) rfl (wc_getR (pc := 35) (dAt dtX8_wordNumber 15 rfl) flX8_18_8 rfl o106 (wc_aload_n (pc := 38) (dAt dtX8_wordNumber 16 rfl) rfl (wc_callF (k := 32) (x := ⟨"java/util/List", "indexOf", "(Ljava/lang/Object;)I"⟩) (y' := tJ2_indexOf) (av := [vR r1]) (st := [vI (vJ2_size 58 h103)]) (pc := 39) (dAt dtX8_wordNumber 17 rfl) q1378 q1380 q1379 ⟨by decide, by decide⟩ moJ2_indexOf rfl q1240 q1383 q1382 q367 q1381 (by decide) o109 rfl rfl (Nat.le_of_ble_eq_true rfl) (wJ2_indexOf hg hm) (kr_I (fun x111 h110 hm => ?_)) (kx_I rfl)))))) ex_I)))))
    obtain ⟨o112, hm⟩ := hm
    exact wc_iadd (pc := 44) (dAt dtX8_wordNumber 18 rfl) o112 (wc_iret (pc := 45) (dAt dtX8_wordNumber 19 rfl) rfl (nar_int _) hm)
  · replace hm := ite_t c105 hm
    exact wc_iload_n (pc := 18) (dAt dtX8_wordNumber 8 rfl) rfl (wc_goto (pc := 19) (tgt := 45) (dAt dtX8_wordNumber 9 rfl) (by decide) (wc_iret (pc := 45) (dAt dtX8_wordNumber 19 rfl) rfl (nar_int _) hm))
def tX8_wordNow : Mt := (⟨"FlyingDoctors$Reader", "wordNow", "()I"⟩, prog_16_method_14_code, 2, (Option.some Jvm.ClassFile.FieldType.int), [])
def DX8_wordNow : List (Nat × Instr × Nat) := [(0, .iconst 0, 1), (1, .istore_n 1, 1), (2, .iload_n 1, 1), (3, .aload_n 0, 1), (4, .getfield 22, 3), (7, .invokeinterface 118 1, 5), (12, .if_icmp .ge 47, 3), (15, .aload_n 0, 1), (16, .aload_n 0, 1), (17, .getfield 22, 3), (20, .iload_n 1, 1), (21, .invokeinterface 122 2, 5), (26, .checkcast 70, 3), (29, .invokevirtual 126, 3), (32, .ifCond .eq 21, 3), (35, .aload_n 0, 1), (36, .aload_n 0, 1), (37, .getfield 22, 3), (40, .iload_n 1, 1), (41, .invokeinterface 122 2, 5), (46, .checkcast 70, 3), (49, .invokevirtual 130, 3), (52, .ireturn, 1), (53, .iinc 1 1, 3), (56, .goto (-54), 3), (59, .iconst (-1), 1), (60, .ireturn, 1)]
theorem dtX8_wordNow : chkD (mB tX8_wordNow) DX8_wordNow = true := by decide +kernel
theorem moX8_wordNow : MethOk tX8_wordNow 0 := ⟨Or.inl ⟨rfl, q1369⟩, by decide +kernel, ⟨by decide, by decide⟩, by decide +kernel⟩
def mX8_wordNow (r0 : Nat) (h : Hp) (Q : Rs → Hp → Prop) : Prop := wh2 (fun (C103 : Int → Hp → Prop) (x101 : Int) (h102 : Hp) => ob h102 r0 8 ∧ oJ2_size (hR h102 r0 2) h102 ∧ ob h102 (hR h102 r0 2) 32 ∧ if ¬ ((vJ2_size (hR h102 r0 2) h102) ≤ x101) then oJ2_get (hR h102 r0 2) x101 h102 ∧ ob h102 (vJ2_get (hR h102 r0 2) x101 h102) 43 ∧ mX8_is r0 (vJ2_get (hR h102 r0 2) x101 h102) h102 (kI Q (fun x112 h111 => if ¬ (x112 = 0) then ob h111 r0 8 ∧ oJ2_get (hR h111 r0 2) x101 h111 ∧ ob h111 (hR h111 r0 2) 32 ∧ ob h111 (vJ2_get (hR h111 r0 2) x101 h111) 43 ∧ mX8_wordNumber r0 (vJ2_get (hR h111 r0 2) x101 h111) h111 (kI Q (fun x119 h118 => Q (rV (vI x119)) h118)) else nm (x101 + 1) ∧ ∀ i121 : Int, i121 = (x101 + 1) → C103 i121 h111)) else Q (rV (vI (-1))) h102) 0 h
theorem wX8_wordNow {G : Gx} (hg : gF G = true) {d : Nat} {r0 : Nat} {h : Hp} {Q : Rs → Hp → Prop} (hm : mX8_wordNow r0 h Q) : Ct G tX8_wordNow (d + 5) [vR r0] h Q := by
  refine ct_enter (L0 := [some (vR r0), none]) rfl rfl ?_
  unfold mX8_wordNow at hm
  refine wc_iconst (pc := 0) (dAt dtX8_wordNow 0 rfl) ⟨by decide, by decide⟩ (wc_istore_n (pc := 1) (dAt dtX8_wordNow 1 rfl) (by decide) (wc_L (L' := [some (vR r0), some (vI 0)]) rfl (?_)))
  refine wh2_ind (P := fun (x101 : Int) (h102 : Hp) => Wc G tX8_wordNow (d + 5) h Q 2 [some (vR r0), some (vI x101)] [] h102) (fun C103 ih104 x101 h102 hm => ?_) hm
  obtain ⟨o105, o106, o107, hm⟩ := hm
  refine wc_iload_n (pc := 2) (dAt dtX8_wordNow 2 rfl) rfl (wc_aload_n (pc := 3) (dAt dtX8_wordNow 3 rfl) rfl (wc_getR (pc := 4) (dAt dtX8_wordNow 4 rfl) flX8_22_8 rfl o105 (wc_callF (k := 32) (x := ⟨"java/util/List", "size", "()I"⟩) (y' := tJ2_size) (P := eI (vJ2_size (hR h102 r0 2) h102) h102) (pc := 7) (dAt dtX8_wordNow 5 rfl) q994 q366 q365 ⟨by decide, by decide⟩ moJ2_size rfl q370 q371 q369 q367 q368 (by decide) o107 rfl rfl (Nat.le_of_ble_eq_true rfl) (wJ2_size hg o106 ⟨rfl, rfl⟩) (ep_I (wc_icmp_ge (pc := 12) (tgt := 59) (dAt dtX8_wordNow 6 rfl) (by decide) (fun c108 => ?_) (fun c108 => ?_))) ex_I)))
  · replace hm := ite_f (fun z => z c108) hm
    exact wc_iconst (pc := 59) (dAt dtX8_wordNow 25 rfl) ⟨by decide, by decide⟩ (wc_iret (pc := 60) (dAt dtX8_wordNow 26 rfl) rfl (nar_int _) hm)
  · replace hm := ite_t c108 hm
    obtain ⟨o109, o110, hm⟩ := hm
    refine wc_aload_n (pc := 15) (dAt dtX8_wordNow 7 rfl) rfl (wc_aload_n (pc := 16) (dAt dtX8_wordNow 8 rfl) rfl (wc_getR (pc := 17) (dAt dtX8_wordNow 9 rfl) flX8_22_8 rfl o105 (wc_iload_n (pc := 20) (dAt dtX8_wordNow 10 rfl) rfl (wc_callF (k := 32) (x := ⟨"java/util/List", "get", "(I)Ljava/lang/Object;"⟩) (y' := tJ2_get) (P := eR (vJ2_get (hR h102 r0 2) x101 h102) h102) (pc := 21) (dAt dtX8_wordNow 11 rfl) q1371 q508 q507 ⟨by decide, by decide⟩ moJ2_get rfl q511 q512 q510 q367 q509 (by decide) o107 rfl rfl (Nat.le_of_ble_eq_true rfl) (wJ2_get hg o109 ⟨rfl, rfl⟩) (ep_R (wc_cast (pc := 26) (dAt dtX8_wordNow 12 rfl) q1372 (by decide) (Or.inl rfl) o110 (wc_callV (k := 8) (y' := tX8_is) (av := [vR (vJ2_get (hR h102 r0 2) x101 h102)]) (st := []) (pc := 29) (dAt dtX8_wordNow 13 rfl) lkX8_126 moX8_is q936 qs12 (by decide) o105 rfl rfl (Nat.le_of_ble_eq_true rfl) (wX8_is hg hm) (kr_I (fun x112 h111 hm => ?_)) (kx_I rfl)))) ex_R))))
    refine wc_if_eq (pc := 32) (tgt := 53) (dAt dtX8_wordNow 14 rfl) (by decide) (fun c113 => ?_) (fun c113 => ?_)
    · replace hm := ite_f (fun z => z c113) hm
      obtain ⟨o120, hm⟩ := hm
      obtain ⟨i121, ei121⟩ : ∃ i121 : Int, i121 = (x101 + 1) := ⟨_, rfl⟩
      replace hm := hm i121 ei121
      exact wc_iinc (v := i121) (pc := 53) (dAt dtX8_wordNow 23 rfl) rfl ei121 (ei121 ▸ o120) (by decide) (wc_L (L' := [some (vR r0), some (vI i121)]) rfl (wc_goto (pc := 56) (tgt := 2) (dAt dtX8_wordNow 24 rfl) (by decide) (ih104 _ _ hm)))
    · replace hm := ite_t c113 hm
      obtain ⟨o114, o115, o116, o117, hm⟩ := hm
      refine wc_aload_n (pc := 35) (dAt dtX8_wordNow 15 rfl) rfl (wc_aload_n (pc := 36) (dAt dtX8_wordNow 16 rfl) rfl (wc_getR (pc := 37) (dAt dtX8_wordNow 17 rfl) flX8_22_8 rfl o114 (wc_iload_n (pc := 40) (dAt dtX8_wordNow 18 rfl) rfl (wc_callF (k := 32) (x := ⟨"java/util/List", "get", "(I)Ljava/lang/Object;"⟩) (y' := tJ2_get) (P := eR (vJ2_get (hR h111 r0 2) x101 h111) h111) (pc := 41) (dAt dtX8_wordNow 19 rfl) q1371 q508 q507 ⟨by decide, by decide⟩ moJ2_get rfl q511 q512 q510 q367 q509 (by decide) o116 rfl rfl (Nat.le_of_ble_eq_true rfl) (wJ2_get hg o115 ⟨rfl, rfl⟩) (ep_R (wc_cast (pc := 46) (dAt dtX8_wordNow 20 rfl) q1372 (by decide) (Or.inl rfl) o117 (wc_callV (k := 8) (y' := tX8_wordNumber) (av := [vR (vJ2_get (hR h111 r0 2) x101 h111)]) (st := []) (pc := 49) (dAt dtX8_wordNow 21 rfl) lkX8_130 moX8_wordNumber q1375 qs30 (by decide) o114 rfl rfl (Nat.le_of_ble_eq_true rfl) (wX8_wordNumber hg hm) (kr_I (fun x119 h118 hm => ?_)) (kx_I rfl)))) ex_R))))
      exact wc_iret (pc := 52) (dAt dtX8_wordNow 22 rfl) rfl (nar_int _) hm
def tX15_init : Mt := (⟨"FlyingDoctors$Said", "<init>", "(I)V"⟩, prog_19_method_1_code, 2, (Option.none : Option Jvm.ClassFile.FieldType), [])
def DX15_init : List (Nat × Instr × Nat) := [(0, .aload_n 0, 1), (1, .invokespecial 1, 3), (4, .aload_n 0, 1), (5, .iload_n 1, 1), (6, .putfield 7, 3), (9, .return_, 1)]
theorem dtX15_init : chkD (mB tX15_init) DX15_init = true := by decide +kernel
theorem moX15_init : MethOk tX15_init 1 := ⟨Or.inl ⟨rfl, q1388⟩, by decide +kernel, ⟨by decide, by decide⟩, by decide +kernel⟩
def mX15_init (r0 : Nat) (x1 : Int) (h : Hp) (Q : Rs → Hp → Prop) : Prop := 50 ≤ r0 ∧ mX10_init r0 h (kN Q (fun h102 => ob h102 r0 15 ∧ ∀ h104 : Hp, h104 = sI h102 r0 0 x1 → Q rN h104))
theorem wX15_init {G : Gx} (hg : gF G = true) {d : Nat} {r0 : Nat} {x1 : Int} {h : Hp} {Q : Rs → Hp → Prop} (hm : mX15_init r0 x1 h Q) : Ct G tX15_init (d + 2) [vR r0, vI x1] h Q := by
  refine ct_enter (L0 := [some (vR r0), some (vI x1)]) rfl rfl ?_
  unfold mX15_init at hm
  obtain ⟨o101, hm⟩ := hm
  refine wc_aload_n (pc := 0) (dAt dtX15_init 0 rfl) rfl (wc_callI (y' := tX10_init) (av := []) (st := []) (pc := 1) (dAt dtX15_init 1 rfl) lkX15_1 moX10_init q1335 rfl q1336 o101 rfl rfl (Nat.le_of_ble_eq_true rfl) (wX10_init hg hm) (kr_N (fun h102 hm => ?_)) (kx_N rfl))
  obtain ⟨o103, hm⟩ := hm
  obtain ⟨h104, eh104⟩ : ∃ h104 : Hp, h104 = sI h102 r0 0 x1 := ⟨_, rfl⟩
  replace hm := hm h104 eh104
  exact wc_aload_n (pc := 4) (dAt dtX15_init 2 rfl) rfl (wc_iload_n (pc := 5) (dAt dtX15_init 3 rfl) rfl (wc_putI (pc := 6) (dAt dtX15_init 4 rfl) flX15_7_15 (Or.inr ⟨rfl, rfl, rfl⟩) rfl o103 o101 (okI_int _) (wc_hp eh104 (wc_vret (pc := 9) (dAt dtX15_init 5 rfl) rfl hm))))
