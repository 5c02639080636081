set_option maxRecDepth 100000
set_option maxHeartbeats 1000000
/-! what methods do, and their walks, by program -/
def tX11_two : Mt := (⟨"FlyingDoctors$Chain", "two", "(CII)I"⟩, prog_4_method_3_code, 3, (Option.some Jvm.ClassFile.FieldType.int), [])
def DX11_two : List (Nat × Instr × Nat) := [(0, .iload_n 0, 1), (1, .tableswitch 171 38 61 #[157, 171, 171, 171, 119, 111, 171, 115, 171, 123, 171, 171, 171, 171, 171, 171, 171, 171, 171, 171, 171, 171, 135, 146], 111), (112, .iload_n 1, 1), (113, .iload_n 2, 1), (114, .iadd, 1), (115, .ireturn, 1), (116, .iload_n 1, 1), (117, .iload_n 2, 1), (118, .isub, 1), (119, .ireturn, 1), (120, .iload_n 1, 1), (121, .iload_n 2, 1), (122, .imul, 1), (123, .ireturn, 1), (124, .iload_n 2, 1), (125, .ifCond .ne 7, 3), (128, .iconst 0, 1), (129, .goto 6, 3), (132, .iload_n 1, 1), (133, .iload_n 2, 1), (134, .idiv, 1), (135, .ireturn, 1), (136, .iload_n 1, 1), (137, .iload_n 2, 1), (138, .if_icmp .ge 7, 3), (141, .iconst 1, 1), (142, .goto 4, 3), (145, .iconst 0, 1), (146, .ireturn, 1), (147, .iload_n 1, 1), (148, .iload_n 2, 1), (149, .if_icmp .ne 7, 3), (152, .iconst 1, 1), (153, .goto 4, 3), (156, .iconst 0, 1), (157, .ireturn, 1), (158, .iload_n 1, 1), (159, .ifCond .eq 11, 3), (162, .iload_n 2, 1), (163, .ifCond .eq 7, 3), (166, .iconst 1, 1), (167, .goto 4, 3), (170, .iconst 0, 1), (171, .ireturn, 1), (172, .iload_n 1, 1), (173, .ifCond .ne 7, 3), (176, .iload_n 2, 1), (177, .ifCond .eq 7, 3), (180, .iconst 1, 1), (181, .goto 4, 3), (184, .iconst 0, 1), (185, .ireturn, 1)]
theorem dtX11_two : chkD (mB tX11_two) DX11_two = true := by decide +kernel
theorem moX11_two : MethOk tX11_two 3 := ⟨Or.inl ⟨rfl, q1620⟩, by decide +kernel, ⟨by decide, by decide⟩, by decide +kernel⟩
def mX11_two (x0 : Int) (x1 : Int) (x2 : Int) (h : Hp) (Q : Rs → Hp → Prop) : Prop := if x0 = 38 then ∀ v102 : Int, v102 = (b2i (¬ (x1 = 0) ∧ (¬ (x2 = 0)))) → Q (rV (vI v102)) h else if x0 = 42 then Q (rV (vI (wr (x1 * x2)))) h else if x0 = 43 then Q (rV (vI (wr (x1 + x2)))) h else if x0 = 45 then Q (rV (vI (wr (x1 - x2)))) h else if x0 = 47 then ((¬ (¬ (x2 ≠ 0)) → x2 ≠ 0)) ∧ ∀ v119 : Int, v119 = (if ¬ (x2 ≠ 0) then 0 else (wr (Int.tdiv x1 x2))) → Q (rV (vI v119)) h else if x0 = 60 then ∀ v131 : Int, v131 = (b2i (¬ (x2 ≤ x1))) → Q (rV (vI v131)) h else if x0 = 61 then ∀ v142 : Int, v142 = (b2i (¬ (x1 ≠ x2))) → Q (rV (vI v142)) h else ∀ v152 : Int, v152 = (b2i ((x1 ≠ 0) ∨ (¬ (x2 = 0)))) → Q (rV (vI v152)) h
theorem wX11_two {G : Gx} (hg : gF G = true) {d : Nat} {x0 : Int} {x1 : Int} {x2 : Int} {h : Hp} {Q : Rs → Hp → Prop} (hm : mX11_two x0 x1 x2 h Q) : Ct G tX11_two (d + 0) [vI x0, vI x1, vI x2] h Q := by
  refine ct_enter (L0 := [some (vI x0), some (vI x1), some (vI x2)]) rfl rfl ?_
  unfold mX11_two at hm
  refine wc_iload_n (pc := 0) (dAt dtX11_two 0 rfl) rfl (?_)
  by_cases c101 : x0 = 38
  · replace hm := ite_t c101 hm
    refine wc_tableIn (pc := 1) (tgt := 158) (dAt dtX11_two 1 rfl) (by omega) (by omega) (by rw [c101]; rfl) (by decide) ?_
    obtain ⟨v102, ev102⟩ : ∃ v102 : Int, v102 = (b2i (¬ (x1 = 0) ∧ (¬ (x2 = 0)))) := ⟨_, rfl⟩
    replace hm := hm v102 ev102
    refine wc_iload_n (pc := 158) (dAt dtX11_two 36 rfl) rfl (?_)
    have kj103 : Wc G tX11_two (d + 0) h Q 171 [none, none, none] [vI v102] h := by
      exact wc_iret (pc := 171) (dAt dtX11_two 43 rfl) rfl (nar_int _) hm
    have k104 : (¬ (x1 = 0) ∧ (¬ (x2 = 0))) → Wc G tX11_two (d + 0) h Q 166 [some (vI x0), some (vI x1), some (vI x2)] [] h := fun c106 => by
      have z107 := kj103
      rw [show v102 = 1 from ev102.trans (b2i_t c106)] at z107
      exact wc_iconst (pc := 166) (dAt dtX11_two 40 rfl) ⟨by decide, by decide⟩ (wc_goto (pc := 167) (tgt := 171) (dAt dtX11_two 41 rfl) (by decide) (wc_drp [0, 1, 2] rfl (z107)))
    have k105 : ¬ (¬ (x1 = 0) ∧ (¬ (x2 = 0))) → Wc G tX11_two (d + 0) h Q 170 [some (vI x0), some (vI x1), some (vI x2)] [] h := fun c106 => by
      have z109 := kj103
      rw [show v102 = 0 from ev102.trans (b2i_f c106)] at z109
      exact wc_iconst (pc := 170) (dAt dtX11_two 42 rfl) ⟨by decide, by decide⟩ (wc_drp [0, 1, 2] rfl (z109))
    exact wc_if_eq (pc := 159) (tgt := 170) (dAt dtX11_two 37 rfl) (by decide) (fun c111 => (k105 (fun z => z.1 c111))) (fun c111 => wc_iload_n (pc := 162) (dAt dtX11_two 38 rfl) rfl (wc_if_eq (pc := 163) (tgt := 170) (dAt dtX11_two 39 rfl) (by decide) (fun c112 => (k105 (fun z => (fun z => z c112) z.2))) (fun c112 => (k104 ⟨c111, c112⟩))))
  replace hm := ite_f c101 hm
  by_cases c113 : x0 = 42
  · replace hm := ite_t c113 hm
    refine wc_tableIn (pc := 1) (tgt := 120) (dAt dtX11_two 1 rfl) (by omega) (by omega) (by rw [c113]; rfl) (by decide) ?_
    exact wc_iload_n (pc := 120) (dAt dtX11_two 10 rfl) rfl (wc_iload_n (pc := 121) (dAt dtX11_two 11 rfl) rfl (wc_imulW (pc := 122) (dAt dtX11_two 12 rfl) (wc_iret (pc := 123) (dAt dtX11_two 13 rfl) rfl (nar_int _) hm)))
  replace hm := ite_f c113 hm
  by_cases c114 : x0 = 43
  · replace hm := ite_t c114 hm
    refine wc_tableIn (pc := 1) (tgt := 112) (dAt dtX11_two 1 rfl) (by omega) (by omega) (by rw [c114]; rfl) (by decide) ?_
    exact wc_iload_n (pc := 112) (dAt dtX11_two 2 rfl) rfl (wc_iload_n (pc := 113) (dAt dtX11_two 3 rfl) rfl (wc_iaddW (pc := 114) (dAt dtX11_two 4 rfl) (wc_iret (pc := 115) (dAt dtX11_two 5 rfl) rfl (nar_int _) hm)))
  replace hm := ite_f c114 hm
  by_cases c115 : x0 = 45
  · replace hm := ite_t c115 hm
    refine wc_tableIn (pc := 1) (tgt := 116) (dAt dtX11_two 1 rfl) (by omega) (by omega) (by rw [c115]; rfl) (by decide) ?_
    exact wc_iload_n (pc := 116) (dAt dtX11_two 6 rfl) rfl (wc_iload_n (pc := 117) (dAt dtX11_two 7 rfl) rfl (wc_isubW (pc := 118) (dAt dtX11_two 8 rfl) (wc_iret (pc := 119) (dAt dtX11_two 9 rfl) rfl (nar_int _) hm)))
  replace hm := ite_f c115 hm
  by_cases c116 : x0 = 47
  · replace hm := ite_t c116 hm
    refine wc_tableIn (pc := 1) (tgt := 124) (dAt dtX11_two 1 rfl) (by omega) (by omega) (by rw [c116]; rfl) (by decide) ?_
    obtain ⟨o118, hm⟩ := hm
    obtain ⟨v119, ev119⟩ : ∃ v119 : Int, v119 = (if ¬ (x2 ≠ 0) then 0 else (wr (Int.tdiv x1 x2))) := ⟨_, rfl⟩
    replace hm := hm v119 ev119
    refine wc_iload_n (pc := 124) (dAt dtX11_two 14 rfl) rfl (?_)
    have kj120 : Wc G tX11_two (d + 0) h Q 135 [none, none, none] [vI v119] h := by
      exact wc_iret (pc := 135) (dAt dtX11_two 21 rfl) rfl (nar_int _) hm
    have p121 := o118
    have k122 : (¬ (x2 ≠ 0)) → Wc G tX11_two (d + 0) h Q 128 [some (vI x0), some (vI x1), some (vI x2)] [] h := fun c124 => by
      have z125 := kj120
      rw [show v119 = 0 from ev119.trans (if_pos c124)] at z125
      exact wc_iconst (pc := 128) (dAt dtX11_two 16 rfl) ⟨by decide, by decide⟩ (wc_goto (pc := 129) (tgt := 135) (dAt dtX11_two 17 rfl) (by decide) (wc_drp [0, 1, 2] rfl (z125)))
    have k123 : ¬ (¬ (x2 ≠ 0)) → Wc G tX11_two (d + 0) h Q 132 [some (vI x0), some (vI x1), some (vI x2)] [] h := fun c124 => by
      have o117 := (p121 c124)
      have z127 := kj120
      rw [show v119 = (wr (Int.tdiv x1 x2)) from ev119.trans (if_neg c124)] at z127
      exact wc_iload_n (pc := 132) (dAt dtX11_two 18 rfl) rfl (wc_iload_n (pc := 133) (dAt dtX11_two 19 rfl) rfl (wc_idivW (pc := 134) (dAt dtX11_two 20 rfl) o117 (wc_drp [0, 1, 2] rfl (z127))))
    exact wc_if_ne (pc := 125) (tgt := 132) (dAt dtX11_two 15 rfl) (by decide) (fun c129 => (k123 (fun z => z c129))) (fun c129 => (k122 c129))
  replace hm := ite_f c116 hm
  by_cases c130 : x0 = 60
  · replace hm := ite_t c130 hm
    refine wc_tableIn (pc := 1) (tgt := 136) (dAt dtX11_two 1 rfl) (by omega) (by omega) (by rw [c130]; rfl) (by decide) ?_
    obtain ⟨v131, ev131⟩ : ∃ v131 : Int, v131 = (b2i (¬ (x2 ≤ x1))) := ⟨_, rfl⟩
    replace hm := hm v131 ev131
    refine wc_iload_n (pc := 136) (dAt dtX11_two 22 rfl) rfl (wc_iload_n (pc := 137) (dAt dtX11_two 23 rfl) rfl (?_))
    have kj132 : Wc G tX11_two (d + 0) h Q 146 [none, none, none] [vI v131] h := by
      exact wc_iret (pc := 146) (dAt dtX11_two 28 rfl) rfl (nar_int _) hm
    have k133 : (¬ (x2 ≤ x1)) → Wc G tX11_two (d + 0) h Q 141 [some (vI x0), some (vI x1), some (vI x2)] [] h := fun c135 => by
      have z136 := kj132
      rw [show v131 = 1 from ev131.trans (b2i_t c135)] at z136
      exact wc_iconst (pc := 141) (dAt dtX11_two 25 rfl) ⟨by decide, by decide⟩ (wc_goto (pc := 142) (tgt := 146) (dAt dtX11_two 26 rfl) (by decide) (wc_drp [0, 1, 2] rfl (z136)))
    have k134 : ¬ (¬ (x2 ≤ x1)) → Wc G tX11_two (d + 0) h Q 145 [some (vI x0), some (vI x1), some (vI x2)] [] h := fun c135 => by
      have z138 := kj132
      rw [show v131 = 0 from ev131.trans (b2i_f c135)] at z138
      exact wc_iconst (pc := 145) (dAt dtX11_two 27 rfl) ⟨by decide, by decide⟩ (wc_drp [0, 1, 2] rfl (z138))
    exact wc_icmp_ge (pc := 138) (tgt := 145) (dAt dtX11_two 24 rfl) (by decide) (fun c140 => (k134 (fun z => z c140))) (fun c140 => (k133 c140))
  replace hm := ite_f c130 hm
  by_cases c141 : x0 = 61
  · replace hm := ite_t c141 hm
    refine wc_tableIn (pc := 1) (tgt := 147) (dAt dtX11_two 1 rfl) (by omega) (by omega) (by rw [c141]; rfl) (by decide) ?_
    obtain ⟨v142, ev142⟩ : ∃ v142 : Int, v142 = (b2i (¬ (x1 ≠ x2))) := ⟨_, rfl⟩
    replace hm := hm v142 ev142
    refine wc_iload_n (pc := 147) (dAt dtX11_two 29 rfl) rfl (wc_iload_n (pc := 148) (dAt dtX11_two 30 rfl) rfl (?_))
    have kj143 : Wc G tX11_two (d + 0) h Q 157 [none, none, none] [vI v142] h := by
      exact wc_iret (pc := 157) (dAt dtX11_two 35 rfl) rfl (nar_int _) hm
    have k144 : (¬ (x1 ≠ x2)) → Wc G tX11_two (d + 0) h Q 152 [some (vI x0), some (vI x1), some (vI x2)] [] h := fun c146 => by
      have z147 := kj143
      rw [show v142 = 1 from ev142.trans (b2i_t c146)] at z147
      exact wc_iconst (pc := 152) (dAt dtX11_two 32 rfl) ⟨by decide, by decide⟩ (wc_goto (pc := 153) (tgt := 157) (dAt dtX11_two 33 rfl) (by decide) (wc_drp [0, 1, 2] rfl (z147)))
    have k145 : ¬ (¬ (x1 ≠ x2)) → Wc G tX11_two (d + 0) h Q 156 [some (vI x0), some (vI x1), some (vI x2)] [] h := fun c146 => by
      have z149 := kj143
      rw [show v142 = 0 from ev142.trans (b2i_f c146)] at z149
      exact wc_iconst (pc := 156) (dAt dtX11_two 34 rfl) ⟨by decide, by decide⟩ (wc_drp [0, 1, 2] rfl (z149))
    exact wc_icmp_ne (pc := 149) (tgt := 156) (dAt dtX11_two 31 rfl) (by decide) (fun c151 => (k145 (fun z => z c151))) (fun c151 => (k144 c151))
  replace hm := ite_f c141 hm
  have k163 : Wc G tX11_two (d + 0) h Q 172 [some (vI x0), some (vI x1), some (vI x2)] [] h := by
    obtain ⟨v152, ev152⟩ : ∃ v152 : Int, v152 = (b2i ((x1 ≠ 0) ∨ (¬ (x2 = 0)))) := ⟨_, rfl⟩
    replace hm := hm v152 ev152
    refine wc_iload_n (pc := 172) (dAt dtX11_two 44 rfl) rfl (?_)
    have kj153 : Wc G tX11_two (d + 0) h Q 185 [none, none, none] [vI v152] h := by
      exact wc_iret (pc := 185) (dAt dtX11_two 51 rfl) rfl (nar_int _) hm
    have k154 : ((x1 ≠ 0) ∨ (¬ (x2 = 0))) → Wc G tX11_two (d + 0) h Q 180 [some (vI x0), some (vI x1), some (vI x2)] [] h := fun c156 => by
      have z157 := kj153
      rw [show v152 = 1 from ev152.trans (b2i_t c156)] at z157
      exact wc_iconst (pc := 180) (dAt dtX11_two 48 rfl) ⟨by decide, by decide⟩ (wc_goto (pc := 181) (tgt := 185) (dAt dtX11_two 49 rfl) (by decide) (wc_drp [0, 1, 2] rfl (z157)))
    have k155 : ¬ ((x1 ≠ 0) ∨ (¬ (x2 = 0))) → Wc G tX11_two (d + 0) h Q 184 [some (vI x0), some (vI x1), some (vI x2)] [] h := fun c156 => by
      have z159 := kj153
      rw [show v152 = 0 from ev152.trans (b2i_f c156)] at z159
      exact wc_iconst (pc := 184) (dAt dtX11_two 50 rfl) ⟨by decide, by decide⟩ (wc_drp [0, 1, 2] rfl (z159))
    exact wc_if_ne (pc := 173) (tgt := 180) (dAt dtX11_two 45 rfl) (by decide) (fun c161 => (k154 (Or.inl c161))) (fun c161 => wc_iload_n (pc := 176) (dAt dtX11_two 46 rfl) rfl (wc_if_eq (pc := 177) (tgt := 184) (dAt dtX11_two 47 rfl) (by decide) (fun c162 => (k155 (fun z => z.elim c161 (fun z => z c162)))) (fun c162 => (k154 (Or.inr c162)))))
  by_cases c164 : x0 < 38 ∨ 61 < x0
  · exact wc_tableOut (pc := 1) (tgt := 172) (dAt dtX11_two 1 rfl) c164 (by decide) k163
  · rcases (show x0 = 39 ∨ x0 = 40 ∨ x0 = 41 ∨ x0 = 44 ∨ x0 = 46 ∨ x0 = 48 ∨ x0 = 49 ∨ x0 = 50 ∨ x0 = 51 ∨ x0 = 52 ∨ x0 = 53 ∨ x0 = 54 ∨ x0 = 55 ∨ x0 = 56 ∨ x0 = 57 ∨ x0 = 58 ∨ x0 = 59 by omega) with c9 | c9 | c9 | c9 | c9 | c9 | c9 | c9 | c9 | c9 | c9 | c9 | c9 | c9 | c9 | c9 | c9
    all_goals exact wc_tableIn (pc := 1) (tgt := 172) (dAt dtX11_two 1 rfl) (by omega) (by omega) (by rw [c9]; rfl) (by decide) k163
def mX11_value (E : Nat → Hp → (Rs → Hp → Prop) → Prop) (r0 : Nat) (h : Hp) (Q : Rs → Hp → Prop) : Prop := ob h r0 11 ∧ oJ2_get (hR h r0 0) 0 h ∧ ob h (hR h r0 0) 32 ∧ obX h (vJ2_get (hR h r0 0) 0 h) ∧ E (vJ2_get (hR h r0 0) 0 h) h (kI Q (fun x106 h105 => wh3 (fun (C110 : Int → Int → Hp → Prop) (x107 : Int) (x108 : Int) (h109 : Hp) => ob h109 r0 11 ∧ oJ2_size (hR h109 r0 0) h109 ∧ ob h109 (hR h109 r0 0) 32 ∧ if ¬ ((vJ2_size (hR h109 r0 0) h109) ≤ x108) then nm (x108 - 1) ∧ ob h109 (hR h109 r0 1) 48 ∧ mJ18_charAt (hR h109 r0 1) (x108 - 1) h109 (kI Q (fun x119 h118 => ob h118 r0 11 ∧ oJ2_get (hR h118 r0 0) x108 h118 ∧ ob h118 (hR h118 r0 0) 32 ∧ obX h118 (vJ2_get (hR h118 r0 0) x108 h118) ∧ E (vJ2_get (hR h118 r0 0) x108 h118) h118 (kI Q (fun x125 h124 => mX11_two x119 x107 x125 h124 (kI Q (fun x127 h126 => nm (x108 + 1) ∧ ∀ i129 : Int, i129 = (x108 + 1) → C110 x127 i129 h126)))))) else Q (rV (vI x107)) h109) x106 1 h105))
theorem wX11_value {G : Gx} (hg : gF G = true) {d : Nat} {E : Nat → Hp → (Rs → Hp → Prop) → Prop} (hE : ∀ (r : Nat) (h : Hp) (P : Rs → Hp → Prop), E r h P → CtX G d r h P) {r0 : Nat} {h : Hp} {Q : Rs → Hp → Prop} (hm : mX11_value E r0 h Q) : Ct G tX11_value (d + 4) [vR r0, vR 70] h Q := by
  refine ct_enter (L0 := [some (vR r0), some (vR 70), none, none]) rfl rfl ?_
  unfold mX11_value at hm
  obtain ⟨o101, o102, o103, o104, hm⟩ := hm
  refine wc_aload_n (pc := 0) (dAt dtX11_value 0 rfl) rfl (wc_getR (pc := 1) (dAt dtX11_value 1 rfl) flX11_10_11 rfl o101 (wc_iconst (pc := 4) (dAt dtX11_value 2 rfl) ⟨by decide, by decide⟩ (wc_callF (k := 32) (x := ⟨"java/util/List", "get", "(I)Ljava/lang/Object;"⟩) (y' := tJ2_get) (P := eR (vJ2_get (hR h r0 0) 0 h) h) (pc := 5) (dAt dtX11_value 3 rfl) q1592 q508 q507 ⟨by decide, by decide⟩ moJ2_get rfl q511 q512 q510 q367 q509 (by decide) o103 rfl rfl (Nat.le_of_ble_eq_true rfl) (wJ2_get hg o102 ⟨rfl, rfl⟩) (ep_R (wc_castX (pc := 10) (dAt dtX11_value 4 rfl) q1593 o104 (wc_aload_n (pc := 13) (dAt dtX11_value 5 rfl) rfl (wc_callUX (st := []) (pc := 14) (dAt dtX11_value 6 rfl) q1594 o104 rfl (Nat.le_of_ble_eq_true rfl) ((hE _ _ _ hm).deep (by omega)) (kr_I (fun x106 h105 hm => ?_)) (kx_I rfl))))) ex_R)))
  refine wc_istore_n (pc := 17) (dAt dtX11_value 7 rfl) (by decide) (wc_L (L' := [some (vR r0), some (vR 70), some (vI x106), none]) rfl (wc_iconst (pc := 18) (dAt dtX11_value 8 rfl) ⟨by decide, by decide⟩ (wc_istore_n (pc := 19) (dAt dtX11_value 9 rfl) (by decide) (wc_L (L' := [some (vR r0), some (vR 70), some (vI x106), some (vI 1)]) rfl (?_)))))
  refine wh3_ind (P := fun (x107 : Int) (x108 : Int) (h109 : Hp) => Wc G tX11_value (d + 4) h Q 20 [some (vR r0), some (vR 70), some (vI x107), some (vI x108)] [] h109) (fun C110 ih111 x107 x108 h109 hm => ?_) hm
  obtain ⟨o112, o113, o114, hm⟩ := hm
  refine wc_iload_n (pc := 20) (dAt dtX11_value 10 rfl) rfl (wc_aload_n (pc := 21) (dAt dtX11_value 11 rfl) rfl (wc_getR (pc := 22) (dAt dtX11_value 12 rfl) flX11_10_11 rfl o112 (wc_callF (k := 32) (x := ⟨"java/util/List", "size", "()I"⟩) (y' := tJ2_size) (P := eI (vJ2_size (hR h109 r0 0) h109) h109) (pc := 25) (dAt dtX11_value 13 rfl) q1607 q366 q365 ⟨by decide, by decide⟩ moJ2_size rfl q370 q371 q369 q367 q368 (by decide) o114 rfl rfl (Nat.le_of_ble_eq_true rfl) (wJ2_size hg o113 ⟨rfl, rfl⟩) (ep_I (wc_icmp_ge (pc := 30) (tgt := 71) (dAt dtX11_value 14 rfl) (by decide) (fun c115 => ?_) (fun c115 => ?_))) ex_I)))
  · replace hm := ite_f (fun z => z c115) hm
    exact wc_iload_n (pc := 71) (dAt dtX11_value 33 rfl) rfl (wc_iret (pc := 72) (dAt dtX11_value 34 rfl) rfl (nar_int _) hm)
  · replace hm := ite_t c115 hm
    obtain ⟨o116, o117, hm⟩ := hm
    refine wc_aload_n (pc := 33) (dAt dtX11_value 15 rfl) rfl (wc_getR (pc := 34) (dAt dtX11_value 16 rfl) flX11_19_11 rfl o112 (wc_iload_n (pc := 37) (dAt dtX11_value 17 rfl) rfl (wc_iconst (pc := 38) (dAt dtX11_value 18 rfl) ⟨by decide, by decide⟩ (wc_isub (pc := 39) (dAt dtX11_value 19 rfl) o116 (wc_callV (k := 48) (y' := tJ18_charAt) (av := [vI (x108 - 1)]) (st := []) (pc := 40) (dAt dtX11_value 20 rfl) lkX11_45 moJ18_charAt q1609 q1610 (by decide) o117 rfl rfl (Nat.le_of_ble_eq_true rfl) (wJ18_charAt hg hm) (kr_I (fun x119 h118 hm => ?_)) (kx_I rfl))))))
    obtain ⟨o120, o121, o122, o123, hm⟩ := hm
    refine wc_iload_n (pc := 43) (dAt dtX11_value 21 rfl) rfl (wc_aload_n (pc := 44) (dAt dtX11_value 22 rfl) rfl (wc_getR (pc := 45) (dAt dtX11_value 23 rfl) flX11_10_11 rfl o120 (wc_iload_n (pc := 48) (dAt dtX11_value 24 rfl) rfl (wc_callF (k := 32) (x := ⟨"java/util/List", "get", "(I)Ljava/lang/Object;"⟩) (y' := tJ2_get) (P := eR (vJ2_get (hR h118 r0 0) x108 h118) h118) (pc := 49) (dAt dtX11_value 25 rfl) q1592 q508 q507 ⟨by decide, by decide⟩ moJ2_get rfl q511 q512 q510 q367 q509 (by decide) o122 rfl rfl (Nat.le_of_ble_eq_true rfl) (wJ2_get hg o121 ⟨rfl, rfl⟩) (ep_R (wc_castX (pc := 54) (dAt dtX11_value 26 rfl) q1593 o123 (wc_aload_n (pc := 57) (dAt dtX11_value 27 rfl) rfl (wc_callUX (st := [vI x107, vI x119]) (pc := 58) (dAt dtX11_value 28 rfl) q1594 o123 rfl (Nat.le_of_ble_eq_true rfl) ((hE _ _ _ hm).deep (by omega)) (kr_I (fun x125 h124 hm => ?_)) (kx_I rfl))))) ex_R))))
    refine wc_callS (y' := tX11_two) (av := [vI x119, vI x107, vI x125]) (st := []) (pc := 61) (dAt dtX11_value 29 rfl) lkX11_49 moX11_two q1619 q160 rfl rfl (Nat.le_of_ble_eq_true rfl) (wX11_two hg hm) (kr_I (fun x127 h126 hm => ?_)) (kx_I rfl)
    obtain ⟨o128, hm⟩ := hm
    obtain ⟨i129, ei129⟩ : ∃ i129 : Int, i129 = (x108 + 1) := ⟨_, rfl⟩
    replace hm := hm i129 ei129
    exact wc_istore_n (pc := 64) (dAt dtX11_value 30 rfl) (by decide) (wc_L (L' := [some (vR r0), some (vR 70), some (vI x127), some (vI x108)]) rfl (wc_iinc (v := i129) (pc := 65) (dAt dtX11_value 31 rfl) rfl ei129 (ei129 ▸ o128) (by decide) (wc_L (L' := [some (vR r0), some (vR 70), some (vI x127), some (vI i129)]) rfl (wc_goto (pc := 68) (tgt := 20) (dAt dtX11_value 32 rfl) (by decide) (ih111 _ _ _ hm)))))
def mX16_value (E : Nat → Hp → (Rs → Hp → Prop) → Prop) (r0 : Nat) (h : Hp) (Q : Rs → Hp → Prop) : Prop := ob h r0 16 ∧ obX h (hR h r0 0) ∧ mX10_holds E (hR h r0 0) h (kI Q (fun x104 h103 => ∀ v105 : Int, v105 = (b2i (¬ (¬ (x104 = 0)))) → Q (rV (vI v105)) h103))
theorem wX16_value {G : Gx} (hg : gF G = true) {d : Nat} {E : Nat → Hp → (Rs → Hp → Prop) → Prop} (hE : ∀ (r : Nat) (h : Hp) (P : Rs → Hp → Prop), E r h P → CtX G d r h P) {r0 : Nat} {h : Hp} {Q : Rs → Hp → Prop} (hm : mX16_value E r0 h Q) : Ct G tX16_value (d + 2) [vR r0, vR 70] h Q := by
  refine ct_enter (L0 := [some (vR r0), some (vR 70)]) rfl rfl ?_
  unfold mX16_value at hm
  obtain ⟨o101, o102, hm⟩ := hm
  refine wc_aload_n (pc := 0) (dAt dtX16_value 0 rfl) rfl (wc_getR (pc := 1) (dAt dtX16_value 1 rfl) flX16_7_16 rfl o101 (wc_aload_n (pc := 4) (dAt dtX16_value 2 rfl) rfl (wc_callVX (y' := tX10_holds) (av := [vR 70]) (st := []) (pc := 5) (dAt dtX16_value 3 rfl) lkX16_13 moX10_holds q1576 selX_holds o102 rfl rfl (Nat.le_of_ble_eq_true rfl) (wX10_holds hg (d := d + 0) (fun r h P z => (hE r h P z).deep (by omega)) hm) (kr_I (fun x104 h103 hm => ?_)) (kx_I rfl))))
  obtain ⟨v105, ev105⟩ : ∃ v105 : Int, v105 = (b2i (¬ (¬ (x104 = 0)))) := ⟨_, rfl⟩
  replace hm := hm v105 ev105
  have kj106 : Wc G tX16_value (d + 2) h Q 16 [some (vR r0), none] [vI v105] h103 := by
    exact wc_iret (pc := 16) (dAt dtX16_value 8 rfl) rfl (nar_int _) hm
  have k107 : (¬ (x104 = 0)) → Wc G tX16_value (d + 2) h Q 11 [some (vR r0), some (vR 70)] [] h103 := fun c109 => by
    have z110 := kj106
    rw [show v105 = 0 from ev105.trans (b2i_f (fun z => z c109))] at z110
    exact wc_iconst (pc := 11) (dAt dtX16_value 5 rfl) ⟨by decide, by decide⟩ (wc_goto (pc := 12) (tgt := 16) (dAt dtX16_value 6 rfl) (by decide) (wc_drp [1] rfl (z110)))
  have k108 : ¬ (¬ (x104 = 0)) → Wc G tX16_value (d + 2) h Q 15 [some (vR r0), some (vR 70)] [] h103 := fun c109 => by
    have z112 := kj106
    rw [show v105 = 1 from ev105.trans (b2i_t c109)] at z112
    exact wc_iconst (pc := 15) (dAt dtX16_value 7 rfl) ⟨by decide, by decide⟩ (wc_drp [1] rfl (z112))
  exact wc_if_eq (pc := 8) (tgt := 15) (dAt dtX16_value 4 rfl) (by decide) (fun c114 => (k108 (fun z => z c114))) (fun c114 => (k107 c114))
/-- the worth of an expression -/
def mEV : Nat → Nat → Hp → (Rs → Hp → Prop) → Prop
  | 0, _, _, _ => False
  | n + 1, r, h, Q => if hT h r = 11 then mX11_value (mEV n) r h Q
    else if hT h r = 12 then oX12_value r h ∧ Q (rV (vI (vX12_value r h))) h
    else if hT h r = 13 then oX13_value r h ∧ Q (rV (vI (vX13_value r h))) h
    else if hT h r = 14 then oX14_value r h ∧ Q (rV (vI (vX14_value r h))) h
    else if hT h r = 15 then oX15_value r h ∧ Q (rV (vI (vX15_value r h))) h
    else mX16_value (mEV n) r h Q
theorem hEVn {G : Gx} (hg : gF G = true) : ∀ (n d : Nat) {r : Nat} {h : Hp} {P : Rs → Hp → Prop}, mEV n r h P → CtX G (d + (5 * n + 10)) r h P := by
  intro n
  induction n with
  | zero => intro d r h P hm; exact hm.elim
  | succ n ih =>
    intro d r h P hm k h1 h2 o
    have e := o.2.2
    unfold mEV at hm
    have hE : ∀ (r : Nat) (h : Hp) (P : Rs → Hp → Prop), mEV n r h P → CtX G (d + (5 * n + 10)) r h P := fun r h P z => ih d z
    rcases (show k = 11 ∨ k = 12 ∨ k = 13 ∨ k = 14 ∨ k = 15 ∨ k = 16 by omega) with rfl | rfl | rfl | rfl | rfl | rfl
    · rw [e] at hm
      replace hm := ite_t rfl hm
      exact Ct.deep (wX11_value hg hE hm) (by omega)
    · rw [e] at hm
      replace hm := ite_f (show ¬ 12 = 11 by decide) hm
      replace hm := ite_t rfl hm
      exact Ct.deep (d := d + 0) (wX12_value hg hm.1 hm.2) (by omega)
    · rw [e] at hm
      replace hm := ite_f (show ¬ 13 = 11 by decide) hm
      replace hm := ite_f (show ¬ 13 = 12 by decide) hm
      replace hm := ite_t rfl hm
      exact Ct.deep (d := d + 0) (wX13_value hg hm.1 hm.2) (by omega)
    · rw [e] at hm
      replace hm := ite_f (show ¬ 14 = 11 by decide) hm
      replace hm := ite_f (show ¬ 14 = 12 by decide) hm
      replace hm := ite_f (show ¬ 14 = 13 by decide) hm
      replace hm := ite_t rfl hm
      exact Ct.deep (d := d + 0) (wX14_value hg hm.1 hm.2) (by omega)
    · rw [e] at hm
      replace hm := ite_f (show ¬ 15 = 11 by decide) hm
      replace hm := ite_f (show ¬ 15 = 12 by decide) hm
      replace hm := ite_f (show ¬ 15 = 13 by decide) hm
      replace hm := ite_f (show ¬ 15 = 14 by decide) hm
      replace hm := ite_t rfl hm
      exact Ct.deep (d := d + 0) (wX15_value hg hm.1 hm.2) (by omega)
    · rw [e] at hm
      replace hm := ite_f (show ¬ 16 = 11 by decide) hm
      replace hm := ite_f (show ¬ 16 = 12 by decide) hm
      replace hm := ite_f (show ¬ 16 = 13 by decide) hm
      replace hm := ite_f (show ¬ 16 = 14 by decide) hm
      replace hm := ite_f (show ¬ 16 = 15 by decide) hm
      exact Ct.deep (wX16_value hg hE hm) (by omega)
theorem hEV {G : Gx} (hg : gF G = true) {d r : Nat} {h : Hp} {P : Rs → Hp → Prop} (hm : mEV 70 r h P) : CtX G (d + 360) r h P := hEVn hg 70 d hm

def tX1_mayNot : Mt := (⟨"FlyingDoctors", "mayNot", "(LFlyingDoctors$Plane;LFlyingDoctors$Place;IILFlyingDoctors$Place;II)I"⟩, prog_1_method_10_code, 11, (Option.some Jvm.ClassFile.FieldType.int), [])
def DX1_mayNot : List (Nat × Instr × Nat) := [(0, .aload_n 0, 1), (1, .iload 4, 2), (3, .invokevirtual 97, 3), (6, .astore 8, 2), (8, .aload_n 0, 1), (9, .aload 8, 2), (11, .invokevirtual 101, 3), (14, .astore 9, 2), (16, .aload 9, 2), (18, .getfield 105, 3), (21, .iconst 0, 1), (22, .aload_n 0, 1), (23, .aload_n 2, 1), (24, .iload_n 3, 1), (25, .bipush 96, 2), (27, .idiv, 1), (28, .iload 4, 2), (30, .invokevirtual 108, 3), (33, .iastore, 1), (34, .aload 9, 2), (36, .getfield 105, 3), (39, .iconst 1, 1), (40, .aload_n 2, 1), (41, .getfield 112, 3), (44, .iastore, 1), (45, .aload 9, 2), (47, .getfield 105, 3), (50, .iconst 2, 1), (51, .aload_n 1, 1), (52, .getfield 115, 3), (55, .iastore, 1), (56, .aload 9, 2), (58, .getfield 105, 3), (61, .iconst 3, 1), (62, .aload_n 2, 1), (63, .getfield 120, 3), (66, .ifCond .eq 7, 3), (69, .iconst 1, 1), (70, .goto 4, 3), (73, .iconst 0, 1), (74, .iastore, 1), (75, .aload 9, 2), (77, .getfield 105, 3), (80, .iconst 4, 1), (81, .iload_n 3, 1), (82, .invokestatic 123, 3), (85, .ifCond .eq 7, 3), (88, .iconst 1, 1), (89, .goto 4, 3), (92, .iconst 0, 1), (93, .iastore, 1), (94, .aload 9, 2), (96, .getfield 105, 3), (99, .iconst 5, 1), (100, .aload_n 2, 1), (101, .aload 5, 2), (103, .invokevirtual 32, 3), (106, .iastore, 1), (107, .aload 9, 2), (109, .getfield 105, 3), (112, .bipush 6, 2), (114, .iload 6, 2), (116, .iastore, 1), (117, .aload 9, 2), (119, .getfield 105, 3), (122, .bipush 7, 2), (124, .iload 7, 2), (126, .iastore, 1), (127, .iconst 0, 1), (128, .istore 10, 2), (130, .iload 10, 2), (132, .aload 8, 2), (134, .getfield 127, 3), (137, .invokeinterface 16 1, 5), (142, .if_icmp .ge 35, 3), (145, .aload 8, 2), (147, .getfield 127, 3), (150, .iload 10, 2), (152, .invokeinterface 22 2, 5), (157, .checkcast 130, 3), (160, .aload 9, 2), (162, .invokevirtual 132, 3), (165, .ifCond .ne 6, 3), (168, .iload 10, 2), (170, .ireturn, 1), (171, .iinc 10 1, 3), (174, .goto (-44), 3), (177, .iconst (-1), 1), (178, .ireturn, 1)]
theorem dtX1_mayNot : chkD (mB tX1_mayNot) DX1_mayNot = true := by decide +kernel
theorem moX1_mayNot : MethOk tX1_mayNot 7 := ⟨Or.inl ⟨rfl, q1554⟩, by decide +kernel, ⟨by decide, by decide⟩, by decide +kernel⟩
def mX1_mayNot (r1 : Nat) (r2 : Nat) (x3 : Int) (x4 : Int) (r5 : Nat) (x6 : Int) (x7 : Int) (h : Hp) (Q : Rs → Hp → Prop) : Prop := mX1_rulesAt x4 h (kR Q (fun r102 h101 => mX1_asking r102 h101 (kR Q (fun r104 h103 => r104 = 70 ∧ mX1_wetOf r2 (Int.tdiv x3 96) x4 h103 (kI Q (fun x107 h106 => ∀ h108 : Hp, h108 = sI h106 71 0 x107 → ob h108 r2 5 ∧ ∀ h110 : Hp, h110 = sI h108 71 1 (hI h108 r2 3) → ob h110 r1 6 ∧ ∀ h112 : Hp, h112 = sI h110 71 2 (hI h110 r1 3) → ∀ v113 : Int, v113 = (b2i (¬ ((hI h112 r2 4) = 0))) → ∀ h114 : Hp, h114 = sI h112 71 3 v113 → ∀ v115 : Int, v115 = (b2i (¬ ((vX1_isNight x3 h114) = 0))) → ∀ h116 : Hp, h116 = sI h114 71 4 v115 → oX5_miles r2 r5 h116 ∧ ∀ h118 : Hp, h118 = sI h116 71 5 (vX5_miles r2 r5 h116) → ∀ h119 : Hp, h119 = sI h118 71 6 x6 → ∀ h120 : Hp, h120 = sI h119 71 7 x7 → wh2 (fun (C123 : Int → Hp → Prop) (x121 : Int) (h122 : Hp) => ob h122 r102 2 ∧ oJ2_size (hR h122 r102 1) h122 ∧ ob h122 (hR h122 r102 1) 32 ∧ if ¬ ((vJ2_size (hR h122 r102 1) h122) ≤ x121) then oJ2_get (hR h122 r102 1) x121 h122 ∧ obX h122 (vJ2_get (hR h122 r102 1) x121 h122) ∧ mX10_holds (mEV 70) (vJ2_get (hR h122 r102 1) x121 h122) h122 (kI Q (fun x132 h131 => if ¬ (x132 ≠ 0) then Q (rV (vI x121)) h131 else nm (x121 + 1) ∧ ∀ i135 : Int, i135 = (x121 + 1) → C123 i135 h131)) else Q (rV (vI (-1))) h122) 0 h120))))))
theorem wX1_mayNot {G : Gx} (hg : gF G = true) {d : Nat} {r1 : Nat} {r2 : Nat} {x3 : Int} {x4 : Int} {r5 : Nat} {x6 : Int} {x7 : Int} {h : Hp} {Q : Rs → Hp → Prop} (hm : mX1_mayNot r1 r2 x3 x4 r5 x6 x7 h Q) : Ct G tX1_mayNot (d + 362) [vR 50, vR r1, vR r2, vI x3, vI x4, vR r5, vI x6, vI x7] h Q := by
  refine ct_enter (L0 := [some (vR 50), some (vR r1), some (vR r2), some (vI x3), some (vI x4), some (vR r5), some (vI x6), some (vI x7), none, none, none]) rfl rfl ?_
  unfold mX1_mayNot at hm
  refine wc_aload_n (pc := 0) (dAt dtX1_mayNot 0 rfl) rfl (wc_iload (pc := 1) (dAt dtX1_mayNot 1 rfl) rfl (wc_kf hg fun zk => wc_callV (k := 1) (y' := tX1_rulesAt) (av := [vI x4]) (st := []) (pc := 3) (dAt dtX1_mayNot 2 rfl) lkX1_97 moX1_rulesAt q1486 qs33 (by decide) (zk.2 _ ka50).1 rfl rfl (Nat.le_of_ble_eq_true rfl) (wX1_rulesAt hg hm) (kr_R (fun r102 h101 hm => ?_)) (kx_R rfl)))
  refine wc_astore (pc := 6) (dAt dtX1_mayNot 3 rfl) (by decide) (wc_L (L' := [some (vR 50), some (vR r1), some (vR r2), some (vI x3), some (vI x4), some (vR r5), some (vI x6), some (vI x7), some (vR r102), none, none]) rfl (wc_aload_n (pc := 8) (dAt dtX1_mayNot 4 rfl) rfl (wc_aload (pc := 9) (dAt dtX1_mayNot 5 rfl) rfl (wc_kf hg fun zk => wc_callV (k := 1) (y' := tX1_asking) (av := [vR r102]) (st := []) (pc := 11) (dAt dtX1_mayNot 6 rfl) lkX1_101 moX1_asking q1557 qs37 (by decide) (zk.2 _ ka50).1 rfl rfl (Nat.le_of_ble_eq_true rfl) (wX1_asking hg hm) (kr_R (fun r104 h103 hm => ?_)) (kx_R rfl)))))
  obtain ⟨o105, hm⟩ := hm
  refine wc_vr o105.symm (wc_astore (pc := 14) (dAt dtX1_mayNot 7 rfl) (by decide) (wc_L (L' := [some (vR 50), some (vR r1), some (vR r2), some (vI x3), some (vI x4), some (vR r5), some (vI x6), some (vI x7), some (vR r102), some (vR 70), none]) rfl (wc_aload (pc := 16) (dAt dtX1_mayNot 8 rfl) rfl (wc_getKR hg (pc := 18) (dAt dtX1_mayNot 9 rfl) flX1_105_3 rfl ka70 kf70_0 (wc_iconst (pc := 21) (dAt dtX1_mayNot 10 rfl) ⟨by decide, by decide⟩ (wc_aload_n (pc := 22) (dAt dtX1_mayNot 11 rfl) rfl (wc_aload_n (pc := 23) (dAt dtX1_mayNot 12 rfl) rfl (wc_iload_n (pc := 24) (dAt dtX1_mayNot 13 rfl) rfl (wc_bipush (pc := 25) (dAt dtX1_mayNot 14 rfl) ⟨by decide, by decide, by decide⟩ (wc_idiv (pc := 27) (dAt dtX1_mayNot 15 rfl) (by decide) (wc_iload (pc := 28) (dAt dtX1_mayNot 16 rfl) rfl (wc_kf hg fun zk => wc_callV (k := 1) (y' := tX1_wetOf) (av := [vR r2, vI (Int.tdiv x3 96), vI x4]) (st := [vI 0, vR 71]) (pc := 30) (dAt dtX1_mayNot 17 rfl) lkX1_108 moX1_wetOf q1534 qs34 (by decide) (zk.2 _ ka50).1 rfl rfl (Nat.le_of_ble_eq_true rfl) (wX1_wetOf hg hm) (kr_I (fun x107 h106 hm => ?_)) (kx_I rfl)))))))))))))
  obtain ⟨h108, eh108⟩ : ∃ h108 : Hp, h108 = sI h106 71 0 x107 := ⟨_, rfl⟩
  replace hm := hm h108 eh108
  obtain ⟨o109, hm⟩ := hm
  obtain ⟨h110, eh110⟩ : ∃ h110 : Hp, h110 = sI h108 71 1 (hI h108 r2 3) := ⟨_, rfl⟩
  replace hm := hm h110 eh110
  obtain ⟨o111, hm⟩ := hm
  obtain ⟨h112, eh112⟩ : ∃ h112 : Hp, h112 = sI h110 71 2 (hI h110 r1 3) := ⟨_, rfl⟩
  replace hm := hm h112 eh112
  obtain ⟨v113, ev113⟩ : ∃ v113 : Int, v113 = (b2i (¬ ((hI h112 r2 4) = 0))) := ⟨_, rfl⟩
  replace hm := hm v113 ev113
  refine wc_iastK hg (pc := 33) (dAt dtX1_mayNot 18 rfl) kr71 (by decide) (by decide) (by decide) (wc_hp eh108 (wc_aload (pc := 34) (dAt dtX1_mayNot 19 rfl) rfl (wc_getKR hg (pc := 36) (dAt dtX1_mayNot 20 rfl) flX1_105_3 rfl ka70 kf70_0 (wc_iconst (pc := 39) (dAt dtX1_mayNot 21 rfl) ⟨by decide, by decide⟩ (wc_aload_n (pc := 40) (dAt dtX1_mayNot 22 rfl) rfl (wc_getI (pc := 41) (dAt dtX1_mayNot 23 rfl) flX1_112_5 rfl o109 (wc_iastK hg (pc := 44) (dAt dtX1_mayNot 24 rfl) kr71 (by decide) (by decide) (by decide) (wc_hp eh110 (wc_aload (pc := 45) (dAt dtX1_mayNot 25 rfl) rfl (wc_getKR hg (pc := 47) (dAt dtX1_mayNot 26 rfl) flX1_105_3 rfl ka70 kf70_0 (wc_iconst (pc := 50) (dAt dtX1_mayNot 27 rfl) ⟨by decide, by decide⟩ (wc_aload_n (pc := 51) (dAt dtX1_mayNot 28 rfl) rfl (wc_getI (pc := 52) (dAt dtX1_mayNot 29 rfl) flX1_115_6 rfl o111 (wc_iastK hg (pc := 55) (dAt dtX1_mayNot 30 rfl) kr71 (by decide) (by decide) (by decide) (wc_hp eh112 (wc_aload (pc := 56) (dAt dtX1_mayNot 31 rfl) rfl (wc_getKR hg (pc := 58) (dAt dtX1_mayNot 32 rfl) flX1_105_3 rfl ka70 kf70_0 (wc_iconst (pc := 61) (dAt dtX1_mayNot 33 rfl) ⟨by decide, by decide⟩ (wc_aload_n (pc := 62) (dAt dtX1_mayNot 34 rfl) rfl (wc_getI (pc := 63) (dAt dtX1_mayNot 35 rfl) flX1_120_5 rfl (ob_sI eh112 (ob_sI eh110 o109)) (?_)))))))))))))))))))))
  have kj145 : Wc G tX1_mayNot (d + 362) h Q 74 [some (vR 50), none, some (vR r2), some (vI x3), none, some (vR r5), some (vI x6), some (vI x7), some (vR r102), some (vR 70), none] [vI v113, vI 3, vR 71] h112 := by
    obtain ⟨h114, eh114⟩ : ∃ h114 : Hp, h114 = sI h112 71 3 v113 := ⟨_, rfl⟩
    replace hm := hm h114 eh114
    obtain ⟨v115, ev115⟩ : ∃ v115 : Int, v115 = (b2i (¬ ((vX1_isNight x3 h114) = 0))) := ⟨_, rfl⟩
    replace hm := hm v115 ev115
    refine wc_iastK hg (pc := 74) (dAt dtX1_mayNot 40 rfl) kr71 (by decide) (by decide) (by decide) (wc_hp eh114 (wc_aload (pc := 75) (dAt dtX1_mayNot 41 rfl) rfl (wc_getKR hg (pc := 77) (dAt dtX1_mayNot 42 rfl) flX1_105_3 rfl ka70 kf70_0 (wc_iconst (pc := 80) (dAt dtX1_mayNot 43 rfl) ⟨by decide, by decide⟩ (wc_iload_n (pc := 81) (dAt dtX1_mayNot 44 rfl) rfl (wc_callS (y' := tX1_isNight) (P := eI (vX1_isNight x3 h114) h114) (pc := 82) (dAt dtX1_mayNot 45 rfl) lkX1_123 moX1_isNight q1565 q128 rfl rfl (Nat.le_of_ble_eq_true rfl) (wX1_isNight hg ⟨rfl, rfl⟩) (ep_I (?_)) ex_I))))))
    have kj136 : Wc G tX1_mayNot (d + 362) h Q 93 [some (vR 50), none, some (vR r2), none, none, some (vR r5), some (vI x6), some (vI x7), some (vR r102), some (vR 70), none] [vI v115, vI 4, vR 71] h114 := by
      obtain ⟨h116, eh116⟩ : ∃ h116 : Hp, h116 = sI h114 71 4 v115 := ⟨_, rfl⟩
      replace hm := hm h116 eh116
      obtain ⟨o117, hm⟩ := hm
      obtain ⟨h118, eh118⟩ : ∃ h118 : Hp, h118 = sI h116 71 5 (vX5_miles r2 r5 h116) := ⟨_, rfl⟩
      replace hm := hm h118 eh118
      obtain ⟨h119, eh119⟩ : ∃ h119 : Hp, h119 = sI h118 71 6 x6 := ⟨_, rfl⟩
      replace hm := hm h119 eh119
      obtain ⟨h120, eh120⟩ : ∃ h120 : Hp, h120 = sI h119 71 7 x7 := ⟨_, rfl⟩
      replace hm := hm h120 eh120
      refine wc_iastK hg (pc := 93) (dAt dtX1_mayNot 50 rfl) kr71 (by decide) (by decide) (by decide) (wc_hp eh116 (wc_aload (pc := 94) (dAt dtX1_mayNot 51 rfl) rfl (wc_getKR hg (pc := 96) (dAt dtX1_mayNot 52 rfl) flX1_105_3 rfl ka70 kf70_0 (wc_iconst (pc := 99) (dAt dtX1_mayNot 53 rfl) ⟨by decide, by decide⟩ (wc_aload_n (pc := 100) (dAt dtX1_mayNot 54 rfl) rfl (wc_aload (pc := 101) (dAt dtX1_mayNot 55 rfl) rfl (wc_callV (k := 5) (y' := tX5_miles) (P := eI (vX5_miles r2 r5 h116) h116) (pc := 103) (dAt dtX1_mayNot 56 rfl) lkX1_32 moX5_miles q1568 q1569 (by decide) (ob_sI eh116 (ob_sI eh114 (ob_sI eh112 (ob_sI eh110 o109)))) rfl rfl (Nat.le_of_ble_eq_true rfl) (wX5_miles hg o117 ⟨rfl, rfl⟩) (ep_I (wc_iastK hg (pc := 106) (dAt dtX1_mayNot 57 rfl) kr71 (by decide) (by decide) (by decide) (wc_hp eh118 (wc_aload (pc := 107) (dAt dtX1_mayNot 58 rfl) rfl (wc_getKR hg (pc := 109) (dAt dtX1_mayNot 59 rfl) flX1_105_3 rfl ka70 kf70_0 (wc_bipush (pc := 112) (dAt dtX1_mayNot 60 rfl) ⟨by decide, by decide, by decide⟩ (wc_iload (pc := 114) (dAt dtX1_mayNot 61 rfl) rfl (wc_iastK hg (pc := 116) (dAt dtX1_mayNot 62 rfl) kr71 (by decide) (by decide) (by decide) (wc_hp eh119 (wc_aload (pc := 117) (dAt dtX1_mayNot 63 rfl) rfl (wc_getKR hg (pc := 119) (dAt dtX1_mayNot 64 rfl) flX1_105_3 rfl ka70 kf70_0 (wc_bipush (pc := 122) (dAt dtX1_mayNot 65 rfl) ⟨by decide, by decide, by decide⟩ (wc_iload (pc := 124) (dAt dtX1_mayNot 66 rfl) rfl (wc_iastK hg (pc := 126) (dAt dtX1_mayNot 67 rfl) kr71 (by decide) (by decide) (by decide) (wc_hp eh120 (wc_iconst (pc := 127) (dAt dtX1_mayNot 68 rfl) ⟨by decide, by decide⟩ (wc_istore (pc := 128) (dAt dtX1_mayNot 69 rfl) (by decide) (wc_L (L' := [some (vR 50), none, some (vR r2), none, none, some (vR r5), some (vI x6), some (vI x7), some (vR r102), some (vR 70), some (vI 0)]) rfl (wc_drp [2, 5, 6, 7] rfl (wc_L (L' := [some (vR 50), none, none, none, none, none, none, none, some (vR r102), some (vR 70), some (vI 0)]) rfl (?_))))))))))))))))))))) ex_I)))))))
      refine wh2_ind (P := fun (x121 : Int) (h122 : Hp) => Wc G tX1_mayNot (d + 362) h Q 130 [some (vR 50), none, none, none, none, none, none, none, some (vR r102), some (vR 70), some (vI x121)] [] h122) (fun C123 ih124 x121 h122 hm => ?_) hm
      obtain ⟨o125, o126, o127, hm⟩ := hm
      refine wc_iload (pc := 130) (dAt dtX1_mayNot 70 rfl) rfl (wc_aload (pc := 132) (dAt dtX1_mayNot 71 rfl) rfl (wc_getR (pc := 134) (dAt dtX1_mayNot 72 rfl) flX1_127_2 rfl o125 (wc_callF (k := 32) (x := ⟨"java/util/List", "size", "()I"⟩) (y' := tJ2_size) (P := eI (vJ2_size (hR h122 r102 1) h122) h122) (pc := 137) (dAt dtX1_mayNot 73 rfl) q364 q366 q365 ⟨by decide, by decide⟩ moJ2_size rfl q370 q371 q369 q367 q368 (by decide) o127 rfl rfl (Nat.le_of_ble_eq_true rfl) (wJ2_size hg o126 ⟨rfl, rfl⟩) (ep_I (wc_icmp_ge (pc := 142) (tgt := 177) (dAt dtX1_mayNot 74 rfl) (by decide) (fun c128 => ?_) (fun c128 => ?_))) ex_I)))
      · replace hm := ite_f (fun z => z c128) hm
        exact wc_iconst (pc := 177) (dAt dtX1_mayNot 87 rfl) ⟨by decide, by decide⟩ (wc_iret (pc := 178) (dAt dtX1_mayNot 88 rfl) rfl (nar_int _) hm)
      · replace hm := ite_t c128 hm
        obtain ⟨o129, o130, hm⟩ := hm
        refine wc_aload (pc := 145) (dAt dtX1_mayNot 75 rfl) rfl (wc_getR (pc := 147) (dAt dtX1_mayNot 76 rfl) flX1_127_2 rfl o125 (wc_iload (pc := 150) (dAt dtX1_mayNot 77 rfl) rfl (wc_callF (k := 32) (x := ⟨"java/util/List", "get", "(I)Ljava/lang/Object;"⟩) (y' := tJ2_get) (P := eR (vJ2_get (hR h122 r102 1) x121 h122) h122) (pc := 152) (dAt dtX1_mayNot 78 rfl) q506 q508 q507 ⟨by decide, by decide⟩ moJ2_get rfl q511 q512 q510 q367 q509 (by decide) o127 rfl rfl (Nat.le_of_ble_eq_true rfl) (wJ2_get hg o129 ⟨rfl, rfl⟩) (ep_R (wc_castX (pc := 157) (dAt dtX1_mayNot 79 rfl) q1574 o130 (wc_aload (pc := 160) (dAt dtX1_mayNot 80 rfl) rfl (wc_callVX (y' := tX10_holds) (av := [vR 70]) (st := []) (pc := 162) (dAt dtX1_mayNot 81 rfl) lkX1_132 moX10_holds q1576 selX_holds o130 rfl rfl (Nat.le_of_ble_eq_true rfl) (wX10_holds hg (fun _ _ _ z => hEV hg z) hm) (kr_I (fun x132 h131 hm => ?_)) (kx_I rfl))))) ex_R)))
        refine wc_if_ne (pc := 165) (tgt := 171) (dAt dtX1_mayNot 82 rfl) (by decide) (fun c133 => ?_) (fun c133 => ?_)
        · replace hm := ite_f (fun z => z c133) hm
          obtain ⟨o134, hm⟩ := hm
          obtain ⟨i135, ei135⟩ : ∃ i135 : Int, i135 = (x121 + 1) := ⟨_, rfl⟩
          replace hm := hm i135 ei135
          exact wc_iinc (v := i135) (pc := 171) (dAt dtX1_mayNot 85 rfl) rfl ei135 (ei135 ▸ o134) (by decide) (wc_L (L' := [some (vR 50), none, none, none, none, none, none, none, some (vR r102), some (vR 70), some (vI i135)]) rfl (wc_goto (pc := 174) (tgt := 130) (dAt dtX1_mayNot 86 rfl) (by decide) (ih124 _ _ hm)))
        · replace hm := ite_t c133 hm
          exact wc_iload (pc := 168) (dAt dtX1_mayNot 83 rfl) rfl (wc_iret (pc := 170) (dAt dtX1_mayNot 84 rfl) rfl (nar_int _) hm)
    have k137 : (¬ ((vX1_isNight x3 h114) = 0)) → Wc G tX1_mayNot (d + 362) h Q 88 [some (vR 50), none, some (vR r2), some (vI x3), none, some (vR r5), some (vI x6), some (vI x7), some (vR r102), some (vR 70), none] [vI 4, vR 71] h114 := fun c139 => by
      have z140 := kj136
      rw [show v115 = 1 from ev115.trans (b2i_t c139)] at z140
      exact wc_iconst (pc := 88) (dAt dtX1_mayNot 47 rfl) ⟨by decide, by decide⟩ (wc_goto (pc := 89) (tgt := 93) (dAt dtX1_mayNot 48 rfl) (by decide) (wc_drp [3] rfl (z140)))
    have k138 : ¬ (¬ ((vX1_isNight x3 h114) = 0)) → Wc G tX1_mayNot (d + 362) h Q 92 [some (vR 50), none, some (vR r2), some (vI x3), none, some (vR r5), some (vI x6), some (vI x7), some (vR r102), some (vR 70), none] [vI 4, vR 71] h114 := fun c139 => by
      have z142 := kj136
      rw [show v115 = 0 from ev115.trans (b2i_f c139)] at z142
      exact wc_iconst (pc := 92) (dAt dtX1_mayNot 49 rfl) ⟨by decide, by decide⟩ (wc_drp [3] rfl (z142))
    exact wc_if_eq (pc := 85) (tgt := 92) (dAt dtX1_mayNot 46 rfl) (by decide) (fun c144 => (k138 (fun z => z c144))) (fun c144 => (k137 c144))
  have k146 : (¬ ((hI h112 r2 4) = 0)) → Wc G tX1_mayNot (d + 362) h Q 69 [some (vR 50), some (vR r1), some (vR r2), some (vI x3), some (vI x4), some (vR r5), some (vI x6), some (vI x7), some (vR r102), some (vR 70), none] [vI 3, vR 71] h112 := fun c148 => by
    have z149 := kj145
    rw [show v113 = 1 from ev113.trans (b2i_t c148)] at z149
    exact wc_iconst (pc := 69) (dAt dtX1_mayNot 37 rfl) ⟨by decide, by decide⟩ (wc_goto (pc := 70) (tgt := 74) (dAt dtX1_mayNot 38 rfl) (by decide) (wc_drp [1, 4] rfl (z149)))
  have k147 : ¬ (¬ ((hI h112 r2 4) = 0)) → Wc G tX1_mayNot (d + 362) h Q 73 [some (vR 50), some (vR r1), some (vR r2), some (vI x3), some (vI x4), some (vR r5), some (vI x6), some (vI x7), some (vR r102), some (vR 70), none] [vI 3, vR 71] h112 := fun c148 => by
    have z151 := kj145
    rw [show v113 = 0 from ev113.trans (b2i_f c148)] at z151
    exact wc_iconst (pc := 73) (dAt dtX1_mayNot 39 rfl) ⟨by decide, by decide⟩ (wc_drp [1, 4] rfl (z151))
  exact wc_if_eq (pc := 66) (tgt := 73) (dAt dtX1_mayNot 36 rfl) (by decide) (fun c153 => (k147 (fun z => z c153))) (fun c153 => (k146 c153))
def tX1_may : Mt := (⟨"FlyingDoctors", "may", "(IIIIIII)I"⟩, prog_1_method_35_code, 11, (Option.some Jvm.ClassFile.FieldType.int), [])
def DX1_may : List (Nat × Instr × Nat) := [(0, .aload_n 0, 1), (1, .iload_n 1, 1), (2, .invokevirtual 370, 3), (5, .astore 8, 2), (7, .aload_n 0, 1), (8, .iload_n 2, 1), (9, .invokevirtual 334, 3), (12, .astore 9, 2), (14, .aload_n 0, 1), (15, .iload 5, 2), (17, .invokevirtual 334, 3), (20, .astore 10, 2), (22, .iload_n 3, 1), (23, .iconst 0, 1), (24, .sipush 2975, 3), (27, .invokestatic 314, 3), (30, .ifCond .eq 20, 3), (33, .iload 4, 2), (35, .iconst 0, 1), (36, .aload_n 0, 1), (37, .getfield 173, 3), (40, .invokestatic 314, 3), (43, .ifCond .eq 7, 3), (46, .iconst 1, 1), (47, .goto 4, 3), (50, .iconst 0, 1), (51, .invokestatic 337, 3), (54, .aload_n 0, 1), (55, .aload 8, 2), (57, .aload 9, 2), (59, .iload_n 3, 1), (60, .iload 4, 2), (62, .aload 10, 2), (64, .iload 6, 2), (66, .iload 7, 2), (68, .invokevirtual 235, 3), (71, .ireturn, 1)]
theorem dtX1_may : chkD (mB tX1_may) DX1_may = true := by decide +kernel
theorem moX1_may : MethOk tX1_may 7 := ⟨Or.inl ⟨rfl, q1546⟩, by decide +kernel, ⟨by decide, by decide⟩, by decide +kernel⟩
def mX1_may (x1 : Int) (x2 : Int) (x3 : Int) (x4 : Int) (x5 : Int) (x6 : Int) (x7 : Int) (h : Hp) (Q : Rs → Hp → Prop) : Prop := mX1_planeAt x1 h (kR Q (fun r102 h101 => mX1_placeAt x2 h101 (kR Q (fun r104 h103 => mX1_placeAt x5 h103 (kR Q (fun r106 h105 => ∀ v107 : Int, v107 = (b2i (¬ ((vX1_in x3 0 2975 h105) = 0) ∧ (¬ ((vX1_in x4 0 (hI h105 50 20) h105) = 0)))) → mX1_right v107 h105 (kN Q (fun h108 => mX1_mayNot r102 r104 x3 x4 r106 x6 x7 h108 (kI Q (fun x110 h109 => Q (rV (vI x110)) h109))))))))))
theorem wX1_may {G : Gx} (hg : gF G = true) {d : Nat} {x1 : Int} {x2 : Int} {x3 : Int} {x4 : Int} {x5 : Int} {x6 : Int} {x7 : Int} {h : Hp} {Q : Rs → Hp → Prop} (hm : mX1_may x1 x2 x3 x4 x5 x6 x7 h Q) : Ct G tX1_may (d + 363) [vR 50, vI x1, vI x2, vI x3, vI x4, vI x5, vI x6, vI x7] h Q := by
  refine ct_enter (L0 := [some (vR 50), some (vI x1), some (vI x2), some (vI x3), some (vI x4), some (vI x5), some (vI x6), some (vI x7), none, none, none]) rfl rfl ?_
  unfold mX1_may at hm
  refine wc_aload_n (pc := 0) (dAt dtX1_may 0 rfl) rfl (wc_iload_n (pc := 1) (dAt dtX1_may 1 rfl) rfl (wc_kf hg fun zk => wc_callV (k := 1) (y' := tX1_planeAt) (av := [vI x1]) (st := []) (pc := 2) (dAt dtX1_may 2 rfl) lkX1_370 moX1_planeAt q1549 qs35 (by decide) (zk.2 _ ka50).1 rfl rfl (Nat.le_of_ble_eq_true rfl) (wX1_planeAt hg hm) (kr_R (fun r102 h101 hm => ?_)) (kx_R rfl)))
  refine wc_astore (pc := 5) (dAt dtX1_may 3 rfl) (by decide) (wc_L (L' := [some (vR 50), some (vI x1), some (vI x2), some (vI x3), some (vI x4), some (vI x5), some (vI x6), some (vI x7), some (vR r102), none, none]) rfl (wc_aload_n (pc := 7) (dAt dtX1_may 4 rfl) rfl (wc_iload_n (pc := 8) (dAt dtX1_may 5 rfl) rfl (wc_kf hg fun zk => wc_callV (k := 1) (y' := tX1_placeAt) (av := [vI x2]) (st := []) (pc := 9) (dAt dtX1_may 6 rfl) lkX1_334 moX1_placeAt q684 qs5 (by decide) (zk.2 _ ka50).1 rfl rfl (Nat.le_of_ble_eq_true rfl) (wX1_placeAt hg hm) (kr_R (fun r104 h103 hm => ?_)) (kx_R rfl)))))
  refine wc_astore (pc := 12) (dAt dtX1_may 7 rfl) (by decide) (wc_L (L' := [some (vR 50), some (vI x1), some (vI x2), some (vI x3), some (vI x4), some (vI x5), some (vI x6), some (vI x7), some (vR r102), some (vR r104), none]) rfl (wc_aload_n (pc := 14) (dAt dtX1_may 8 rfl) rfl (wc_iload (pc := 15) (dAt dtX1_may 9 rfl) rfl (wc_kf hg fun zk => wc_callV (k := 1) (y' := tX1_placeAt) (av := [vI x5]) (st := []) (pc := 17) (dAt dtX1_may 10 rfl) lkX1_334 moX1_placeAt q684 qs5 (by decide) (zk.2 _ ka50).1 rfl rfl (Nat.le_of_ble_eq_true rfl) (wX1_placeAt hg hm) (kr_R (fun r106 h105 hm => ?_)) (kx_R rfl)))))
  obtain ⟨v107, ev107⟩ : ∃ v107 : Int, v107 = (b2i (¬ ((vX1_in x3 0 2975 h105) = 0) ∧ (¬ ((vX1_in x4 0 (hI h105 50 20) h105) = 0)))) := ⟨_, rfl⟩
  replace hm := hm v107 ev107
  refine wc_astore (pc := 20) (dAt dtX1_may 11 rfl) (by decide) (wc_L (L' := [some (vR 50), some (vI x1), some (vI x2), some (vI x3), some (vI x4), some (vI x5), some (vI x6), some (vI x7), some (vR r102), some (vR r104), some (vR r106)]) rfl (wc_iload_n (pc := 22) (dAt dtX1_may 12 rfl) rfl (wc_iconst (pc := 23) (dAt dtX1_may 13 rfl) ⟨by decide, by decide⟩ (wc_sipush (pc := 24) (dAt dtX1_may 14 rfl) ⟨by decide, by decide, by decide⟩ (wc_callS (y' := tX1_in) (P := eI (vX1_in x3 0 2975 h105) h105) (pc := 27) (dAt dtX1_may 15 rfl) lkX1_314 moX1_in q374 q128 rfl rfl (Nat.le_of_ble_eq_true rfl) (wX1_in hg ⟨rfl, rfl⟩) (ep_I (?_)) ex_I)))))
  have kj111 : Wc G tX1_may (d + 363) h Q 51 [some (vR 50), none, none, some (vI x3), some (vI x4), none, some (vI x6), some (vI x7), some (vR r102), some (vR r104), some (vR r106)] [vI v107] h105 := by
    refine wc_callS (y' := tX1_right) (av := [vI v107]) (st := []) (pc := 51) (dAt dtX1_may 26 rfl) lkX1_337 moX1_right q755 q128 rfl rfl (Nat.le_of_ble_eq_true rfl) (wX1_right hg hm) (kr_N (fun h108 hm => ?_)) (kx_N rfl)
    refine wc_aload_n (pc := 54) (dAt dtX1_may 27 rfl) rfl (wc_aload (pc := 55) (dAt dtX1_may 28 rfl) rfl (wc_aload (pc := 57) (dAt dtX1_may 29 rfl) rfl (wc_iload_n (pc := 59) (dAt dtX1_may 30 rfl) rfl (wc_iload (pc := 60) (dAt dtX1_may 31 rfl) rfl (wc_aload (pc := 62) (dAt dtX1_may 32 rfl) rfl (wc_iload (pc := 64) (dAt dtX1_may 33 rfl) rfl (wc_iload (pc := 66) (dAt dtX1_may 34 rfl) rfl (wc_kf hg fun zk => wc_callV (k := 1) (y' := tX1_mayNot) (av := [vR r102, vR r104, vI x3, vI x4, vR r106, vI x6, vI x7]) (st := []) (pc := 68) (dAt dtX1_may 35 rfl) lkX1_235 moX1_mayNot q1553 qs36 (by decide) (zk.2 _ ka50).1 rfl rfl (Nat.le_of_ble_eq_true rfl) (wX1_mayNot hg hm) (kr_I (fun x110 h109 hm => ?_)) (kx_I rfl)))))))))
    exact wc_iret (pc := 71) (dAt dtX1_may 36 rfl) rfl (nar_int _) hm
  have k112 : (¬ ((vX1_in x3 0 2975 h105) = 0) ∧ (¬ ((vX1_in x4 0 (hI h105 50 20) h105) = 0))) → Wc G tX1_may (d + 363) h Q 46 [some (vR 50), some (vI x1), some (vI x2), some (vI x3), some (vI x4), some (vI x5), some (vI x6), some (vI x7), some (vR r102), some (vR r104), some (vR r106)] [] h105 := fun c114 => by
    have z115 := kj111
    rw [show v107 = 1 from ev107.trans (b2i_t c114)] at z115
    exact wc_iconst (pc := 46) (dAt dtX1_may 23 rfl) ⟨by decide, by decide⟩ (wc_goto (pc := 47) (tgt := 51) (dAt dtX1_may 24 rfl) (by decide) (wc_drp [1, 2, 5] rfl (z115)))
  have k113 : ¬ (¬ ((vX1_in x3 0 2975 h105) = 0) ∧ (¬ ((vX1_in x4 0 (hI h105 50 20) h105) = 0))) → Wc G tX1_may (d + 363) h Q 50 [some (vR 50), some (vI x1), some (vI x2), some (vI x3), some (vI x4), some (vI x5), some (vI x6), some (vI x7), some (vR r102), some (vR r104), some (vR r106)] [] h105 := fun c114 => by
    have z117 := kj111
    rw [show v107 = 0 from ev107.trans (b2i_f c114)] at z117
    exact wc_iconst (pc := 50) (dAt dtX1_may 25 rfl) ⟨by decide, by decide⟩ (wc_drp [1, 2, 5] rfl (z117))
  exact wc_if_eq (pc := 30) (tgt := 50) (dAt dtX1_may 16 rfl) (by decide) (fun c119 => (k113 (fun z => z.1 c119))) (fun c119 => wc_iload (pc := 33) (dAt dtX1_may 17 rfl) rfl (wc_iconst (pc := 35) (dAt dtX1_may 18 rfl) ⟨by decide, by decide⟩ (wc_aload_n (pc := 36) (dAt dtX1_may 19 rfl) rfl (wc_getKI hg (pc := 37) (dAt dtX1_may 20 rfl) flX1_173_1 rfl ka50 (wc_callS (y' := tX1_in) (P := eI (vX1_in x4 0 (hI h105 50 20) h105) h105) (pc := 40) (dAt dtX1_may 21 rfl) lkX1_314 moX1_in q374 q128 rfl rfl (Nat.le_of_ble_eq_true rfl) (wX1_in hg ⟨rfl, rfl⟩) (ep_I (wc_if_eq (pc := 43) (tgt := 50) (dAt dtX1_may 22 rfl) (by decide) (fun c120 => (k113 (fun z => (fun z => z c120) z.2))) (fun c120 => (k112 ⟨c119, c120⟩)))) ex_I)))))
def tX0_may : Mt := (⟨"FlyingDoctorsLaw", "may", "(LFlyingDoctors;IIIIIII[J)I"⟩, method_9_code, 10, (Option.some Jvm.ClassFile.FieldType.int), [((0 : Nat), (20 : Nat), (23 : Nat), (13 : Nat)), ((0 : Nat), (20 : Nat), (27 : Nat), (15 : Nat))])
def DX0_may : List (Nat × Instr × Nat) := [(0, .aload 8, 2), (2, .iconst 0, 1), (3, .aload_n 0, 1), (4, .iload_n 1, 1), (5, .iload_n 2, 1), (6, .iload_n 3, 1), (7, .iload 4, 2), (9, .iload 5, 2), (11, .iload 6, 2), (13, .iload 7, 2), (15, .invokevirtual 35, 3), (18, .i2l, 1), (19, .lastore, 1), (20, .goto 11, 3), (23, .astore 9, 2), (25, .iconst 1, 1), (26, .ireturn, 1), (27, .astore 9, 2), (29, .iconst 2, 1), (30, .ireturn, 1), (31, .iconst 0, 1), (32, .ireturn, 1)]
theorem dtX0_may : chkD (mB tX0_may) DX0_may = true := by decide +kernel
theorem moX0_may : MethOk tX0_may 9 := ⟨Or.inr q1542, by decide +kernel, ⟨by decide, by decide⟩, by decide +kernel⟩
def mX0_may (x1 : Int) (x2 : Int) (x3 : Int) (x4 : Int) (x5 : Int) (x6 : Int) (x7 : Int) (h : Hp) (Q : Rs → Hp → Prop) : Prop := mX1_may x1 x2 x3 x4 x5 x6 x7 h (kIx (fun a103 h104 => if hT h104 a103 = 41 then ob h104 a103 41 ∧ (Q (rV (vI 1)) h104) else ob h104 a103 42 ∧ (Q (rV (vI 2)) h104)) (fun x102 h101 => ∀ h108 : Hp, h108 = sL h101 158 0 x102 → Q (rV (vI 0)) h108))
theorem wX0_may {G : Gx} (hg : gF G = true) {d : Nat} {x1 : Int} {x2 : Int} {x3 : Int} {x4 : Int} {x5 : Int} {x6 : Int} {x7 : Int} {h : Hp} {Q : Rs → Hp → Prop} (hm : mX0_may x1 x2 x3 x4 x5 x6 x7 h Q) : Ct G tX0_may (d + 364) [vR 50, vI x1, vI x2, vI x3, vI x4, vI x5, vI x6, vI x7, vR 158] h Q := by
  refine ct_enter (L0 := [some (vR 50), some (vI x1), some (vI x2), some (vI x3), some (vI x4), some (vI x5), some (vI x6), some (vI x7), some (vR 158), none]) rfl rfl ?_
  unfold mX0_may at hm
  refine wc_aload (pc := 0) (dAt dtX0_may 0 rfl) rfl (wc_iconst (pc := 2) (dAt dtX0_may 1 rfl) ⟨by decide, by decide⟩ (wc_aload_n (pc := 3) (dAt dtX0_may 2 rfl) rfl (wc_iload_n (pc := 4) (dAt dtX0_may 3 rfl) rfl (wc_iload_n (pc := 5) (dAt dtX0_may 4 rfl) rfl (wc_iload_n (pc := 6) (dAt dtX0_may 5 rfl) rfl (wc_iload (pc := 7) (dAt dtX0_may 6 rfl) rfl (wc_iload (pc := 9) (dAt dtX0_may 7 rfl) rfl (wc_iload (pc := 11) (dAt dtX0_may 8 rfl) rfl (wc_iload (pc := 13) (dAt dtX0_may 9 rfl) rfl (wc_kf hg fun zk => wc_callV (k := 1) (y' := tX1_may) (av := [vI x1, vI x2, vI x3, vI x4, vI x5, vI x6, vI x7]) (st := [vI 0, vR 158]) (pc := 15) (dAt dtX0_may 10 rfl) lkX0_35 moX1_may q1544 q1545 (by decide) (zk.2 _ ka50).1 rfl rfl (Nat.le_of_ble_eq_true rfl) (wX1_may hg hm) (krx_I (fun x102 h101 hm => ?_)) (kxx_I (fun a103 h104 hm => ?_))))))))))))
  · obtain ⟨h108, eh108⟩ : ∃ h108 : Hp, h108 = sL h101 158 0 x102 := ⟨_, rfl⟩
    replace hm := hm h108 eh108
    exact wc_i2l (pc := 18) (dAt dtX0_may 11 rfl) (wc_lastK hg (pc := 19) (dAt dtX0_may 12 rfl) kr158 (by decide) (by decide) (by decide) (wc_hp eh108 (wc_goto (pc := 20) (tgt := 31) (dAt dtX0_may 13 rfl) (by decide) (wc_iconst (pc := 31) (dAt dtX0_may 20 rfl) ⟨by decide, by decide⟩ (wc_iret (pc := 32) (dAt dtX0_may 21 rfl) rfl (nar_int _) hm)))))
  · by_cases c107 : hT h104 a103 = 41
    · replace hm := ite_t c107 hm
      obtain ⟨o105, hm⟩ := hm
      refine wx_hit rfl rfl (by decide) q676 (by decide) o105 rfl ?_
      exact wc_astore (pc := 23) (dAt dtX0_may 14 rfl) (by decide) (wc_L (L' := [some (vR 50), some (vI x1), some (vI x2), some (vI x3), some (vI x4), some (vI x5), some (vI x6), some (vI x7), some (vR 158), some (vR a103)]) rfl (wc_iconst (pc := 25) (dAt dtX0_may 15 rfl) ⟨by decide, by decide⟩ (wc_iret (pc := 26) (dAt dtX0_may 16 rfl) rfl (nar_int _) hm)))
    · replace hm := ite_f c107 hm
      obtain ⟨o106, hm⟩ := hm
      refine wx_hit2 rfl rfl rfl (by decide) (by decide) q676 q677 (by decide +kernel) (by decide) o106 rfl ?_
      exact wc_astore (pc := 27) (dAt dtX0_may 17 rfl) (by decide) (wc_L (L' := [some (vR 50), some (vI x1), some (vI x2), some (vI x3), some (vI x4), some (vI x5), some (vI x6), some (vI x7), some (vR 158), some (vR a103)]) rfl (wc_iconst (pc := 29) (dAt dtX0_may 18 rfl) ⟨by decide, by decide⟩ (wc_iret (pc := 30) (dAt dtX0_may 19 rfl) rfl (nar_int _) hm)))
def tX4_isPlane : Mt := (⟨"FlyingDoctorsModel", "isPlane", "(I)Z"⟩, prog_24_method_4_code, 2, (Option.some Jvm.ClassFile.FieldType.boolean), [])
def DX4_isPlane : List (Nat × Instr × Nat) := [(0, .aload_n 0, 1), (1, .iload_n 1, 1), (2, .ifCond .lt 15, 3), (5, .iload_n 1, 1), (6, .aload_n 0, 1), (7, .getfield 14, 3), (10, .if_icmp .ge 7, 3), (13, .iconst 1, 1), (14, .goto 4, 3), (17, .iconst 0, 1), (18, .iconst 1, 1), (19, .invokevirtual 10, 3), (22, .ireturn, 1)]
theorem dtX4_isPlane : chkD (mB tX4_isPlane) DX4_isPlane = true := by decide +kernel
theorem moX4_isPlane : MethOk tX4_isPlane 1 := ⟨Or.inl ⟨rfl, q2668⟩, by decide +kernel, ⟨by decide, by decide⟩, by decide +kernel⟩
def mX4_isPlane (x1 : Int) (h : Hp) (Q : Rs → Hp → Prop) : Prop := ∀ v101 : Int, v101 = (b2i (¬ (x1 < 0) ∧ (¬ ((hI h 75 3) ≤ x1)))) → mX4_right v101 1 h (kI Q (fun x103 h102 => (x103 = 0 ∨ x103 = 1) ∧ Q (rV (vI x103)) h102))
theorem wX4_isPlane {G : Gx} (hg : gF G = true) {d : Nat} {x1 : Int} {h : Hp} {Q : Rs → Hp → Prop} (hm : mX4_isPlane x1 h Q) : Ct G tX4_isPlane (d + 1) [vR 75, vI x1] h Q := by
  refine ct_enter (L0 := [some (vR 75), some (vI x1)]) rfl rfl ?_
  unfold mX4_isPlane at hm
  obtain ⟨v101, ev101⟩ : ∃ v101 : Int, v101 = (b2i (¬ (x1 < 0) ∧ (¬ ((hI h 75 3) ≤ x1)))) := ⟨_, rfl⟩
  replace hm := hm v101 ev101
  refine wc_aload_n (pc := 0) (dAt dtX4_isPlane 0 rfl) rfl (wc_iload_n (pc := 1) (dAt dtX4_isPlane 1 rfl) rfl (?_))
  have kj105 : Wc G tX4_isPlane (d + 1) h Q 18 [some (vR 75), none] [vI v101, vR 75] h := by
    refine wc_iconst (pc := 18) (dAt dtX4_isPlane 10 rfl) ⟨by decide, by decide⟩ (wc_kf hg fun zk => wc_callV (k := 4) (y' := tX4_right) (av := [vI v101, vI 1]) (st := []) (pc := 19) (dAt dtX4_isPlane 11 rfl) lkX4_10 moX4_right q2152 qs64 (by decide) (zk.2 _ ka75).1 rfl rfl (Nat.le_of_ble_eq_true rfl) (wX4_right hg hm) (kr_I (fun x103 h102 hm => ?_)) (kx_I rfl))
    obtain ⟨o104, hm⟩ := hm
    exact wc_iret (pc := 22) (dAt dtX4_isPlane 12 rfl) rfl (nar_bool o104) hm
  have k106 : (¬ (x1 < 0) ∧ (¬ ((hI h 75 3) ≤ x1))) → Wc G tX4_isPlane (d + 1) h Q 13 [some (vR 75), some (vI x1)] [vR 75] h := fun c108 => by
    have z109 := kj105
    rw [show v101 = 1 from ev101.trans (b2i_t c108)] at z109
    exact wc_iconst (pc := 13) (dAt dtX4_isPlane 7 rfl) ⟨by decide, by decide⟩ (wc_goto (pc := 14) (tgt := 18) (dAt dtX4_isPlane 8 rfl) (by decide) (wc_drp [1] rfl (z109)))
  have k107 : ¬ (¬ (x1 < 0) ∧ (¬ ((hI h 75 3) ≤ x1))) → Wc G tX4_isPlane (d + 1) h Q 17 [some (vR 75), some (vI x1)] [vR 75] h := fun c108 => by
    have z111 := kj105
    rw [show v101 = 0 from ev101.trans (b2i_f c108)] at z111
    exact wc_iconst (pc := 17) (dAt dtX4_isPlane 9 rfl) ⟨by decide, by decide⟩ (wc_drp [1] rfl (z111))
  exact wc_if_lt (pc := 2) (tgt := 17) (dAt dtX4_isPlane 2 rfl) (by decide) (fun c113 => (k107 (fun z => z.1 c113))) (fun c113 => wc_iload_n (pc := 5) (dAt dtX4_isPlane 3 rfl) rfl (wc_aload_n (pc := 6) (dAt dtX4_isPlane 4 rfl) rfl (wc_getKI hg (pc := 7) (dAt dtX4_isPlane 5 rfl) flX4_14_4 rfl ka75 (wc_icmp_ge (pc := 10) (tgt := 17) (dAt dtX4_isPlane 6 rfl) (by decide) (fun c114 => (k107 (fun z => (fun z => z c114) z.2))) (fun c114 => (k106 ⟨c113, c114⟩))))))
def tX4_isFar : Mt := (⟨"FlyingDoctorsModel", "isFar", "(I)Z"⟩, prog_24_method_59_code, 1, (Option.some Jvm.ClassFile.FieldType.boolean), [])
def DX4_isFar : List (Nat × Instr × Nat) := [(0, .iload_n 0, 1), (1, .ifCond .lt 14, 3), (4, .iload_n 0, 1), (5, .sipush 2975, 3), (8, .if_icmp .gt 7, 3), (11, .iconst 1, 1), (12, .goto 4, 3), (15, .iconst 0, 1), (16, .ireturn, 1)]
theorem dtX4_isFar : chkD (mB tX4_isFar) DX4_isFar = true := by decide +kernel
theorem moX4_isFar : MethOk tX4_isFar 1 := ⟨Or.inl ⟨rfl, q2671⟩, by decide +kernel, ⟨by decide, by decide⟩, by decide +kernel⟩
def vX4_isFar (x0 : Int) (h : Hp) : Int := (b2i (¬ (x0 < 0) ∧ (¬ (2975 < x0))))
theorem wX4_isFar {G : Gx} (hg : gF G = true) {d : Nat} {x0 : Int} {h : Hp} {Q : Rs → Hp → Prop} (hq : Q (rV (vI (vX4_isFar x0 h))) h) : Ct G tX4_isFar (d + 0) [vI x0] h Q := by
  refine ct_enter (L0 := [some (vI x0)]) rfl rfl ?_
  have k101 : (¬ (x0 < 0) ∧ (¬ (2975 < x0))) → Wc G tX4_isFar (d + 0) h Q 11 [some (vI x0)] [] h := fun c103 => by
    have z : Q (rV (vI 1)) h := by
      rw [show (vX4_isFar x0 h) = 1 from (b2i_t c103)] at hq
      exact hq
    exact wc_iconst (pc := 11) (dAt dtX4_isFar 5 rfl) ⟨by decide, by decide⟩ (wc_goto (pc := 12) (tgt := 16) (dAt dtX4_isFar 6 rfl) (by decide) (wc_iret (pc := 16) (dAt dtX4_isFar 8 rfl) rfl (nar_bool (Or.inr rfl)) z))
  have k102 : ¬ (¬ (x0 < 0) ∧ (¬ (2975 < x0))) → Wc G tX4_isFar (d + 0) h Q 15 [some (vI x0)] [] h := fun c103 => by
    have z : Q (rV (vI 0)) h := by
      rw [show (vX4_isFar x0 h) = 0 from (b2i_f c103)] at hq
      exact hq
    exact wc_iconst (pc := 15) (dAt dtX4_isFar 7 rfl) ⟨by decide, by decide⟩ (wc_iret (pc := 16) (dAt dtX4_isFar 8 rfl) rfl (nar_bool (Or.inl rfl)) z)
  exact wc_iload_n (pc := 0) (dAt dtX4_isFar 0 rfl) rfl (wc_if_lt (pc := 1) (tgt := 15) (dAt dtX4_isFar 1 rfl) (by decide) (fun c104 => (k102 (fun z => z.1 c104))) (fun c104 => wc_iload_n (pc := 4) (dAt dtX4_isFar 2 rfl) rfl (wc_sipush (pc := 5) (dAt dtX4_isFar 3 rfl) ⟨by decide, by decide, by decide⟩ (wc_icmp_gt (pc := 8) (tgt := 15) (dAt dtX4_isFar 4 rfl) (by decide) (fun c105 => (k102 (fun z => (fun z => z c105) z.2))) (fun c105 => (k101 ⟨c104, c105⟩))))))
theorem bX4_isFar (x0 : Int) (h : Hp) : (vX4_isFar x0 h) = 0 ∨ (vX4_isFar x0 h) = 1 := (bool_b2i _)
