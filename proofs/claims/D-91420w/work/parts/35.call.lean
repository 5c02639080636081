set_option maxRecDepth 100000
set_option maxHeartbeats 1000000
set_option linter.unusedSimpArgs false
set_option linter.unusedVariables false
/-! SPECS, 20: heard, call -/
/-- cells of the model that nothing reads later -/
def scr (a i : Nat) : Prop := a = 109 ∨ a = 110 ∨ a = 117 ∨ a = 118 ∨ a = 123 ∨ a = 124 ∨ a = 143 ∨ (148 ≤ a ∧ a ≤ 153) ∨ (a = 75 ∧ i = 59)
def scE (A B : Nat → Nat → Int) : Prop := ∀ a i, ¬ scr a i → B a i = A a i
theorem scE.row {A B : Nat → Nat → Int} (e : scE A B) (a : Nat) (h : ∀ i, ¬ scr a i) : B a = A a := funext fun i => e a i (h i)
theorem Rel.sc {T : Nat} {N : Nat → Nat} {X : Nat → Nat → Nat → Int} {C : Nat → Nat → List Int} {Wd : Nat → List Int} {A B : Nat → Nat → Int} (r : Rel T N X C Wd A) (e : scE A B) : Rel T N X C Wd B := by
  have f : ∀ a, a ≠ 75 → a ≠ 109 → a ≠ 110 → a ≠ 117 → a ≠ 118 → a ≠ 123 → a ≠ 124 → a ≠ 143 → (a < 148 ∨ 153 < a) → B a = A a := fun a h1 h2 h3 h4 h5 h6 h7 h8 h9 => e.row a (fun i z => by unfold scr at z; omega)
  have g : ∀ i, i ≠ 59 → B 75 i = A 75 i := fun i hi => e 75 i (fun z => by unfold scr at z; omega)
  have f76 := f 76 (by decide) (by decide) (by decide) (by decide) (by decide) (by decide) (by decide) (by decide) (by decide)
  have q : ∀ a, a ∈ [76, 77, 78, 79, 80, 81, 82, 83, 84, 85, 86, 87, 88, 89, 90, 91, 92, 93, 94, 95, 96, 97, 98, 99, 100, 101, 102, 103, 104, 106, 111, 112, 113, 114, 115, 116, 119, 120, 121, 122, 125, 126, 127, 128, 129, 130, 131, 132, 133, 134, 135, 136, 137, 138, 139, 140, 141, 142, 144, 145, 146, 147, 154, 155, 156, 157] → B a = A a := by
    intro a ha
    have : ∀ a ∈ [76, 77, 78, 79, 80, 81, 82, 83, 84, 85, 86, 87, 88, 89, 90, 91, 92, 93, 94, 95, 96, 97, 98, 99, 100, 101, 102, 103, 104, 106, 111, 112, 113, 114, 115, 116, 119, 120, 121, 122, 125, 126, 127, 128, 129, 130, 131, 132, 133, 134, 135, 136, 137, 138, 139, 140, 141, 142, 144, 145, 146, 147, 154, 155, 156, 157], a ≠ 75 ∧ a ≠ 109 ∧ a ≠ 110 ∧ a ≠ 117 ∧ a ≠ 118 ∧ a ≠ 123 ∧ a ≠ 124 ∧ a ≠ 143 ∧ (a < 148 ∨ 153 < a) := by decide
    obtain ⟨h1, h2, h3, h4, h5, h6, h7, h8, h9⟩ := this a ha
    exact f a h1 h2 h3 h4 h5 h6 h7 h8 h9
  unfold Rel Rl0 Rl1 Pl1 Rl2 Pl2 Rl3 Pl3 Rl4 Pl4 cdAt Rl5 Rl6 Rl7 Rl8 Rl9 Pl9 Rl10 Rl11 Wf atB abB frL
  rw [q 76 (by decide), q 77 (by decide), q 78 (by decide), q 79 (by decide), q 80 (by decide), q 81 (by decide), q 82 (by decide), q 83 (by decide), q 84 (by decide), q 85 (by decide), q 86 (by decide), q 87 (by decide), q 88 (by decide), q 89 (by decide), q 90 (by decide), q 91 (by decide), q 92 (by decide), q 93 (by decide), q 94 (by decide), q 95 (by decide), q 96 (by decide), q 97 (by decide), q 98 (by decide), q 99 (by decide), q 100 (by decide), q 101 (by decide), q 102 (by decide), q 103 (by decide), q 104 (by decide), q 106 (by decide), q 111 (by decide), q 112 (by decide), q 113 (by decide), q 114 (by decide), q 115 (by decide), q 116 (by decide), q 119 (by decide), q 120 (by decide), q 121 (by decide), q 122 (by decide), q 125 (by decide), q 126 (by decide), q 127 (by decide), q 128 (by decide), q 129 (by decide), q 130 (by decide), q 131 (by decide), q 132 (by decide), q 133 (by decide), q 134 (by decide), q 135 (by decide), q 136 (by decide), q 137 (by decide), q 138 (by decide), q 139 (by decide), q 140 (by decide), q 141 (by decide), q 142 (by decide), q 144 (by decide), q 145 (by decide), q 146 (by decide), q 147 (by decide), q 154 (by decide), q 155 (by decide), q 156 (by decide), q 157 (by decide), g 1 (by decide), g 23 (by decide), g 25 (by decide), g 81 (by decide), g 99 (by decide), g 100 (by decide), g 111 (by decide), g 2 (by decide), g 3 (by decide), g 4 (by decide), g 35 (by decide), g 36 (by decide), g 60 (by decide), g 76 (by decide), g 69 (by decide), g 80 (by decide), g 98 (by decide), g 113 (by decide)]
  unfold Rel Rl0 Rl1 Pl1 Rl2 Pl2 Rl3 Pl3 Rl4 Pl4 cdAt Rl5 Rl6 Rl7 Rl8 Rl9 Pl9 Rl10 Rl11 Wf atB abB frL at r
  exact r
theorem scE.u {A B : Nat → Nat → Int} (e : scE A B) {a i : Nat} {v : Int} : scE (uA A a i v) (uA B a i v) := by
  intro b j hs
  unfold uA
  by_cases z : b = a ∧ j = i
  · rw [if_pos z, if_pos z]
  · rw [if_neg z, if_neg z]
    exact e b j hs
theorem eqx.sc {A B : Nat → Nat → Int} (e : eqx A B) : scE A B := fun a i h => congrFun (e a (fun z => h (by unfold scr; omega)) (fun z => h (by unfold scr; omega))) i
theorem heardF_c {A B : Nat → Nat → Int} (h76 : B 76 = A 76) (h77 : B 77 = A 77) (h79 : B 79 = A 79) (h115 : B 115 = A 115) (h116 : B 116 = A 116) (n p : Nat) (t : Int) : heardF B n p t = heardF A n p t := by
  have e1 : ∀ b a t, hearB B b a t = hearB A b a t := by
    intro b a t
    unfold hearB onB mi
    rw [h76, h77, h115, h116]
  have e2 : ∀ b, baseB B b = baseB A b := by
    intro b
    unfold baseB
    rw [h79]
  have e3 : ∀ j b, hset B n p t j b = hset A n p t j b := by
    intro j
    induction j with
    | zero => intro b; rfl
    | succ j ih =>
      intro b
      show (hset B n p t j b || anyB (fun a => hset B n p t j a && hearB B b a (t + j)) n) = (hset A n p t j b || anyB (fun a => hset A n p t j a && hearB A b a (t + j)) n)
      rw [ih b]
      congr 2
      funext a
      rw [ih a, e1]
  have e4 : nbB B n p t = nbB A n p t := by
    funext j
    unfold nbB
    congr 1
    funext b
    rw [e3, e2]
  unfold heardF
  rw [e2, e4]
theorem heardF_rng {A : Nat → Nat → Int} {n p : Nat} {t : Int} (h0 : 0 ≤ t) (h1 : t ≤ 2687) : -1 ≤ heardF A n p t ∧ heardF A n p t ≤ 3360 := by
  unfold heardF
  split
  · omega
  · have := hrd_rng (nbB A n p t) t 672 0
    omega
theorem heardF_base {A : Nat → Nat → Int} {n p : Nat} {t : Int} (hp : p < n) (h0 : 0 ≤ heardF A n p t) : ∃ b : Nat, b < n ∧ 2 ≤ A 79 b := by
  unfold heardF at h0
  by_cases c : baseB A p = true
  · exact ⟨p, hp, by simpa [baseB] using c⟩
  · rw [if_neg c] at h0
    have : ∀ f q, 0 ≤ hrd (nbB A n p t) t f q → ∃ j, nbB A n p t j = true := by
      intro f
      induction f with
      | zero => intro q z; exact absurd (show (0 : Int) ≤ -1 from z) (by decide)
      | succ f ih =>
        intro q z
        have z : 0 ≤ (if nbB A n p t q = true then t + q + 1 else hrd (nbB A n p t) t f (q + 1)) := z
        by_cases d : nbB A n p t q = true
        · exact ⟨q, d⟩
        · rw [if_neg d] at z
          exact ih _ z
    obtain ⟨j, hj⟩ := this _ _ h0
    obtain ⟨b, hb, hbb⟩ := (any_iff _ _).1 hj
    rw [Bool.and_eq_true] at hbb
    exact ⟨b, hb, by simpa [baseB] using hbb.2⟩
def gHeard (A : Nat → Nat → Int) (p1 p2 : Int) : Int × Int × (Nat → Nat → Int) := if p1 < 0 ∨ A 75 2 ≤ p1 then (1, 0, uA A 75 0 1) else if p2 < 0 ∨ 2687 < p2 then (2, 0, uA A 75 0 2) else (0, heardF A (A 75 2).toNat p1.toNat p2, uA A 75 0 0)
def gCall (A : Nat → Nat → Int) (p1 p2 : Int) : Int × Int × (Nat → Nat → Int) := if p1 < 0 ∨ A 75 2 ≤ p1 then (1, 0, uA A 75 0 1) else if A 75 69 = 60 ∨ p2 < 0 ∨ (2 ^ (A 75 36).toNat : Nat) ≤ p2 then (0, -1, uA A 75 0 0) else (0, A 75 69, uA (uA (uA (uA (uA (uA A 75 0 0) 119 (A 75 69).toNat p1) 120 (A 75 69).toNat p2) 121 (A 75 69).toNat (A 75 1)) 122 (A 75 69).toNat (heardF A (A 75 2).toNat p1.toNat (A 75 1))) 75 69 (A 75 69 + 1))
section
variable {K : Hp} {D : Nat} {N M : Nat → Nat} {X : Nat → Nat → Nat → Int} {Z : Nat → Nat → Nat} {C : Nat → Nat → List Int} {Wd : Nat → List Int} {A : Nat → Nat → Int} {h : Hp}
theorem m_heard {T : Nat} {N0 : Nat → Nat} {X0 : Nat → Nat → Nat → Int} {C0 : Nat → Nat → List Int} {Wd0 : Nat → List Int} {Q : Rs → Hp → Prop} (x : XS K D N M X Z C Wd A h) (r : Rel T N0 X0 C0 Wd0 A) {p1 p2 : Int} (k : ∀ h' B, XS K D N M X Z C Wd B h' → scE (gHeard A p1 p2).2.2 B → hL h' 158 = hL h 158 → Q (rV (vI (gHeard A p1 p2).2.1)) h') : mX4_heard p1 p2 h Q := by
  have r1 := r.2.1
  have r2 := r1.1
  unfold mX4_heard
  unfold gHeard at k
  refine m_isPlace x (fun a1 a2 y => ?_) (fun z y => ?_)
  · rw [if_neg (by omega)] at k
    rw [kI_v, if_pos (by decide)]
    rintro v rfl
    refine m_right rfl (by decide) (fun z => ?_) (fun z => ?_)
    · have z := b2i_1 z
      rw [if_neg (by omega)] at k
      rw [kI_v, if_pos (by decide)]
      obtain ⟨p, rfl⟩ : ∃ n : Nat, p1 = n := ⟨p1.toNat, by omega⟩
      rw [r2, Int.toNat_natCast, Int.toNat_natCast] at k
      refine m_heardOf y (n := N0 1) (y := X0 1) r1 (by omega) (by omega) (by omega) (fun h' B xb eb ol => ?_)
      have : heardF (uA A 75 0 0) (N0 1) p p2 = heardF A (N0 1) p p2 := heardF_c (A := A) (B := uA A 75 0 0) (uA_a (by decide)) (uA_a (by decide)) (uA_a (by decide)) (uA_a (by decide)) (uA_a (by decide)) _ _ _
      rw [kI_v, this]
      exact k _ B xb eb.sc ol
    · have z := b2i_0 z
      rw [if_pos (by omega)] at k
      rw [kI_v, if_neg (by decide)]
      exact k _ _ y.t5 (fun _ _ _ => rfl) rfl
  · rw [if_pos z] at k
    rw [kI_v, if_neg (by decide)]
    exact k _ _ y (fun _ _ _ => rfl) rfl
theorem x_heard {T : Nat} {Q : Rs → Hp → Prop} (x : XS K D N N X Z C Wd A h) (r : Rel T N X C Wd A) (hD : D ≤ 780000) {p1 p2 : Int} (k : ∀ h', OpT K T (D + 12000) A (gHeard A p1 p2) h' → Q (rV (vI (gHeard A p1 p2).1)) h') : mX0_heard p1 p2 h Q := by
  obtain ⟨r0, r1, r2, r3, r4, r5, r6, r7, r8, r9, r10, r11, rw0⟩ := id r
  have s1 := r1.1
  unfold mX0_heard mX1_heard
  unfold gHeard at k
  refine x_placeAt x (by omega) (fun a1 a2 a3 => ?_) (fun z y o t => ?_)
  · rw [if_neg (by omega)] at k
    rw [kR_v]
    refine x_right x (by omega) (fun z => ?_) (fun z y o t => ?_)
    · rw [in_1] at z
      rw [if_neg (by omega)] at k
      obtain ⟨p, rfl⟩ : ∃ n : Nat, p1 = n := ⟨p1.toNat, by omega⟩
      rw [s1, Int.toNat_natCast, Int.toNat_natCast] at k
      rw [Int.toNat_natCast] at a3 ⊢
      rw [kN_v]
      refine x_heardAt x r1 a3 (by omega) (by omega) ?_
      rw [kI_v, kIx_v]
      rintro g rfl
      exact k _ ⟨N, X, Z, C, Wd, (x.out).more (by omega) (by omega), r.thr 0, fun _ => (by rw [hL_sL, if_pos ⟨rfl, rfl⟩]; try rfl)⟩
    · rw [in_0] at z
      rw [if_pos (by omega)] at k
      show if hT (nw h 42 0 6) (hn h) = 41 then _ else _
      rw [t, if_neg (by decide)]
      exact ⟨o, k _ ⟨N, X, Z, C, Wd, y.more (by omega) (by omega), r.thr 2, fun z => absurd z ne20⟩⟩
  · rw [if_pos (by omega)] at k
    show if hT (nw h 41 0 6) (hn h) = 41 then _ else _
    rw [if_pos t]
    exact ⟨o, k _ ⟨N, X, Z, C, Wd, y.more (by omega) (by omega), r.thr 1, fun z => absurd z ne10⟩⟩
theorem m_call {T : Nat} {N0 : Nat → Nat} {X0 : Nat → Nat → Nat → Int} {C0 : Nat → Nat → List Int} {Wd0 : Nat → List Int} {Q : Rs → Hp → Prop} (x : XS K D N M X Z C Wd A h) (r : Rel T N0 X0 C0 Wd0 A) {p1 p2 : Int} (hp2 : nm p2) (k : ∀ h' B, XS K D N M X Z C Wd B h' → scE (gCall A p1 p2).2.2 B → hL h' 158 = hL h 158 → Q (rV (vI (gCall A p1 p2).2.1)) h') : mX4_call p1 p2 h Q := by
  have r1 := r.2.1
  have r2 := r1.1
  have r0 := r.1.1
  obtain ⟨c1, c2, c3⟩ := r.2.2.2.2.2.2.2.2.1
  have w1 := r.2.2.2.2.2.1.1
  have w2 := r.2.2.2.2.2.1.2.1
  unfold mX4_call
  unfold gCall at k
  refine m_isPlace x (fun a1 a2 y => ?_) (fun z y => ?_)
  · rw [if_neg (by omega)] at k
    rw [kI_v, if_neg (by decide)]
    have e : hI h 75 69 = N0 8 := (x.rd 75 69).trans c1
    have e1 : hI h 75 1 = A 75 1 := x.rd 75 1
    have e36 : hI h 75 36 = N0 5 := (x.rd 75 36).trans w1
    simp only [forall_eq, hI_sI, hI_sL, hI_sR, hI_nw, hL_sI, hL_sL, hL_sR, hL_nw, hR_sI, hR_sL, hR_sR, hR_nw, hT_sI, hT_sL, hT_sR, hN_sI, hN_sL, hN_sR, hn_sI, hn_sL, hn_sR, hq_sI, hq_sL, hq_sR, Nat.reduceEqDiff, false_and, and_false, true_and, and_true, and_self, if_false, if_true, reduceIte, ite_self, e, e1, e36]
    rw [c1, w1, Int.toNat_natCast, Int.toNat_natCast] at k
    have es : p2 < 0 ∨ (ishr p2 (N0 5) = 0 ↔ p2 < (2 ^ (N0 5) : Nat)) := by
      by_cases z : p2 < 0
      · exact Or.inl z
      · right
        rw [ishr_eq hp2 (by omega)]
        have hp : (0 : Int) < (2 ^ (N0 5) : Nat) := by
          have : 0 < 2 ^ (N0 5) := Nat.pow_pos (by decide)
          omega
        constructor
        · intro w
          apply Classical.byContradiction
          intro w2
          have := Int.le_ediv_of_mul_le hp (show 1 * ((2 ^ (N0 5) : Nat) : Int) ≤ p2 by omega)
          omega
        · intro w
          exact Int.ediv_eq_zero_of_lt (by omega) w
    split
    · rw [if_pos (by omega)] at k
      exact k _ _ y (fun _ _ _ => rfl) rfl
    · rw [if_neg (by omega)] at k
      obtain ⟨p, rfl⟩ : ∃ n : Nat, p1 = n := ⟨p1.toNat, by omega⟩
      rw [r2, Int.toNat_natCast, Int.toNat_natCast] at k
      rw [Int.toNat_natCast]
      refine ⟨by omega, by omega, by omega, by omega, by omega, by omega, ?_⟩
      have y1 := (y.ma (a := 119) (i := N0 8) (v := p)).ma (a := 120) (i := N0 8) (v := p2)
      have y2 := y1.ma (a := 121) (i := N0 8) (v := A 75 1)
      refine m_heardOf y2 (n := N0 1) (y := X0 1) r1 (by omega) (by omega) (by omega) (fun h' B xb eb ol => ?_)
      have eh : heardF (uA (uA (uA (uA A 75 0 0) 119 (N0 8) p) 120 (N0 8) p2) 121 (N0 8) (A 75 1)) (N0 1) p (A 75 1) = heardF A (N0 1) p (A 75 1) := by
        have u : ∀ a, a ≠ 75 → a ≠ 119 → a ≠ 120 → a ≠ 121 → uA (uA (uA (uA A 75 0 0) 119 (N0 8) p) 120 (N0 8) p2) 121 (N0 8) (A 75 1) a = A a := fun a h1 h2 h3 h4 => (uA_a h4).trans ((uA_a h3).trans ((uA_a h2).trans (uA_a h1)))
        exact heardF_c (A := A) (B := uA (uA (uA (uA A 75 0 0) 119 (N0 8) p) 120 (N0 8) p2) 121 (N0 8) (A 75 1)) (u 76 (by decide) (by decide) (by decide) (by decide)) (u 77 (by decide) (by decide) (by decide) (by decide)) (u 79 (by decide) (by decide) (by decide) (by decide)) (u 115 (by decide) (by decide) (by decide) (by decide)) (u 116 (by decide) (by decide) (by decide) (by decide)) _ _ _
      rw [kI_v, eh]
      have y3 := xb.ma (a := 122) (i := N0 8) (v := heardF A (N0 1) p (A 75 1))
      have e69 : hI (sI h' 122 (N0 8) (heardF A (N0 1) p (A 75 1))) 75 69 = N0 8 := by
        rw [y3.rd 75 69]
        show B 75 69 = _
        rw [eb 75 (by decide) (by decide)]
        exact c1
      have e69' : hI h' 75 69 = N0 8 := e69
      simp only [forall_eq, hI_sI, hI_sL, hI_sR, hI_nw, hL_sI, hL_sL, hL_sR, hL_nw, hR_sI, hR_sL, hR_sR, hR_nw, hT_sI, hT_sL, hT_sR, hN_sI, hN_sL, hN_sR, hn_sI, hn_sL, hn_sR, hq_sI, hq_sL, hq_sR, Nat.reduceEqDiff, false_and, and_false, true_and, and_true, and_self, if_false, if_true, reduceIte, ite_self, e69']
      refine ⟨by omega, by omega, ⟨by omega, by omega⟩, ⟨by omega, by omega⟩, ?_⟩
      rw [Int.add_sub_cancel]
      exact k _ _ y3.m5 eb.sc.u.u ol
  · rw [if_pos z] at k
    rw [kI_v, if_pos (by decide)]
    exact k _ _ y (fun _ _ _ => rfl) rfl
theorem XS.fr (x : XS K D N M X Z C Wd A h) {g : Hp} {D' : Nat} (s : ∀ a, a < hn h → same h g a) (n1 : hn h ≤ hn g) (d1 : hn g ≤ D') (d2 : hq g ≤ 8 * D' + 36000) (d3 : D' ≤ 800000) : XS K D' N M X Z C Wd A g := by
  obtain ⟨⟨own, x⟩, e⟩ := x
  exact ⟨⟨own, x.fresh s n1 d1 d2 d3 (fun _ _ => rfl)⟩, by rw [mA_mS (mS.of x.1.1 s)]; exact e⟩
def rwCall (n p2 t v : Int) (p : Int) : Nat → Int := fun f => if f = 0 then n else if f = 1 then p2 else if f = 2 then t else if f = 3 then v else if f = 4 then p else 0
theorem x_call {T : Nat} {Q : Rs → Hp → Prop} (x : XS K D N N X Z C Wd A h) (r : Rel T N X C Wd A) (hD : D ≤ 780000) {p1 p2 : Int} (k : ∀ h', OpT K T (D + 12000) A (gCall A p1 p2) h' → Q (rV (vI (gCall A p1 p2).1)) h') : mX0_call p1 p2 h Q := by
  obtain ⟨r0, r1, r2, r3, r4, r5, r6, r7, r8, r9, r10, r11, rw0⟩ := id r
  obtain ⟨b1, b2, b3, b4⟩ := x.hb
  obtain ⟨c1, c2, c3⟩ := id r8
  have s1 := r1.1
  have w1 := r5.1
  have w2 := r5.2.1
  have n12 := r1.2.1
  have e : vJ2_size 61 h = N 8 := x.size 8
  have e5 : vJ2_size 58 h = N 5 := x.size 5
  have en0 : hI h 50 20 = A 75 1 := (x.sc 20).trans r0.1.1
  have now := r0.1.2
  have p16 : 2 ^ (N 5) ≤ 65536 := Nat.le_trans (Nat.pow_le_pow_right (by decide) w2) (by decide : 2 ^ 16 ≤ 65536)
  have pp : 0 < 2 ^ (N 5) := Nat.pow_pos (by decide)
  unfold mX0_call mX1_call
  unfold gCall at k
  refine x_placeAt x (by omega) (fun a1 a2 a3 => ?_) (fun z y o t => ?_)
  · rw [if_neg (by omega)] at k
    rw [kR_v, e, e5, ishl_1 (by omega)]
    rw [c1, w1, s1, Int.toNat_natCast, Int.toNat_natCast, Int.toNat_natCast] at k
    simp only [in_1]
    refine ⟨x.osize 8, fun _ => ⟨x.osize 5, ⟨by omega, by omega⟩⟩, ?_⟩
    split
    · rw [if_pos (by omega)] at k
      rw [kIx_v]
      rintro g rfl
      exact k _ ⟨N, X, Z, C, Wd, (x.out).more (by omega) (by omega), r.thr 0, fun _ => (by rw [hL_sL, if_pos ⟨rfl, rfl⟩]; try rfl)⟩
    · rw [if_neg (by omega)] at k
      obtain ⟨p, rfl⟩ : ∃ n : Nat, p1 = n := ⟨p1.toNat, by omega⟩
      rw [Int.toNat_natCast] at k a3 ⊢
      refine ⟨by omega, by omega, ?_⟩
      rintro r rfl g rfl
      have xg : XS K (D + 2) N N X Z C Wd A (nw h 19 0 7) := x.thr (by omega) (by omega) (by omega)
      have eg : vJ2_size 61 (nw h 19 0 7) = N 8 := xg.size 8
      have eg20 : hI (nw h 19 0 7) 50 20 = A 75 1 := by
        rw [hI_nw, if_neg (by omega)]
        exact en0
      rw [eg]
      refine ⟨xg.osize 8, ?_⟩
      unfold mX19_init
      simp only [forall_eq, hI_sI, hI_sL, hI_sR, hI_nw, hL_sI, hL_sL, hL_sR, hL_nw, hR_sI, hR_sL, hR_sR, hR_nw, hT_sI, hT_sL, hT_sR, hN_sI, hN_sL, hN_sR, hn_sI, hn_sL, hn_sR, hq_sI, hq_sL, hq_sR, Nat.reduceEqDiff, false_and, and_false, true_and, and_true, and_self, if_false, if_true, reduceIte, ite_self]
      have ne50 : (50 : Nat) ≠ hn h := by omega
      simp only [ne50, false_and, if_false, en0]
      refine ⟨ob_nw_self rfl (by omega), ?_⟩
      have s0 : ∀ a, a < hn h → same h (sI (sI (sR (sI (sR (nw h 19 0 7) (hn h) 6 50) (hn h) 0 (N 8)) (hn h) 4 (Z 1 p)) (hn h) 1 p2) (hn h) 2 (A 75 1)) a := fun a ha => (same_nw (by omega)).trans ((same_sR (by omega)).trans ((same_sI (by omega)).trans ((same_sR (by omega)).trans ((same_sI (by omega)).trans (same_sI (by omega))))))
      have xs : XS K (D + 2) N N X Z C Wd A (sI (sI (sR (sI (sR (nw h 19 0 7) (hn h) 6 50) (hn h) 0 (N 8)) (hn h) 4 (Z 1 p)) (hn h) 1 p2) (hn h) 2 (A 75 1)) := x.fr s0 (Nat.le_succ _) (by simp only [hI_sI, hI_sL, hI_sR, hI_nw, hL_sI, hL_sL, hL_sR, hL_nw, hR_sI, hR_sL, hR_sR, hR_nw, hT_sI, hT_sL, hT_sR, hN_sI, hN_sL, hN_sR, hn_sI, hn_sL, hn_sR, hq_sI, hq_sL, hq_sR, Nat.reduceEqDiff, false_and, and_false, true_and, and_true, and_self, if_false, if_true, reduceIte, ite_self, hn_nw]; omega) (by simp only [hI_sI, hI_sL, hI_sR, hI_nw, hL_sI, hL_sL, hL_sR, hL_nw, hR_sI, hR_sL, hR_sR, hR_nw, hT_sI, hT_sL, hT_sR, hN_sI, hN_sL, hN_sR, hn_sI, hn_sL, hn_sR, hq_sI, hq_sL, hq_sR, Nat.reduceEqDiff, false_and, and_false, true_and, and_true, and_self, if_false, if_true, reduceIte, ite_self, hq_nw]; omega) (by omega)
      refine x_heardAt xs r1 a3 (by omega) (by omega) ?_
      rw [kI_v]
      have hr := heardF_rng (A := A) (n := N 1) (p := p) (t := A 75 1) (by omega) (by omega)
      refine ⟨⟨by omega, by simp only [hI_sI, hI_sL, hI_sR, hI_nw, hL_sI, hL_sL, hL_sR, hL_nw, hR_sI, hR_sL, hR_sR, hR_nw, hT_sI, hT_sL, hT_sR, hN_sI, hN_sL, hN_sR, hn_sI, hn_sL, hn_sR, hq_sI, hq_sL, hq_sR, Nat.reduceEqDiff, false_and, and_false, true_and, and_true, and_self, if_false, if_true, reduceIte, ite_self, hn_nw]; omega, by simp only [hI_sI, hI_sL, hI_sR, hI_nw, hL_sI, hL_sL, hL_sR, hL_nw, hR_sI, hR_sL, hR_sR, hR_nw, hT_sI, hT_sL, hT_sR, hN_sI, hN_sL, hN_sR, hn_sI, hn_sL, hn_sR, hq_sI, hq_sL, hq_sR, Nat.reduceEqDiff, false_and, and_false, true_and, and_true, and_self, if_false, if_true, reduceIte, ite_self, hT_nw]⟩, ?_⟩
      refine x.mk 8 (row := rwCall (N 8) p2 (A 75 1) (heardF A (N 1) p (A 75 1)) p) ?_ rfl ?_ ?_ ?_ ?_ ?_ (by omega) (by omega) ?_
      · exact fun a ha => (s0 a ha).trans (same_sI (by omega))
      · simp only [hI_sI, hI_sL, hI_sR, hI_nw, hL_sI, hL_sL, hL_sR, hL_nw, hR_sI, hR_sL, hR_sR, hR_nw, hT_sI, hT_sL, hT_sR, hN_sI, hN_sL, hN_sR, hn_sI, hn_sL, hn_sR, hq_sI, hq_sL, hq_sR, Nat.reduceEqDiff, false_and, and_false, true_and, and_true, and_self, if_false, if_true, reduceIte, ite_self, hq_nw]; omega
      · simp only [hI_sI, hI_sL, hI_sR, hI_nw, hL_sI, hL_sL, hL_sR, hL_nw, hR_sI, hR_sL, hR_sR, hR_nw, hT_sI, hT_sL, hT_sR, hN_sI, hN_sL, hN_sR, hn_sI, hn_sL, hn_sR, hq_sI, hq_sL, hq_sR, Nat.reduceEqDiff, false_and, and_false, true_and, and_true, and_self, if_false, if_true, reduceIte, ite_self, hT_nw]; rfl
      · intro f hf
        simp only [fI, List.mem_cons, List.not_mem_nil, or_false] at hf
        rcases hf with rfl | rfl | rfl | rfl | rfl <;> simp [hI_sI, hI_sL, hI_sR, hI_nw, hL_sI, hL_sL, hL_sR, hL_nw, hR_sI, hR_sL, hR_sR, hR_nw, hT_sI, hT_sL, hT_sR, hN_sI, hN_sL, hN_sR, hn_sI, hn_sL, hn_sR, hq_sI, hq_sL, hq_sR, Nat.reduceEqDiff, false_and, and_false, true_and, and_true, and_self, if_false, if_true, reduceIte, ite_self, rwCall]
      · intro q hq
        simp only [fR, List.mem_cons, List.not_mem_nil, or_false] at hq
        subst hq
        simp [hI_sI, hI_sL, hI_sR, hI_nw, hL_sI, hL_sL, hL_sR, hL_nw, hR_sI, hR_sL, hR_sR, hR_nw, hT_sI, hT_sL, hT_sR, hN_sI, hN_sL, hN_sR, hn_sI, hn_sL, hn_sR, hq_sI, hq_sL, hq_sR, Nat.reduceEqDiff, false_and, and_false, true_and, and_true, and_self, if_false, if_true, reduceIte, ite_self, rwCall, rfZ, a3]
        intro w
        omega
      · intro q hq
        simp only [fZ, List.mem_cons, List.not_mem_nil, or_false] at hq
        subst hq
        simp [hI_sI, hI_sL, hI_sR, hI_nw, hL_sI, hL_sL, hL_sR, hL_nw, hR_sI, hR_sL, hR_sR, hR_nw, hT_sI, hT_sL, hT_sR, hN_sI, hN_sL, hN_sR, hn_sI, hn_sL, hn_sR, hq_sI, hq_sL, hq_sR, Nat.reduceEqDiff, false_and, and_false, true_and, and_true, and_self, if_false, if_true, reduceIte, ite_self]
      · intro h' y
        have e2 : vJ2_size 61 h' = N 8 + 1 := (y.size 8).trans (by rw [uM_at]; rfl)
        rw [kI_v, e2]
        refine ⟨y.osize 8, ⟨by omega, by omega⟩, ?_⟩
        rw [Int.add_sub_cancel, kIx_v]
        refine k _ ⟨_, _, _, _, _, (y.out).more (by omega) (by omega), ⟨r0.up, r1, r2, r3, r4, r5, r6, r7, ⟨rfl, ?_, ?_⟩, r9, r10, r11, rw0⟩, fun _ => (by rw [hL_sL, if_pos ⟨rfl, rfl⟩]; try rfl)⟩
        · show N 8 + 1 ≤ 60
          omega
        · intro i hi
          have hi : i < N 8 + 1 := hi
          by_cases z : i = N 8
          · subst z
            rw [uW_at]
            simp [uA, rwCall, uM]
            refine ⟨by omega, by omega, a3, fun hb => ?_⟩
            exact heardF_base a3 hb
          · rw [uW_ne (by omega)]
            simpa [uA, z, uM] using c3 i (by omega)
  · rw [if_pos (by omega)] at k
    exact ⟨o, k _ ⟨N, X, Z, C, Wd, y.more (by omega) (by omega), r.thr 1, fun z => absurd z ne10⟩⟩
end
