set_option maxRecDepth 100000
set_option maxHeartbeats 1000000
set_option linter.unusedSimpArgs false
set_option linter.unusedVariables false
/-! SPECS, 25: the nearest base; a call's priority -/
def tbF (A : Nat → Nat → Int) (p : Nat) : Nat → Int
  | 0 => -1
  | k + 1 => if baseB A k = true ∧ (tbF A p k = -1 ∨ mi A p k < tbF A p k) then mi A p k else tbF A p k
def toB (A : Nat → Nat → Int) (n p : Nat) : Int := if tbF A p n = -1 then 0 else tbF A p n
def nbF (A : Nat → Nat → Int) (p : Nat) : Nat → Option Nat
  | 0 => none
  | k + 1 => match nbF A p k with
    | none => if baseB A k = true then some k else none
    | some b => if baseB A k = true ∧ mi A p k < mi A p b then some k else some b
theorem nb_tb {A : Nat → Nat → Int} {p : Nat} (n : Nat) (h0 : ∀ k, k < n → 0 ≤ mi A p k) : (∀ b, nbF A p n = some b → b < n ∧ tbF A p n = mi A p b ∧ baseB A b = true) ∧ (nbF A p n = none → tbF A p n = -1 ∧ ∀ b, b < n → baseB A b = false) := by
  induction n with
  | zero => exact ⟨fun b z => (by cases z), fun _ => ⟨rfl, fun b hb => absurd hb (Nat.not_lt_zero _)⟩⟩
  | succ n ih =>
    obtain ⟨i1, i2⟩ := ih (fun k hk => h0 k (by omega))
    have hn := h0 n (by omega)
    have ub : nbF A p (n + 1) = (match nbF A p n with | none => if baseB A n = true then some n else none | some b => if baseB A n = true ∧ mi A p n < mi A p b then some n else some b) := rfl
    have ut : tbF A p (n + 1) = if baseB A n = true ∧ (tbF A p n = -1 ∨ mi A p n < tbF A p n) then mi A p n else tbF A p n := rfl
    cases hb : nbF A p n with
    | none =>
      obtain ⟨j1, j2⟩ := i2 hb
      rw [hb] at ub
      simp only at ub
      rw [j1] at ut
      by_cases c : baseB A n = true
      · rw [if_pos c] at ub
        rw [if_pos ⟨c, Or.inl rfl⟩] at ut
        refine ⟨fun b z => ?_, fun z => ?_⟩
        · rw [ub] at z
          cases z
          exact ⟨by omega, ut, c⟩
        · rw [ub] at z
          cases z
      · rw [if_neg c] at ub
        rw [if_neg (fun z => c z.1)] at ut
        refine ⟨fun b z => ?_, fun z => ⟨ut, fun b hb2 => ?_⟩⟩
        · rw [ub] at z
          cases z
        · by_cases w : b = n
          · rw [w]
            simpa using c
          · exact j2 b (by omega)
    | some b0 =>
      obtain ⟨j1, j2, j3⟩ := i1 b0 hb
      have h00 := h0 b0 (by omega)
      rw [hb] at ub
      simp only at ub
      rw [j2] at ut
      by_cases c : baseB A n = true ∧ mi A p n < mi A p b0
      · rw [if_pos c] at ub
        rw [if_pos ⟨c.1, Or.inr c.2⟩] at ut
        refine ⟨fun b z => ?_, fun z => ?_⟩
        · rw [ub] at z
          cases z
          exact ⟨by omega, ut, c.1⟩
        · rw [ub] at z
          cases z
      · rw [if_neg c] at ub
        rw [if_neg (fun z => c ⟨z.1, by have := z.2; omega⟩)] at ut
        refine ⟨fun b z => ?_, fun z => ?_⟩
        · rw [ub] at z
          cases z
          exact ⟨by omega, ut, j3⟩
        · rw [ub] at z
          cases z
def vPri (A : Nat → Nat → Int) (n c : Nat) : Nat → Int := fun j => if j = 0 then wetF A (A 119 c).toNat (A 122 c / 96) (A 122 c) else if j = 1 then A 78 (A 119 c).toNat else if j = 3 then A 79 (A 119 c).toNat % 2 else if j = 4 then (if nightB (A 122 c) = true then 1 else 0) else if j = 5 then toB A n (A 119 c).toNat else if j = 8 then A 75 1 - A 122 c else 0
def priF (A : Nat → Nat → Int) (C : Nat → Nat → List Int) (c : Nat) : Int := if tN A (A 122 c) = -1 ∨ C (tN A (A 122 c)).toNat 0 = [] then 0 else wF (envV (vPri A (A 75 2).toNat c) (prm A (tN A (A 122 c))) (A 120 c)) (C (tN A (A 122 c)).toNat 0)
section
variable {K : Hp} {D : Nat} {N M : Nat → Nat} {X : Nat → Nat → Nat → Int} {Z : Nat → Nat → Nat} {C : Nat → Nat → List Int} {Wd : Nat → List Int} {A : Nat → Nat → Int} {h : Hp}
theorem x_nearestBase {p : Nat} {Q : Rs → Hp → Prop} (x : XS K D N M X Z C Wd A h) (r1 : Rl1 (N 1) (X 1) A) (hp : p < N 1) (k : ∀ b, nbF A p (N 1) = some b → Q (rV (vR (Z 1 b))) h) (hb : ∃ b, b < N 1 ∧ 2 ≤ A 79 b) : mX1_nearestBase (Z 1 p) h Q := by
  have l := x.le 1
  have e : vJ2_size 54 h = N 1 := x.size 1
  have n12 := r1.2.1
  have h0 : ∀ k, k < N 1 → 0 ≤ mi A p k := fun k hk => (mi_rng r1 hp hk).1
  unfold mX1_nearestBase
  rw [e]
  refine fp2 (N 1) (fun n => match nbF A p n with | none => 0 | some b => Z 1 b) (fun R i hi hR => ?_) (fun R => ?_)
  · refine ⟨x.osize 1, ?_⟩
    rw [if_pos (by omega)]
    have g : vJ2_get 54 (i : Int) h = Z 1 i := x.get 1 (by omega) (by omega)
    rw [g]
    refine ⟨x.oget 1 (by omega) (by omega), x.obj 1 i (by omega), ?_⟩
    rintro r rfl
    obtain ⟨_, _, _, _, ib, _⟩ := r1.2.2.1 i hi
    obtain ⟨n1, n2⟩ := nb_tb (A := A) (p := p) i (fun k hk => h0 k (by omega))
    obtain ⟨m1, m2⟩ := x_miles x r1 l hp hi
    rw [x.int 1 i 5 (by omega), ib.2.1, m2]
    have hR : R (match (match nbF A p i with | none => if baseB A i = true then some i else none | some b => if baseB A i = true ∧ mi A p i < mi A p b then some i else some b) with | none => 0 | some b => Z 1 b) ((i : Int) + 1) := hR
    have bb : baseB A i = true ↔ ¬ (A 79 i / 2 = 0) := by
      unfold baseB
      rw [decide_eq_true_eq]
      omega
    cases hb : nbF A p i with
    | none =>
      rw [hb] at hR
      refine ⟨x.obj 1 i (by omega), fun _ => ⟨Or.inl rfl, fun z => absurd rfl z⟩, ?_⟩
      rintro r rfl
      refine ⟨⟨by omega, by omega⟩, ?_⟩
      rintro j rfl
      by_cases c : baseB A i = true
      · simp only [if_pos c] at hR
        rw [if_pos ⟨bb.1 c, Or.inl rfl⟩]
        exact hR
      · simp only [if_neg c] at hR
        rw [if_neg (fun z => c (bb.2 z.1))]
        exact hR
    | some b =>
      rw [hb] at hR
      obtain ⟨j1, j2, j3⟩ := n1 b hb
      have ob1 := x.obj 1 b (by omega)
      obtain ⟨m3, m4⟩ := x_miles x r1 l hp (show b < N 1 by omega)
      have big := x.big 1 b (by omega)
      simp only [m4]
      refine ⟨x.obj 1 i (by omega), fun _ => ⟨rok_ob ob1 (by decide), fun _ => ⟨m1, x.obj 1 p (by omega), m3⟩⟩, ?_⟩
      rintro r rfl
      refine ⟨⟨by omega, by omega⟩, ?_⟩
      rintro j rfl
      by_cases c : baseB A i = true ∧ mi A p i < mi A p b
      · simp only [if_pos c] at hR
        rw [if_pos ⟨bb.1 c.1, Or.inr (by omega)⟩]
        exact hR
      · simp only [if_neg c] at hR
        rw [if_neg (fun z => c ⟨bb.2 z.1, by have := z.2; omega⟩)]
        exact hR
  · refine ⟨x.osize 1, ?_⟩
    rw [if_neg (by omega)]
    obtain ⟨n1, n2⟩ := nb_tb (A := A) (p := p) (N 1) h0
    cases hn : nbF A p (N 1) with
    | none =>
      obtain ⟨b, hb1, hb2⟩ := hb
      have := (n2 hn).2 b hb1
      simp [baseB, hb2] at this
    | some b => exact k b hn
theorem m_toBase {n p : Nat} {y : Nat → Nat → Int} {Q : Rs → Hp → Prop} (x : XS K D N M X Z C Wd A h) (r1 : Rl1 n y A) (hp : p < n) (k : Q (rV (vI (toB A n p))) h) : mX4_toBase p h Q := by
  have n12 := r1.2.1
  unfold mX4_toBase
  rw [x.rd 75 2, r1.1]
  refine fp2 n (tbF A p) (fun R i hi hR => ?_) (fun R => ?_)
  · rw [if_pos (by omega)]
    obtain ⟨b1, b2⟩ := m_base x r1 hi
    obtain ⟨m1, m2⟩ := m_miles x r1 hp hi
    refine ⟨b1, ⟨fun _ _ => m1, fun _ => m1⟩, ?_⟩
    rw [b2, m2]
    rintro v rfl
    refine ⟨⟨by omega, by omega⟩, ?_⟩
    rintro j rfl
    have hR : R (if baseB A i = true ∧ (tbF A p i = -1 ∨ mi A p i < tbF A p i) then mi A p i else tbF A p i) ((i : Int) + 1) := hR
    have : (if ¬ ((if baseB A i = true then (1 : Int) else 0) = 0) ∧ (tbF A p i = -1 ∨ ¬ (tbF A p i ≤ mi A p i)) then mi A p i else tbF A p i) = (if baseB A i = true ∧ (tbF A p i = -1 ∨ mi A p i < tbF A p i) then mi A p i else tbF A p i) := by
      by_cases c : baseB A i = true ∧ (tbF A p i = -1 ∨ mi A p i < tbF A p i)
      · rw [if_pos c, if_pos]
        rw [if_pos c.1]
        exact ⟨by decide, by omega⟩
      · rw [if_neg c, if_neg]
        intro z
        apply c
        by_cases d : baseB A i = true
        · exact ⟨d, by omega⟩
        · rw [if_neg d] at z
          exact absurd rfl z.1
    rw [this]
    exact hR
  · rw [if_neg (by omega)]
    rintro v rfl
    have : (if ¬ (tbF A p n ≠ -1) then 0 else tbF A p n) = toB A n p := by
      unfold toB
      by_cases c : tbF A p n = -1
      · rw [if_pos (fun z => z c), if_pos c]
      · rw [if_neg (fun z => z c), if_neg c]
    rw [this]
    exact k
theorem x_pri {c : Nat} {Q : Rs → Hp → Prop} (x : XS K D N M X Z C Wd A h) (e20 : X 0 0 20 = A 75 1) (now : A 75 1 ≤ 2687) (r1 : Rl1 (N 1) (X 1) A) (r4 : Rl4 (N 4) (X 4) C A) (r6 : Rl6 (N 6) (X 6) A) (r8 : Rl8 (N 8) (N 1) (X 8) A) (hc : c < N 8) (h0 : 0 ≤ A 122 c) (h1 : A 122 c ≤ A 75 1) (k : ∀ g, XS K D N M X Z C Wd A g → qf h g → Q (rV (vI (priF A C c))) g) : mX19_priority (Z 8 c) h Q := by
  have l1 := x.le 1
  have l4 := x.le 4
  have l8 := x.le 8
  obtain ⟨c1, c2, c3, c4, c5, c6⟩ := r8.2.2 c hc
  have z8 : hR h (Z 8 c) 6 = 50 := by
    obtain ⟨⟨own, x⟩, _⟩ := x
    exact (x.o 8 c (by decide) (by decide) (by omega)).2.2.2.2.2.2 6 (by decide)
  unfold mX19_priority
  rw [x.int 8 c 3 (by omega), c4.1]
  refine ⟨x.obj 8 c (by omega), z8, ?_⟩
  refine x_rulesAt x r4 ?_
  have tl := tx_lt A (A 122 c) (A 75 35).toNat
  have t0 : -1 ≤ tN A (A 122 c) := tl.1
  have t1 : tN A (A 122 c) < N 4 := by
    have : tN A (A 122 c) < (A 75 35).toNat := tl.2
    have := r4.1
    omega
  rw [kR_v]
  obtain ⟨o1, _⟩ := x.rulF r4 t0 t1
  unfold priF at k
  by_cases tn : tN A (A 122 c) = -1
  · rw [if_pos (Or.inl tn)] at k
    have e66 : hR h (rul Z (tN A (A 122 c))) 3 = 0 := by
      rw [tn]
      obtain ⟨⟨own, x⟩, _⟩ := x
      exact x.2.2.2.2.1.2.2.2.2.2.2.2.2.2.2
    rw [e66, if_pos rfl]
    exact ⟨o1, Or.inl rfl, k _ x (qf_rfl h)⟩
  obtain ⟨q, hq⟩ : ∃ q : Nat, tN A (A 122 c) = q := ⟨(tN A (A 122 c)).toNat, by omega⟩
  have lt : q < N 4 := by omega
  have er : rul Z (tN A (A 122 c)) = Z 4 q := by
    unfold rul
    rw [if_neg (by omega), hq, Int.toNat_natCast]
  have ekk : (tN A (A 122 c)).toNat = q := by omega
  rw [ekk] at k
  rw [er] at o1 ⊢
  obtain ⟨own, ⟨_, _, f3⟩, _⟩ := x.txt q (by omega)
  rcases f3 with f3 | f3
  · rw [if_pos (Or.inr f3.2)] at k
    rw [f3.1, if_pos rfl]
    exact ⟨o1, Or.inl rfl, k _ x (qf_rfl h)⟩
  have hne : C q 0 ≠ [] := by
    intro z
    rw [z] at f3
    obtain ⟨v, hv⟩ := xe_val (fun _ _ => 0) 70 _ _ f3
    have := (hv.fin (by decide)).1
    cases this
  rw [if_neg (fun z => by rcases z with z | z; exact tn z; exact hne z)] at k
  have ox := f3.obx
  have rk : rok h (hR h (Z 4 q) 3) := by
    refine Or.inr ⟨ox.1, ox.2.1, Or.inl ?_⟩
    have : ∀ t, t < 17 → 11 ≤ t → t ∈ cLs := by decide
    exact this _ (by have := ox.2.2.2; omega) ox.2.2.1
  rw [if_neg (by have := ox.1; omega)]
  refine ⟨o1, rk, x.obj 8 c (by omega), z8, ?_⟩
  rw [← er]
  refine x_asking x r4 t0 t1 (fun g y yq ha hb hc2 => ?_)
  rw [er, kR_v]
  refine ⟨rfl, y.obj 8 c (by omega), ?_⟩
  rw [y.int 8 c 1 (by omega), c2.1]
  rintro g1 rfl
  have y1 := y.tI (a := 70) (i := 2) (v := A 120 c)
  have zz : ∀ G, XS K D N M X Z C Wd A G → hR G (Z 8 c) 6 = 50 := by
    intro G yG
    obtain ⟨⟨own, yG⟩, _⟩ := yG
    exact (yG.o 8 c (by decide) (by decide) (by omega)).2.2.2.2.2.2 6 (by decide)
  have rf : ∀ G, XS K D N M X Z C Wd A G → hR G (Z 8 c) 4 = Z 1 (A 119 c).toNat := by
    intro G yG
    have := (yG.ref 8 c 4 1 (by omega) (by omega)).1
    rw [this, c5.1]
  have h3 : ∀ G, XS K D N M X Z C Wd A G → hI G (Z 8 c) 3 = A 122 c := fun G yG => (yG.int 8 c 3 (by omega)).trans c4.1
  have h20 : ∀ G, XS K D N M X Z C Wd A G → hI G 50 20 = A 75 1 := fun G yG => (yG.sc 20).trans e20
  have lp : (A 119 c).toNat < N 1 := by omega
  obtain ⟨i0, _, _, i3, i5, _⟩ := r1.2.2.1 (A 119 c).toNat lp
  refine ⟨zz _ y1, ?_⟩
  rw [rf _ y1, h3 _ y1]
  have ed : Int.tdiv (A 122 c) 96 = A 122 c / 96 := Int.tdiv_eq_ediv_of_nonneg h0
  rw [ed]
  refine x_wetOf y1 r6 (by omega) i0 (by omega) ?_
  rw [kI_v]
  rintro g2 rfl
  have y2 := y1.tI (a := 71) (i := 0) (v := wetF A (A 119 c).toNat (A 122 c / 96) (A 122 c))
  rw [rf _ y2, y2.int 1 _ 3 (by omega), i3.1]
  refine ⟨y2.obj 8 c (by omega), y2.obj 1 _ (by omega), ?_⟩
  rintro g3 rfl
  have y3 := y2.tI (a := 71) (i := 1) (v := A 78 (A 119 c).toNat)
  rw [rf _ y3, y3.int 1 _ 4 (by omega), i5.1]
  refine ⟨y3.obj 1 _ (by omega), ?_⟩
  rintro v rfl
  have e4 : b2i (¬ (A 79 (A 119 c).toNat % 2 = 0)) = A 79 (A 119 c).toNat % 2 := by
    unfold b2i
    split <;> omega
  rw [e4]
  rintro g4 rfl
  have y4 := y3.tI (a := 71) (i := 3) (v := A 79 (A 119 c).toNat % 2)
  rw [h3 _ y4, (night_eq h0 _).1]
  rintro v rfl
  have e5 : b2i (¬ ((if nightB (A 122 c) = true then (1 : Int) else 0) = 0)) = (if nightB (A 122 c) = true then 1 else 0) := by
    cases nightB (A 122 c) <;> rfl
  rw [e5]
  rintro g5 rfl
  have y5 := y4.tI (a := 71) (i := 4) (v := if nightB (A 122 c) = true then 1 else 0)
  rw [rf _ y5]
  refine ⟨zz _ y5, ?_⟩
  refine x_nearestBase y5 r1 lp (fun b hb2 => ?_) (c6 h0)
  obtain ⟨n1, _⟩ := nb_tb (A := A) (p := (A 119 c).toNat) (N 1) (fun k hk => (mi_rng r1 lp hk).1)
  obtain ⟨b1, b2, b3⟩ := n1 b hb2
  obtain ⟨m1, m2⟩ := x_miles y5 r1 l1 lp b1
  rw [kR_v, m2]
  refine ⟨m1, y5.obj 1 _ (by omega), ?_⟩
  rintro g6 rfl
  have y6 := y5.tI (a := 71) (i := 5) (v := mi A (A 119 c).toNat b)
  rw [h20 _ y6, h3 _ y6]
  refine ⟨y6.obj 8 c (by omega), zz _ y6, ⟨by omega, by omega⟩, ?_⟩
  intro G hG
  have y7 : XS K D N M X Z C Wd A G := by rw [hG]; exact y6.tI
  have yq2 : qf h G := by rw [hG]; exact qf.trans yq (qf.trans qf_sI (qf.trans qf_sI (qf.trans qf_sI (qf.trans qf_sI (qf.trans qf_sI (qf.trans qf_sI qf_sI))))))
  have etb : mi A (A 119 c).toNat b = toB A (A 75 2).toNat (A 119 c).toNat := by
    unfold toB
    have := (mi_rng r1 lp b1).1
    rw [r1.1, Int.toNat_natCast, b2, if_neg (by omega)]
  have v71 : ∀ j, j < 10 → hI G 71 j = vPri A (A 75 2).toNat c j := by
    intro j hj
    have hz := ha j hj
    have : j = 0 ∨ j = 1 ∨ j = 2 ∨ j = 3 ∨ j = 4 ∨ j = 5 ∨ j = 6 ∨ j = 7 ∨ j = 8 ∨ j = 9 := by omega
    rw [hG, etb]
    rcases this with rfl | rfl | rfl | rfl | rfl | rfl | rfl | rfl | rfl | rfl <;> simp [hI_sI, hI_sL, hI_sR, hI_nw, hL_sI, hL_sL, hL_sR, hL_nw, hR_sI, hR_sL, hR_sR, hR_nw, hT_sI, hT_sL, hT_sR, hN_sI, hN_sL, hN_sR, hn_sI, hn_sL, hn_sR, hq_sI, hq_sL, hq_sR, Nat.reduceEqDiff, false_and, and_false, true_and, and_true, and_self, if_false, if_true, reduceIte, ite_self, vPri, hz]
  have v72 : ∀ j, j < 5 → hI G 72 j = prm A (tN A (A 122 c)) j := by
    intro j hj
    rw [hG]
    simp only [hI_sI, hI_sL, hI_sR, hI_nw, hL_sI, hL_sL, hL_sR, hL_nw, hR_sI, hR_sL, hR_sR, hR_nw, hT_sI, hT_sL, hT_sR, hN_sI, hN_sL, hN_sR, hn_sI, hn_sL, hn_sR, hq_sI, hq_sL, hq_sR, Nat.reduceEqDiff, false_and, and_false, true_and, and_true, and_self, if_false, if_true, reduceIte, ite_self]
    exact hc2 j hj
  have v70 : hI G 70 2 = A 120 c := by
    rw [hG]
    simp only [hI_sI, hI_sL, hI_sR, hI_nw, hL_sI, hL_sL, hL_sR, hL_nw, hR_sI, hR_sL, hR_sR, hR_nw, hT_sI, hT_sL, hT_sR, hN_sI, hN_sL, hN_sR, hn_sI, hn_sL, hn_sR, hq_sI, hq_sL, hq_sR, Nat.reduceEqDiff, false_and, and_false, true_and, and_true, and_self, if_false, if_true, reduceIte, ite_self]
  obtain ⟨own2, ⟨_, _, f4⟩, _⟩ := y7.txt q (by omega)
  have f4 : XE own2 G 70 (hR G (Z 4 q) 3) (C q 0) := by
    rcases f4 with f4 | f4
    · exact absurd f4.2 hne
    · exact f4
  refine ⟨y7.obj 4 q (by omega), f4.obx, ?_⟩
  have he : ∀ k w, 1 ≤ k ∧ k ≤ 4 → (k = 2 → 0 ≤ w ∧ w < 10) ∧ (k = 3 → 0 ≤ w ∧ w < 5) ∧ (k = 4 → 0 ≤ w ∧ w < 16) → envV (vPri A (A 75 2).toNat c) (prm A (tN A (A 122 c))) (A 120 c) k w = envX G k w := by
    intro k w hk hw
    unfold envV envX
    by_cases d1 : k = 1
    · rw [if_pos d1, if_pos d1]
    rw [if_neg d1, if_neg d1]
    by_cases d2 : k = 2
    · rw [if_pos d2, if_pos d2, v71 _ (by have := hw.1 d2; omega)]
    rw [if_neg d2, if_neg d2]
    by_cases d3 : k = 3
    · rw [if_pos d3, if_pos d3, v72 _ (by have := hw.2.1 d3; omega)]
    rw [if_neg d3, if_neg d3, v70]
  obtain ⟨v, v1, v2⟩ := ev_x he 70 _ _ f4
  refine v2 _ ?_
  obtain ⟨_, v3⟩ := v1.fin (by decide)
  rw [kI_v, ← v3]
  exact k _ y7 yq2
theorem toB_v {B : Nat → Nat → Int} (e : eqv A B) (n p : Nat) : toB B n p = toB A n p := by
  have em : ∀ k, mi B p k = mi A p k := by
    intro k
    unfold mi
    rw [e.row (a := 76) (by decide) (by decide) (by decide), e.row (a := 77) (by decide) (by decide) (by decide)]
  have eb : ∀ k, baseB B k = baseB A k := by
    intro k
    unfold baseB
    rw [e.row (a := 79) (by decide) (by decide) (by decide)]
  have : ∀ k, tbF B p k = tbF A p k := by
    intro k
    induction k with
    | zero => rfl
    | succ k ih =>
      show (if baseB B k = true ∧ (tbF B p k = -1 ∨ mi B p k < tbF B p k) then mi B p k else tbF B p k) = (if baseB A k = true ∧ (tbF A p k = -1 ∨ mi A p k < tbF A p k) then mi A p k else tbF A p k)
      rw [ih, em, eb]
  unfold toB
  rw [this]
theorem m_pri {n1 n4 n6 n8 c : Nat} {y1 y4 y6 y8 : Nat → Nat → Int} {Q : Rs → Hp → Prop} (x : XS K D N M X Z C Wd A h) (now : A 75 1 ≤ 2687) (r1 : Rl1 n1 y1 A) (r4 : Rl4 n4 y4 C A) (r6 : Rl6 n6 y6 A) (r8 : Rl8 n8 n1 y8 A) (hM : n4 ≤ M 4) (hX : X 4 = y4) (hc : c < n8) (h0 : 0 ≤ A 122 c) (h1 : A 122 c ≤ A 75 1) (k : ∀ g B, XS K D N M X Z C Wd B g → eqv A B → hL g 158 = hL h 158 → Q (rV (vI (priF A C c))) g) : mX4_priorityOf c h Q := by
  have n12 := r1.2.1
  have n412 := r4.2.1
  have n860 := r8.2.1
  obtain ⟨c1, c2, c3, c4, c5, c6⟩ := r8.2.2 c hc
  unfold mX4_priorityOf
  rw [Int.toNat_natCast, x.ra 122]
  refine ⟨by omega, by omega, ?_⟩
  rintro v rfl
  refine m_textBy x (n := n4) r4.1 r4.2.1 ?_
  have tl := tx_lt A (A 122 c) (A 75 35).toNat
  have t0 : -1 ≤ tN A (A 122 c) := tl.1
  have t1 : tN A (A 122 c) < n4 := by
    have : tN A (A 122 c) < (A 75 35).toNat := tl.2
    have := r4.1
    omega
  rw [kI_v, x.ra 97]
  refine ⟨fun _ => ⟨by omega, by omega⟩, ?_⟩
  unfold priF at k
  by_cases tn : tN A (A 122 c) = -1
  · rw [if_pos (Or.inl tn)] at k
    rw [if_pos (Or.inl tn)]
    exact k _ A x (fun _ _ _ _ _ => rfl) rfl
  obtain ⟨q, hq⟩ : ∃ q : Nat, tN A (A 122 c) = q := ⟨(tN A (A 122 c)).toNat, by omega⟩
  have lt : q < n4 := by omega
  have ekk : (tN A (A 122 c)).toNat = q := by omega
  rw [ekk] at k ⊢
  obtain ⟨p41, p42, p43, p44, p45, p46, p47⟩ := r4.2.2 q lt
  rcases p45 with p45 | p45
  · rw [if_pos (Or.inr p45.2)] at k
    rw [if_pos (Or.inr (fun z => z p45.1))]
    exact k _ A x (fun _ _ _ _ _ => rfl) rfl
  have p450 := p45.2.1
  rw [if_neg (fun z => by rcases z with z | z; exact tn z; exact p45.1 z)] at k
  rw [if_neg (by omega)]
  have lp : (A 119 c).toNat < n1 := by omega
  have e119 : hI h 119 c = ((A 119 c).toNat : Nat) := by rw [x.ra 119]; omega
  rw [e119]
  refine m_place2 x r1 r6 lp h0 (by omega) (fun g B xb eb hz hs ol => ?_)
  rw [kN_v]
  have e119' : hI g 119 c = ((A 119 c).toNat : Nat) := by rw [xb.ra 119, eb.row (by decide) (by decide) (by decide)]; omega
  rw [e119']
  refine m_toBase xb (Rl1_v eb r1) lp ?_
  rw [kI_v, toB_v eb]
  rintro g1 rfl
  have x1 := xb.ma (a := 109) (i := 5) (v := toB A n1 (A 119 c).toNat)
  have eb1 := eb.u (i := 5) (v := toB A n1 (A 119 c).toNat)
  have e751 : hI (sI g 109 5 (toB A n1 (A 119 c).toNat)) 75 1 = A 75 1 := by rw [x1.rd 75 1]; exact eb1 75 1 (by decide) (by decide) (by decide)
  rw [e751]
  refine ⟨⟨by omega, by omega⟩, ?_⟩
  rintro g2 rfl
  have x2 := x1.ma (a := 109) (i := 8) (v := A 75 1 - A 122 c)
  have eb2 := eb1.u (i := 8) (v := A 75 1 - A 122 c)
  have e120 : hI (sI (sI g 109 5 (toB A n1 (A 119 c).toNat)) 109 8 (A 75 1 - A 122 c)) 120 c = A 120 c := by rw [x2.ra 120]; exact congrFun (eb2.row (by decide) (by decide) (by decide)) c
  rw [e120]
  rintro g3 rfl
  have x3 := x2.m5 (i := 59) (v := A 120 c)
  have eb3 : eqv A (uA (uA (uA B 109 5 (toB A n1 (A 119 c).toNat)) 109 8 (A 75 1 - A 122 c)) 75 59 (A 120 c)) := by
    intro a i h1 h2 h3
    by_cases z : a = 75 ∧ i = 59
    · exact absurd z.2 (h3 z.1)
    · rw [show uA (uA (uA B 109 5 (toB A n1 (A 119 c).toNat)) 109 8 (A 75 1 - A 122 c)) 75 59 (A 120 c) a i = uA (uA B 109 5 (toB A n1 (A 119 c).toNat)) 109 8 (A 75 1 - A 122 c) a i from if_neg z]
      exact eb2 a i h1 h2 h3
  have v109 : ∀ j, j < 10 → uA (uA (uA B 109 5 (toB A n1 (A 119 c).toNat)) 109 8 (A 75 1 - A 122 c)) 75 59 (A 120 c) 109 j = vPri A n1 c j := by
    intro j hj
    have hzj := hz j hj
    have : j = 0 ∨ j = 1 ∨ j = 2 ∨ j = 3 ∨ j = 4 ∨ j = 5 ∨ j = 6 ∨ j = 7 ∨ j = 8 ∨ j = 9 := by omega
    rcases this with rfl | rfl | rfl | rfl | rfl | rfl | rfl | rfl | rfl | rfl <;> simp [uA, vPri] <;> simpa using hzj
  have v59 : uA (uA (uA B 109 5 (toB A n1 (A 119 c).toNat)) 109 8 (A 75 1 - A 122 c)) 75 59 (A 120 c) 75 59 = A 120 c := uA_at _ _ _ _
  generalize hG : uA (uA (uA B 109 5 (toB A n1 (A 119 c).toNat)) 109 8 (A 75 1 - A 122 c)) 75 59 (A 120 c) = G at x3 eb3 v109 v59
  rw [r1.1, Int.toNat_natCast] at k
  have e97 : hI (sI (sI (sI g 109 5 (toB A n1 (A 119 c).toNat)) 109 8 (A 75 1 - A 122 c)) 75 59 (A 120 c)) 97 q = A 97 q := by rw [x3.ra 97, eb3.row (by decide) (by decide) (by decide)]
  rw [e97]
  have hcd1 : cdAt G (A 97 q) (C q 0 ++ [0]) := by
    have hcd := p45.2
    unfold cdAt at hcd ⊢
    rw [eb3.row (a := 106) (by decide) (by decide) (by decide)]
    exact hcd
  have he : ∀ k w, 1 ≤ k ∧ k ≤ 4 → (k = 2 → 0 ≤ w ∧ w < 10) ∧ (k = 3 → 0 ≤ w ∧ w < 5) ∧ (k = 4 → 0 ≤ w ∧ w < 16) → envV (vPri A n1 c) (prm A (tN A (A 122 c))) (A 120 c) k w = envM G (tN A (A 122 c)) k w := by
    intro k w hk hw
    unfold envV envM
    by_cases d1 : k = 1
    · rw [if_pos d1, if_pos d1]
    rw [if_neg d1, if_neg d1]
    by_cases d2 : k = 2
    · rw [if_pos d2, if_pos d2, v109 _ (by have := hw.1 d2; omega)]
    rw [if_neg d2, if_neg d2]
    by_cases d3 : k = 3
    · rw [if_pos d3, if_pos d3]
      unfold prm
      rw [eb3.row (a := 96) (by decide) (by decide) (by decide)]
    rw [if_neg d3, if_neg d3, v59]
  obtain ⟨own, ⟨_, _, f4⟩, _⟩ := x3.txt q (by omega)
  obtain ⟨v, hv⟩ : ∃ v, Val (envV (vPri A n1 c) (prm A (tN A (A 122 c))) (A 120 c)) 70 (C q 0) v := by
    rcases f4 with f4 | f4
    · exact absurd f4.2 p45.1
    · exact xe_val _ 70 _ _ f4
  obtain ⟨hv1, hv2⟩ := hv.fin (by decide)
  rw [hv2] at k
  refine ⟨by omega, by omega, ?_⟩
  refine m_worth x3 t0 (by omega) he hcd1 hv1 (fun g10 B2 x4 e2 ol2 => ?_)
  rw [kI_v]
  exact k _ B2 x4 (eb3.trans e2.v) (ol2.trans ol)
end
def gPriority (A : Nat → Nat → Int) (C : Nat → Nat → List Int) (p1 : Int) : Int × Int × (Nat → Nat → Int) := if p1 < 0 ∨ A 75 69 ≤ p1 then (1, 0, uA A 75 0 1) else if A 122 p1.toNat = -1 ∨ A 75 1 < A 122 p1.toNat then (2, 0, uA A 75 0 2) else (0, priF A C p1.toNat, uA A 75 0 0)
theorem tbF_u0 (A : Nat → Nat → Int) (v : Int) (p : Nat) : ∀ n, tbF (uA A 75 0 v) p n = tbF A p n
  | 0 => rfl
  | n + 1 => by
    show (if baseB A n = true ∧ (tbF (uA A 75 0 v) p n = -1 ∨ mi A p n < tbF (uA A 75 0 v) p n) then mi A p n else tbF (uA A 75 0 v) p n) = (if baseB A n = true ∧ (tbF A p n = -1 ∨ mi A p n < tbF A p n) then mi A p n else tbF A p n)
    rw [tbF_u0 A v p n]
theorem priF_u0 (A : Nat → Nat → Int) (C : Nat → Nat → List Int) (v : Int) (c : Nat) : priF (uA A 75 0 v) C c = priF A C c := by
  have e1 : vPri (uA A 75 0 v) (A 75 2).toNat c = vPri A (A 75 2).toNat c := by
    funext j
    unfold vPri toB
    rw [wetF_u0, tbF_u0]
    rfl
  have e2 : prm (uA A 75 0 v) = prm A := rfl
  unfold priF
  rw [tN_u0, e2]
  show (if tN A (A 122 c) = -1 ∨ C (tN A (A 122 c)).toNat 0 = [] then 0 else wF (envV (vPri (uA A 75 0 v) (A 75 2).toNat c) (prm A (tN A (A 122 c))) (A 120 c)) (C (tN A (A 122 c)).toNat 0)) = _
  rw [e1]
section
variable {K : Hp} {D : Nat} {N M : Nat → Nat} {X : Nat → Nat → Nat → Int} {Z : Nat → Nat → Nat} {C : Nat → Nat → List Int} {Wd : Nat → List Int} {A : Nat → Nat → Int} {h : Hp}
theorem m_priority {T : Nat} {N0 : Nat → Nat} {X0 : Nat → Nat → Nat → Int} {Wd0 : Nat → List Int} {Q : Rs → Hp → Prop} (x : XS K D N M X Z C Wd A h) (r : Rel T N0 X0 C Wd0 A) (hM : N0 4 ≤ M 4) (hX : X 4 = X0 4) {p1 : Int} (k : ∀ h' B, XS K D N M X Z C Wd B h' → scE (gPriority A C p1).2.2 B → hL h' 158 = hL h 158 → Q (rV (vI (gPriority A C p1).2.1)) h') : mX4_priority p1 h Q := by
  obtain ⟨r0, r1, r2, r3, r4, r5, r6, r7, r8, r9, r10, r11, rw0⟩ := id r
  have s8 := r8.1
  have n8 := r8.2.1
  have now := r0.1.2
  unfold mX4_priority
  unfold gPriority at k
  refine m_isCall x (fun a1 a2 y => ?_) (fun z y => ?_)
  · rw [if_neg (by omega)] at k
    rw [kI_v, if_pos (by decide)]
    refine ⟨⟨by omega, by omega⟩, ?_⟩
    have hh := heard_m (p := p1) y
    have hh : vX4_isHeard p1 (sI h 75 0 0) = 0 ↔ (A 122 p1.toNat = -1 ∨ A 75 1 < A 122 p1.toNat) := hh
    refine m_right rfl (by decide) (fun z => ?_) (fun z => ?_)
    · have z : ¬ (A 122 p1.toNat = -1 ∨ A 75 1 < A 122 p1.toNat) := fun w => z (hh.2 w)
      rw [if_neg z] at k
      rw [kI_v, if_pos (by decide)]
      obtain ⟨p, rfl⟩ : ∃ n : Nat, p1 = n := ⟨p1.toNat, by omega⟩
      rw [Int.toNat_natCast] at k z
      have c4 := (r8.2.2 p (by omega)).2.2.2.1
      refine m_pri y (n1 := N0 1) (y1 := X0 1) (n4 := N0 4) (y4 := X0 4) (n6 := N0 6) (y6 := X0 6) (n8 := N0 8) (y8 := X0 8) now.2 r1 r4 r6 r8 hM hX (by omega) (show 0 ≤ A 122 p by omega) (show A 122 p ≤ A 75 1 by omega) (fun g B xb eb ol => ?_)
      rw [kI_v, priF_u0]
      exact k _ B xb eb.sc ol
    · have z := hh.1 z
      rw [if_pos z] at k
      rw [kI_v, if_neg (by decide)]
      exact k _ _ y.t5 (fun _ _ _ => rfl) rfl
  · rw [if_pos (by omega)] at k
    rw [kI_v, if_neg (by decide)]
    exact k _ _ y (fun _ _ _ => rfl) rfl
theorem heard_x {p : Nat} (x : XS K D N M X Z C Wd A h) (e20 : X 0 0 20 = A 75 1) (r8 : Rl8 (N 8) (N 1) (X 8) A) (hp : p < N 8) : oX19_isHeard (Z 8 p) h ∧ (vX19_isHeard (Z 8 p) h = 0 ↔ (A 122 p = -1 ∨ A 75 1 < A 122 p)) := by
  have l := x.le 8
  have o8 := x.obj 8 p (by omega)
  have z8 : hR h (Z 8 p) 6 = 50 := by
    obtain ⟨⟨own, x⟩, _⟩ := x
    exact (x.o 8 p (by decide) (by decide) (by omega)).2.2.2.2.2.2 6 (by decide)
  refine ⟨⟨o8, fun _ => z8⟩, ?_⟩
  unfold vX19_isHeard b2i
  rw [x.int 8 p 3 (by omega), (r8.2.2 p hp).2.2.2.1.1, x.sc 20, e20]
  split <;> omega
theorem x_priority {T : Nat} {Q : Rs → Hp → Prop} (x : XS K D N N X Z C Wd A h) (r : Rel T N X C Wd A) (hD : D ≤ 780000) {p1 : Int} (k : ∀ h', OpS K T (D + 12000) A N X C (gPriority A C p1) h' → Q (rV (vI (gPriority A C p1).1)) h') : mX0_priority p1 h Q := by
  obtain ⟨r0, r1, r2, r3, r4, r5, r6, r7, r8, r9, r10, r11, rw0⟩ := id r
  obtain ⟨b1, b2, b3, b4⟩ := x.hb
  have s8 := r8.1
  have now := r0.1
  unfold mX0_priority mX1_priority
  unfold gPriority at k
  refine x_callAt x (by omega) (fun a1 a2 a3 => ?_) (fun z y o t => ?_)
  · rw [if_neg (by omega)] at k
    rw [kR_v]
    obtain ⟨p, rfl⟩ : ∃ n : Nat, p1 = n := ⟨p1.toNat, by omega⟩
    rw [Int.toNat_natCast] at k a3 ⊢
    obtain ⟨h1, h2⟩ := heard_x x now.1 r8 a3
    refine ⟨h1, x.obj 8 p a3, ?_⟩
    by_cases c : A 122 p = -1 ∨ A 75 1 < A 122 p
    · rw [if_pos (fun z => z (h2.2 c))]
      rw [if_pos c] at k
      have y : XS K (D + 2) N N X Z C Wd A (nw h 50 0 6) := x.thr (by omega) (by omega) (by omega)
      refine ⟨by omega, by omega, ?_⟩
      show if hT (nw h 50 0 6) (hn h) = 41 then _ else _
      rw [thr_tg, if_neg (by decide)]
      exact ⟨thr_ob b1 50, k _ ⟨N, X, Z, Wd, y.more (by omega) (by omega), rfl, rfl, r.thr 2, fun z => absurd z ne20⟩⟩
    · rw [if_neg (fun z => z (fun w => c (h2.1 w)))]
      rw [if_neg c] at k
      have c4 := (r8.2.2 p a3).2.2.2.1
      refine x_pri x now.1 now.2.2 r1 r4 r6 r8 a3 (by omega) (by omega) (fun g y _ => ?_)
      rw [kI_v, kIx_v]
      rintro g2 rfl
      exact k _ ⟨N, X, Z, Wd, (y.out).more (by omega) (by omega), rfl, rfl, r.thr 0, fun _ => (by rw [hL_sL, if_pos ⟨rfl, rfl⟩]; try rfl)⟩
  · rw [if_pos (by omega)] at k
    show if hT (nw h 41 0 6) (hn h) = 41 then _ else _
    rw [if_pos t]
    exact ⟨o, k _ ⟨N, X, Z, Wd, y.more (by omega) (by omega), rfl, rfl, r.thr 1, fun z => absurd z ne10⟩⟩
end
