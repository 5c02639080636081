set_option maxRecDepth 100000
set_option maxHeartbeats 1000000
set_option linter.unusedSimpArgs false
set_option linter.unusedVariables false
/-! SPECS, 26: gifts are spent -/
def elg (A : Nat → Nat → Int) (d of : Int) (g : Nat) : Prop := A 156 g = of ∧ 0 < A 155 g ∧ d ≤ A 157 g
def ngF (A : Nat → Nat → Int) (d of : Int) : Nat → Int
  | 0 => -1
  | n + 1 => if (A 156 n = of ∧ 0 < A 155 n ∧ d ≤ A 157 n) ∧ (ngF A d of n = -1 ∨ A 157 n < A 157 (ngF A d of n).toNat) then n else ngF A d of n
def pck (A : Nat → Nat → Int) (d of : Int) (n : Nat) : Int := if ngF A d of n ≠ -1 then ngF A d of n else ngF A d 0 n
def sgF (A : Nat → Nat → Int) (d of : Int) : Nat → Int
  | 0 => 0
  | n + 1 => if (A 156 n = of ∨ A 156 n = 0) ∧ d ≤ A 157 n then sgF A d of n + A 155 n else sgF A d of n
theorem ng_ok (A : Nat → Nat → Int) (d of : Int) (n : Nat) : ngF A d of n = -1 ∨ (0 ≤ ngF A d of n ∧ ngF A d of n < n ∧ elg A d of (ngF A d of n).toNat) := by
  induction n with
  | zero => exact Or.inl rfl
  | succ n ih =>
    show (if (A 156 n = of ∧ 0 < A 155 n ∧ d ≤ A 157 n) ∧ (ngF A d of n = -1 ∨ A 157 n < A 157 (ngF A d of n).toNat) then (n : Int) else ngF A d of n) = -1 ∨ (0 ≤ (if (A 156 n = of ∧ 0 < A 155 n ∧ d ≤ A 157 n) ∧ (ngF A d of n = -1 ∨ A 157 n < A 157 (ngF A d of n).toNat) then (n : Int) else ngF A d of n) ∧ (if (A 156 n = of ∧ 0 < A 155 n ∧ d ≤ A 157 n) ∧ (ngF A d of n = -1 ∨ A 157 n < A 157 (ngF A d of n).toNat) then (n : Int) else ngF A d of n) < (n + 1 : Nat) ∧ elg A d of (if (A 156 n = of ∧ 0 < A 155 n ∧ d ≤ A 157 n) ∧ (ngF A d of n = -1 ∨ A 157 n < A 157 (ngF A d of n).toNat) then (n : Int) else ngF A d of n).toNat)
    by_cases c : (A 156 n = of ∧ 0 < A 155 n ∧ d ≤ A 157 n) ∧ (ngF A d of n = -1 ∨ A 157 n < A 157 (ngF A d of n).toNat)
    · rw [if_pos c]
      exact Or.inr ⟨by omega, by omega, by rw [Int.toNat_natCast]; exact c.1⟩
    · rw [if_neg c]
      rcases ih with ih | ih
      · exact Or.inl ih
      · exact Or.inr ⟨ih.1, by omega, ih.2.2⟩
theorem ng_ex (A : Nat → Nat → Int) (d of : Int) (n g : Nat) (hg : g < n) (he : elg A d of g) : ngF A d of n ≠ -1 := by
  induction n with
  | zero => omega
  | succ n ih =>
    show (if (A 156 n = of ∧ 0 < A 155 n ∧ d ≤ A 157 n) ∧ (ngF A d of n = -1 ∨ A 157 n < A 157 (ngF A d of n).toNat) then (n : Int) else ngF A d of n) ≠ -1
    by_cases c : (A 156 n = of ∧ 0 < A 155 n ∧ d ≤ A 157 n) ∧ (ngF A d of n = -1 ∨ A 157 n < A 157 (ngF A d of n).toNat)
    · rw [if_pos c]
      omega
    · rw [if_neg c]
      by_cases z : g = n
      · subst z
        intro w
        exact c ⟨he, Or.inl w⟩
      · exact ih (by omega)
theorem sg_pos {A : Nat → Nat → Int} {d of : Int} {n : Nat} (h : 0 < sgF A d of n) : ∃ g, g < n ∧ (elg A d of g ∨ elg A d 0 g) := by
  induction n with
  | zero => exact absurd h (by show ¬ ((0 : Int) < 0); decide)
  | succ n ih =>
    have h : 0 < (if (A 156 n = of ∨ A 156 n = 0) ∧ d ≤ A 157 n then sgF A d of n + A 155 n else sgF A d of n) := h
    by_cases c : (A 156 n = of ∨ A 156 n = 0) ∧ d ≤ A 157 n
    · rw [if_pos c] at h
      by_cases z : 0 < A 155 n
      · refine ⟨n, by omega, ?_⟩
        rcases c.1 with e | e
        · exact Or.inl ⟨e, z, c.2⟩
        · exact Or.inr ⟨e, z, c.2⟩
      · obtain ⟨g, hg, he⟩ := ih (by omega)
        exact ⟨g, by omega, he⟩
    · rw [if_neg c] at h
      obtain ⟨g, hg, he⟩ := ih h
      exact ⟨g, by omega, he⟩
theorem pck_ok {A : Nat → Nat → Int} {d of : Int} {n : Nat} (h : 0 < sgF A d of n) : 0 ≤ pck A d of n ∧ pck A d of n < n ∧ 0 < A 155 (pck A d of n).toNat ∧ (A 156 (pck A d of n).toNat = of ∨ A 156 (pck A d of n).toNat = 0) ∧ d ≤ A 157 (pck A d of n).toNat := by
  obtain ⟨g, hg, he⟩ := sg_pos h
  unfold pck
  by_cases c : ngF A d of n ≠ -1
  · rw [if_pos c]
    rcases ng_ok A d of n with z | ⟨z1, z2, z3, z4, z5⟩
    · exact absurd z c
    · exact ⟨z1, z2, z4, Or.inl z3, z5⟩
  · rw [if_neg c]
    rcases he with he | he
    · exact absurd (ng_ex A d of n g hg he) c
    · have := ng_ex A d 0 n g hg he
      rcases ng_ok A d 0 n with z | ⟨z1, z2, z3, z4, z5⟩
      · exact absurd z this
      · exact ⟨z1, z2, z4, Or.inr z3, z5⟩
theorem sg_upd {A : Nat → Nat → Int} {d of v : Int} {g : Nat} (hc : (A 156 g = of ∨ A 156 g = 0) ∧ d ≤ A 157 g) (n : Nat) : sgF (uA A 155 g v) d of n = if g < n then sgF A d of n - A 155 g + v else sgF A d of n := by
  induction n with
  | zero => rfl
  | succ n ih =>
    show (if (A 156 n = of ∨ A 156 n = 0) ∧ d ≤ A 157 n then sgF (uA A 155 g v) d of n + uA A 155 g v 155 n else sgF (uA A 155 g v) d of n) = if g < n + 1 then (if (A 156 n = of ∨ A 156 n = 0) ∧ d ≤ A 157 n then sgF A d of n + A 155 n else sgF A d of n) - A 155 g + v else (if (A 156 n = of ∨ A 156 n = 0) ∧ d ≤ A 157 n then sgF A d of n + A 155 n else sgF A d of n)
    rw [ih]
    by_cases z : g = n
    · subst z
      rw [if_neg (Nat.lt_irrefl g), if_pos (Nat.lt_succ_self g), if_pos hc, if_pos hc, uA_at]
      omega
    · rw [uA_i (fun w => z w.symm)]
      by_cases y : g < n
      · have y' : g < n + 1 := by omega
        rw [if_pos y, if_pos y']
        split <;> omega
      · have y' : ¬ (g < n + 1) := by omega
        rw [if_neg y, if_neg y']
def spI (d of : Int) (n : Nat) : Nat → Int → (Nat → Nat → Int) → (Nat → Nat → Int)
  | 0, _, A => A
  | f + 1, rest, A => if rest ≤ 0 then A else spI d of n f (rest - (if rest < A 155 (pck A d of n).toNat then rest else A 155 (pck A d of n).toNat)) (uA A 155 (pck A d of n).toNat (A 155 (pck A d of n).toNat - (if rest < A 155 (pck A d of n).toNat then rest else A 155 (pck A d of n).toNat)))
def gSpend (A : Nat → Nat → Int) (p1 p2 : Int) : Int × (Nat → Nat → Int) := if p1 < 1 ∨ 99999 < p1 ∨ p2 < 1 ∨ 3 < p2 then (0, uA A 75 0 0) else if sgF A (A 75 1 / 96) p2 (A 75 113).toNat < p1 then (0, uA A 75 0 0) else (1, spI (A 75 1 / 96) p2 (A 75 113).toNat p1.toNat p1 (uA A 75 0 0))
section
variable {K : Hp} {D : Nat} {N M : Nat → Nat} {X : Nat → Nat → Nat → Int} {Z : Nat → Nat → Nat} {C : Nat → Nat → List Int} {Wd : Nat → List Int} {A : Nat → Nat → Int} {h : Hp}
theorem m_nextGift {of : Int} {n : Nat} {Q : Rs → Hp → Prop} (x : XS K D N M X Z C Wd A h) (r1 : A 75 113 = n) (r2 : n ≤ 12) (hd : 0 ≤ A 75 1) (k : Q (rV (vI (ngF A (A 75 1 / 96) of n))) h) : mX4_nextGift of h Q := by
  unfold mX4_nextGift
  rw [x.rd 75 113, x.rd 75 1, r1, Int.tdiv_eq_ediv_of_nonneg hd]
  refine fp2 n (ngF A (A 75 1 / 96) of) (fun R i hi hR => ?_) (fun R => ?_)
  · rw [if_pos (by omega)]
    have b := ng_ok A (A 75 1 / 96) of i
    refine ⟨by omega, by omega, fun _ _ _ _ => by omega, ?_⟩
    rintro v rfl
    refine ⟨⟨by omega, by omega⟩, ?_⟩
    rintro j rfl
    rw [x.ra 155, x.ra 156, x.ra 157, x.ra 157, Int.toNat_natCast]
    have : (if ¬ (A 156 i ≠ of) ∧ (¬ (A 155 i ≤ 0) ∧ (¬ (A 157 i < A 75 1 / 96) ∧ (ngF A (A 75 1 / 96) of i = -1 ∨ ¬ (A 157 (ngF A (A 75 1 / 96) of i).toNat ≤ A 157 i)))) then (i : Int) else ngF A (A 75 1 / 96) of i) = ngF A (A 75 1 / 96) of (i + 1) := by
      show _ = if (A 156 i = of ∧ 0 < A 155 i ∧ A 75 1 / 96 ≤ A 157 i) ∧ (ngF A (A 75 1 / 96) of i = -1 ∨ A 157 i < A 157 (ngF A (A 75 1 / 96) of i).toNat) then (i : Int) else ngF A (A 75 1 / 96) of i
      by_cases c : (A 156 i = of ∧ 0 < A 155 i ∧ A 75 1 / 96 ≤ A 157 i) ∧ (ngF A (A 75 1 / 96) of i = -1 ∨ A 157 i < A 157 (ngF A (A 75 1 / 96) of i).toNat)
      · have c' : ¬ (A 156 i ≠ of) ∧ (¬ (A 155 i ≤ 0) ∧ (¬ (A 157 i < A 75 1 / 96) ∧ (ngF A (A 75 1 / 96) of i = -1 ∨ ¬ (A 157 (ngF A (A 75 1 / 96) of i).toNat ≤ A 157 i)))) := by omega
        rw [if_pos c, if_pos c']
      · have c' : ¬ (¬ (A 156 i ≠ of) ∧ (¬ (A 155 i ≤ 0) ∧ (¬ (A 157 i < A 75 1 / 96) ∧ (ngF A (A 75 1 / 96) of i = -1 ∨ ¬ (A 157 (ngF A (A 75 1 / 96) of i).toNat ≤ A 157 i))))) := by omega
        rw [if_neg c, if_neg c']
    rw [this]
    exact hR
  · rw [if_neg (by omega)]
    exact k
theorem m_spend {T : Nat} {N0 : Nat → Nat} {X0 : Nat → Nat → Nat → Int} {C0 : Nat → Nat → List Int} {Wd0 : Nat → List Int} {Q : Rs → Hp → Prop} (x : XS K D N M X Z C Wd A h) (r : Rel T N0 X0 C0 Wd0 A) {p1 p2 : Int} (k : ∀ h', XS K D N M X Z C Wd (gSpend A p1 p2).2 h' → Q (rV (vI (gSpend A p1 p2).1)) h') : mX4_spend p1 p2 h Q := by
  obtain ⟨r0, r1, r2, r3, r4, r5, r6, r7, r8, r9, r10, r11, rw0⟩ := id r
  obtain ⟨q1, q2, q3⟩ := r11
  have now := r0.1.2
  unfold mX4_spend
  unfold gSpend at k
  rintro g rfl
  have y : XS K D N M X Z C Wd (uA A 75 0 0) (sI h 75 0 0) := x.m5
  have e1 : hI (sI h 75 0 0) 75 113 = N0 11 := (x.rd 75 113).trans q1
  have e2 : hI (sI h 75 0 0) 75 1 = A 75 1 := x.rd 75 1
  by_cases c : p1 < 1 ∨ 99999 < p1 ∨ p2 < 1 ∨ 3 < p2
  · rw [if_pos c] at k
    rw [if_pos (by omega)]
    exact k _ y
  rw [if_neg c] at k
  rw [if_neg (by omega), e1, e2, Int.tdiv_eq_ediv_of_nonneg now.1]
  rw [q1, Int.toNat_natCast] at k
  have srng : ∀ n, n ≤ N0 11 → 0 ≤ sgF A (A 75 1 / 96) p2 n ∧ sgF A (A 75 1 / 96) p2 n ≤ 99999 * n := by
    intro n
    induction n with
    | zero => intro _; exact ⟨by show (0 : Int) ≤ 0; decide, by show (0 : Int) ≤ _; omega⟩
    | succ n ih =>
      intro hn
      have i := ih (by omega)
      have q := (q3 n (by omega)).2.2
      show 0 ≤ (if (A 156 n = p2 ∨ A 156 n = 0) ∧ A 75 1 / 96 ≤ A 157 n then sgF A (A 75 1 / 96) p2 n + A 155 n else sgF A (A 75 1 / 96) p2 n) ∧ (if (A 156 n = p2 ∨ A 156 n = 0) ∧ A 75 1 / 96 ≤ A 157 n then sgF A (A 75 1 / 96) p2 n + A 155 n else sgF A (A 75 1 / 96) p2 n) ≤ _
      split <;> omega
  refine fp2 (N0 11) (sgF A (A 75 1 / 96) p2) (fun R i hi hR => ?_) (fun R => ?_)
  · rw [if_pos (by omega)]
    have sr := srng i (by omega)
    have q := (q3 i hi).2.2
    have a155 : hI (sI h 75 0 0) 155 ((i : Int)).toNat = A 155 i := by rw [Int.toNat_natCast]; exact y.ra 155 i
    have a156 : hI (sI h 75 0 0) 156 ((i : Int)).toNat = A 156 i := by rw [Int.toNat_natCast]; exact y.ra 156 i
    have a157 : hI (sI h 75 0 0) 157 ((i : Int)).toNat = A 157 i := by rw [Int.toNat_natCast]; exact y.ra 157 i
    rw [a155, a156, a157]
    refine ⟨by omega, by omega, fun _ => ⟨by omega, by omega⟩, ?_⟩
    rintro v rfl
    refine ⟨⟨by omega, by omega⟩, ?_⟩
    rintro j rfl
    have : (if (A 156 i = p2 ∧ ¬ (A 157 i < A 75 1 / 96)) ∨ (¬ (A 156 i = p2) ∧ (¬ (A 156 i ≠ 0) ∧ ¬ (A 157 i < A 75 1 / 96))) then sgF A (A 75 1 / 96) p2 i + A 155 i else sgF A (A 75 1 / 96) p2 i) = sgF A (A 75 1 / 96) p2 (i + 1) := by
      show _ = if (A 156 i = p2 ∨ A 156 i = 0) ∧ A 75 1 / 96 ≤ A 157 i then sgF A (A 75 1 / 96) p2 i + A 155 i else sgF A (A 75 1 / 96) p2 i
      by_cases d : (A 156 i = p2 ∨ A 156 i = 0) ∧ A 75 1 / 96 ≤ A 157 i
      · rw [if_pos d, if_pos (by omega)]
      · rw [if_neg d, if_neg (by omega)]
    rw [this]
    exact hR
  · rw [if_neg (by omega)]
    by_cases d : sgF A (A 75 1 / 96) p2 (N0 11) < p1
    · rw [if_pos d] at k
      rw [if_pos (by omega)]
      exact k _ y
    rw [if_neg d] at k
    rw [if_neg (by omega)]
    have s0 : sgF (uA A 75 0 0) (A 75 1 / 96) p2 (N0 11) = sgF A (A 75 1 / 96) p2 (N0 11) := by
      have : ∀ n, sgF (uA A 75 0 0) (A 75 1 / 96) p2 n = sgF A (A 75 1 / 96) p2 n := by
        intro n
        induction n with
        | zero => rfl
        | succ n ih =>
          show (if (A 156 n = p2 ∨ A 156 n = 0) ∧ A 75 1 / 96 ≤ A 157 n then sgF (uA A 75 0 0) (A 75 1 / 96) p2 n + A 155 n else sgF (uA A 75 0 0) (A 75 1 / 96) p2 n) = if (A 156 n = p2 ∨ A 156 n = 0) ∧ A 75 1 / 96 ≤ A 157 n then sgF A (A 75 1 / 96) p2 n + A 155 n else sgF A (A 75 1 / 96) p2 n
          rw [ih]
      exact this _
    refine wh2_of (fun (rest : Int) g => ∃ (B : Nat → Nat → Int) (f : Nat), XS K D N M X Z C Wd B g ∧ rest ≤ f ∧ rest ≤ 99999 ∧ 0 ≤ rest ∧ rest ≤ sgF B (A 75 1 / 96) p2 (N0 11) ∧ B 75 113 = N0 11 ∧ B 75 1 = A 75 1 ∧ (∀ i, i < N0 11 → 0 ≤ B 155 i ∧ B 155 i ≤ 99999) ∧ spI (A 75 1 / 96) p2 (N0 11) f rest B = spI (A 75 1 / 96) p2 (N0 11) p1.toNat p1 (uA A 75 0 0)) (fun rest _ => rest.toNat) ?_ ⟨uA A 75 0 0, p1.toNat, y, by omega, by omega, by omega, by rw [s0]; omega, q1, rfl, fun i hi => (q3 i hi).2.2.2, rfl⟩
    rintro R rest g ⟨B, f, xb, hf, hr9, hr0, hrs, b1, b2, b3, hSp⟩ kk
    by_cases z : rest ≤ 0
    · rw [if_neg (by omega)]
      have : spI (A 75 1 / 96) p2 (N0 11) f rest B = B := by
        cases f with
        | zero => rfl
        | succ f => exact if_pos z
      rw [this] at hSp
      rw [← hSp] at k
      exact k _ xb
    · rw [if_pos (by omega)]
      have pk := pck_ok (A := B) (d := A 75 1 / 96) (of := p2) (n := N0 11) (by omega)
      have b2' : B 75 1 / 96 = A 75 1 / 96 := by rw [b2]
      refine m_nextGift xb b1 q2 (by omega) ?_
      rw [kI_v, b2']
      have fin : ∀ v, v = pck B (A 75 1 / 96) p2 (N0 11) → 0 ≤ v ∧ v < 12 ∧ ∀ v147 : Int, v147 = (if ¬ ((hI g 155 (Int.toNat v)) ≤ rest) then rest else (hI g 155 (Int.toNat v))) → nm ((hI g 155 (Int.toNat v)) - v147) ∧ ∀ h149 : Hp, h149 = sI g 155 (Int.toNat v) ((hI g 155 (Int.toNat v)) - v147) → nm (rest - v147) ∧ ∀ v151 : Int, v151 = (rest - v147) → R v151 h149 := by
        rintro v rfl
        have bb := b3 (pck B (A 75 1 / 96) p2 (N0 11)).toNat (by omega)
        refine ⟨pk.1, by omega, ?_⟩
        rw [xb.ra 155]
        rintro v rfl
        refine ⟨⟨by split <;> omega, by split <;> omega⟩, ?_⟩
        rintro g1 rfl
        refine ⟨⟨by split <;> omega, by split <;> omega⟩, ?_⟩
        rintro v rfl
        have ec : (if ¬ (B 155 (pck B (A 75 1 / 96) p2 (N0 11)).toNat ≤ rest) then rest else B 155 (pck B (A 75 1 / 96) p2 (N0 11)).toNat) = (if rest < B 155 (pck B (A 75 1 / 96) p2 (N0 11)).toNat then rest else B 155 (pck B (A 75 1 / 96) p2 (N0 11)).toNat) := by
          split <;> split <;> omega
        rw [ec]
        have hSp2 : spI (A 75 1 / 96) p2 (N0 11) f rest B = spI (A 75 1 / 96) p2 (N0 11) (f - 1) (rest - (if rest < B 155 (pck B (A 75 1 / 96) p2 (N0 11)).toNat then rest else B 155 (pck B (A 75 1 / 96) p2 (N0 11)).toNat)) (uA B 155 (pck B (A 75 1 / 96) p2 (N0 11)).toNat (B 155 (pck B (A 75 1 / 96) p2 (N0 11)).toNat - (if rest < B 155 (pck B (A 75 1 / 96) p2 (N0 11)).toNat then rest else B 155 (pck B (A 75 1 / 96) p2 (N0 11)).toNat))) := by
          obtain ⟨f0, rfl⟩ : ∃ f0, f = f0 + 1 := ⟨f - 1, by omega⟩
          exact if_neg z
        rw [hSp2] at hSp
        refine kk _ _ ⟨_, f - 1, xb.ma, ?_, ?_, ?_, ?_, b1, b2, fun i hi => ?_, hSp⟩ ?_
        · split <;> omega
        · split <;> omega
        · split <;> omega
        · have ltp : (pck B (A 75 1 / 96) p2 (N0 11)).toNat < N0 11 := by omega
          rw [sg_upd ⟨pk.2.2.2.1, pk.2.2.2.2⟩, if_pos ltp]
          omega
        · by_cases w : i = (pck B (A 75 1 / 96) p2 (N0 11)).toNat
          · rw [w, uA_at]
            split <;> omega
          · rw [uA_i w]
            exact b3 i hi
        · split <;> omega
      unfold pck at fin
      by_cases w : ngF B (A 75 1 / 96) p2 (N0 11) = -1
      · refine jn2_of (fun v g' => g' = g ∧ v = ngF B (A 75 1 / 96) 0 (N0 11)) (fun v g' hv => ?_) (fun K0 hK => ?_)
        · obtain ⟨rfl, rfl⟩ := hv
          exact fin _ (by rw [if_neg (fun z => z w)])
        · rw [if_neg (fun z => z w)]
          refine m_nextGift xb b1 q2 (by omega) ?_
          rw [kI_v, b2']
          exact hK _ _ ⟨rfl, rfl⟩
      · refine jn2_of (fun v g' => g' = g ∧ v = ngF B (A 75 1 / 96) p2 (N0 11)) (fun v g' hv => ?_) (fun K0 hK => ?_)
        · obtain ⟨rfl, rfl⟩ := hv
          exact fin _ (by rw [if_pos w])
        · rw [if_pos w]
          refine m_nextGift xb b1 q2 (by omega) ?_
          rw [kI_v, b2']
          exact hK _ _ ⟨rfl, rfl⟩
end
theorem pck_up {A : Nat → Nat → Int} {d of : Int} (ho : of ≠ 0) (n : Nat) : pck A d of (n + 1) = if ¬ ((A 156 n = of ∨ A 156 n = 0) ∧ 0 < A 155 n ∧ d ≤ A 157 n) then pck A d of n else if pck A d of n = -1 ∨ (A 156 (pck A d of n).toNat = 0 ∧ A 156 n ≠ 0) ∨ (A 156 (pck A d of n).toNat = A 156 n ∧ A 157 n < A 157 (pck A d of n).toNat) then (n : Int) else pck A d of n := by
  have u1 : ngF A d of (n + 1) = if (A 156 n = of ∧ 0 < A 155 n ∧ d ≤ A 157 n) ∧ (ngF A d of n = -1 ∨ A 157 n < A 157 (ngF A d of n).toNat) then (n : Int) else ngF A d of n := rfl
  have u2 : ngF A d 0 (n + 1) = if (A 156 n = 0 ∧ 0 < A 155 n ∧ d ≤ A 157 n) ∧ (ngF A d 0 n = -1 ∨ A 157 n < A 157 (ngF A d 0 n).toNat) then (n : Int) else ngF A d 0 n := rfl
  have b1 := ng_ok A d of n
  have b2 := ng_ok A d 0 n
  show (if ngF A d of (n + 1) ≠ -1 then ngF A d of (n + 1) else ngF A d 0 (n + 1)) = _
  have ep : pck A d of n = if ngF A d of n ≠ -1 then ngF A d of n else ngF A d 0 n := rfl
  by_cases c : (A 156 n = of ∨ A 156 n = 0) ∧ 0 < A 155 n ∧ d ≤ A 157 n
  case neg =>
    have c1 : ¬ ((A 156 n = of ∧ 0 < A 155 n ∧ d ≤ A 157 n) ∧ (ngF A d of n = -1 ∨ A 157 n < A 157 (ngF A d of n).toNat)) := fun z => c ⟨Or.inl z.1.1, z.1.2⟩
    have c2 : ¬ ((A 156 n = 0 ∧ 0 < A 155 n ∧ d ≤ A 157 n) ∧ (ngF A d 0 n = -1 ∨ A 157 n < A 157 (ngF A d 0 n).toNat)) := fun z => c ⟨Or.inr z.1.1, z.1.2⟩
    rw [if_neg c1] at u1
    rw [if_neg c2] at u2
    rw [u1, u2, if_pos c, ep]
  have c0 : ¬ ¬ ((A 156 n = of ∨ A 156 n = 0) ∧ 0 < A 155 n ∧ d ≤ A 157 n) := fun z => z c
  rw [if_neg c0]
  rcases b1 with b1 | ⟨b11, b12, b13, b14, b15⟩
  · have ep2 : pck A d of n = ngF A d 0 n := ep.trans (if_neg (fun z => z b1))
    rw [ep2]
    by_cases e : A 156 n = of
    · rw [if_pos ⟨⟨e, c.2⟩, Or.inl b1⟩] at u1
      have hn : (n : Int) ≠ -1 := by omega
      rw [u1, if_pos hn]
      rcases b2 with b2 | ⟨b21, b22, b23, b24, b25⟩
      · rw [if_pos (Or.inl b2)]
      · rw [if_pos (Or.inr (Or.inl ⟨b23, by omega⟩))]
    · have e0 : A 156 n = 0 := by
        rcases c.1 with z | z
        · exact absurd z e
        · exact z
      rw [if_neg (fun z => e z.1.1)] at u1
      rw [u1, if_neg (fun z => z b1)]
      rcases b2 with b2 | ⟨b21, b22, b23, b24, b25⟩
      · rw [if_pos ⟨⟨e0, c.2⟩, Or.inl b2⟩] at u2
        rw [u2, if_pos (Or.inl b2)]
      · by_cases f : A 157 n < A 157 (ngF A d 0 n).toNat
        · rw [if_pos ⟨⟨e0, c.2⟩, Or.inr f⟩] at u2
          rw [u2, if_pos (Or.inr (Or.inr ⟨by omega, f⟩))]
        · rw [if_neg (fun z => by rcases z.2 with w | w; omega; exact f w)] at u2
          have nc : ¬ (ngF A d 0 n = -1 ∨ (A 156 (ngF A d 0 n).toNat = 0 ∧ A 156 n ≠ 0) ∨ (A 156 (ngF A d 0 n).toNat = A 156 n ∧ A 157 n < A 157 (ngF A d 0 n).toNat)) := by
            rintro (w | w | w)
            · omega
            · exact w.2 e0
            · exact f w.2
          rw [u2, if_neg nc]
  · have nb : ngF A d of n ≠ -1 := by omega
    have ep2 : pck A d of n = ngF A d of n := ep.trans (if_pos nb)
    rw [ep2]
    by_cases e : A 156 n = of
    · by_cases f : A 157 n < A 157 (ngF A d of n).toNat
      · rw [if_pos ⟨⟨e, c.2⟩, Or.inr f⟩] at u1
        have hn : (n : Int) ≠ -1 := by omega
        rw [u1, if_pos hn, if_pos (Or.inr (Or.inr ⟨by omega, f⟩))]
      · rw [if_neg (fun z => by rcases z.2 with w | w; omega; exact f w)] at u1
        have nc : ¬ (ngF A d of n = -1 ∨ (A 156 (ngF A d of n).toNat = 0 ∧ A 156 n ≠ 0) ∨ (A 156 (ngF A d of n).toNat = A 156 n ∧ A 157 n < A 157 (ngF A d of n).toNat)) := by
          rintro (w | w | w)
          · omega
          · omega
          · exact f w.2
        rw [u1, if_pos nb, if_neg nc]
    · rw [if_neg (fun z => e z.1.1)] at u1
      have nc : ¬ (ngF A d of n = -1 ∨ (A 156 (ngF A d of n).toNat = 0 ∧ A 156 n ≠ 0) ∨ (A 156 (ngF A d of n).toNat = A 156 n ∧ A 157 n < A 157 (ngF A d of n).toNat)) := by
        rintro (w | w | w)
        · omega
        · omega
        · omega
      rw [u1, if_pos nb, if_neg nc]
section
variable {K : Hp} {D : Nat} {N M : Nat → Nat} {X : Nat → Nat → Nat → Int} {Z : Nat → Nat → Nat} {C : Nat → Nat → List Int} {Wd : Nat → List Int} {A : Nat → Nat → Int} {h : Hp}
/-- B is what the model's memory is to be, as far as gifts are spent -/
theorem isFor_x {p2 : Int} {i : Nat} {B : Nat → Nat → Int} (x : XS K D N M X Z C Wd A h) (e20 : X 0 0 20 = A 75 1) (now : 0 ≤ A 75 1) (r : Rl11 (N 11) (X 11) B) (hi : i < N 11) : oX1_isFor (Z 11 i) p2 h ∧ (vX1_isFor (Z 11 i) p2 h ≠ 0 ↔ ((B 156 i = p2 ∨ B 156 i = 0) ∧ 0 < B 155 i ∧ A 75 1 / 96 ≤ B 157 i)) := by
  have l := x.le 11
  obtain ⟨y1, y2, y3⟩ := r.2.2 i hi
  refine ⟨x.obj 11 i (by omega), ?_⟩
  unfold vX1_isFor b2i
  rw [x.int 11 i 0 (by omega), x.int 11 i 1 (by omega), x.int 11 i 2 (by omega), y1.1, y2.1, y3.1, x.sc 20, e20, Int.tdiv_eq_ediv_of_nonneg now]
  split <;> omega
theorem x_next {p2 : Int} {B : Nat → Nat → Int} {Q : Rs → Hp → Prop} (x : XS K D N M X Z C Wd A h) (e20 : X 0 0 20 = A 75 1) (now : 0 ≤ A 75 1) (r : Rl11 (N 11) (X 11) B) (hp : 1 ≤ p2) (hs : 0 < sgF B (A 75 1 / 96) p2 (N 11)) (k : Q (rV (vR (Z 11 (pck B (A 75 1 / 96) p2 (N 11)).toNat))) h) : mX1_next p2 h Q := by
  have l := x.le 11
  have e : vJ2_size 64 h = N 11 := x.size 11
  have n12 := r.2.1
  unfold mX1_next
  rw [e]
  refine fp2 (N 11) (fun n => if pck B (A 75 1 / 96) p2 n = -1 then 0 else Z 11 (pck B (A 75 1 / 96) p2 n).toNat) (fun R i hi hR => ?_) (fun R => ?_)
  · refine ⟨x.osize 11, ?_⟩
    rw [if_pos (by omega)]
    have g : vJ2_get 64 (i : Int) h = Z 11 i := x.get 11 (by omega) (by omega)
    rw [g]
    refine ⟨x.oget 11 (by omega) (by omega), x.obj 11 i (by omega), ?_⟩
    rintro r0 rfl
    obtain ⟨f1, f2⟩ := isFor_x (p2 := p2) x e20 now r hi
    refine ⟨f1, ?_⟩
    have pu := pck_up (A := B) (d := A 75 1 / 96) (of := p2) (by omega) i
    have hR : R (if pck B (A 75 1 / 96) p2 (i + 1) = -1 then 0 else Z 11 (pck B (A 75 1 / 96) p2 (i + 1)).toNat) ((i : Int) + 1) := hR
    by_cases c : (B 156 i = p2 ∨ B 156 i = 0) ∧ 0 < B 155 i ∧ A 75 1 / 96 ≤ B 157 i
    · rw [if_neg (fun z => z (f2.2 c))]
      have c0 : ¬ ¬ ((B 156 i = p2 ∨ B 156 i = 0) ∧ 0 < B 155 i ∧ A 75 1 / 96 ≤ B 157 i) := fun z => z c
      rw [if_neg c0] at pu
      have pr : pck B (A 75 1 / 96) p2 i = -1 ∨ (0 ≤ pck B (A 75 1 / 96) p2 i ∧ pck B (A 75 1 / 96) p2 i < i) := by
        unfold pck
        have b1 := ng_ok B (A 75 1 / 96) p2 i
        have b2 := ng_ok B (A 75 1 / 96) 0 i
        split <;> omega
      obtain ⟨y1, y2, y3⟩ := r.2.2 i hi
      rcases pr with pr | pr
      · rw [if_pos (Or.inl pr)] at pu
        have hni : ¬ ((i : Int) = -1) := by omega
        rw [pu, if_neg hni, Int.toNat_natCast] at hR
        rw [if_pos pr]
        refine ⟨Or.inl rfl, fun z => absurd rfl z, ?_⟩
        rintro r1 rfl
        refine ⟨⟨by omega, by omega⟩, ?_⟩
        rintro j rfl
        rw [if_pos (Or.inl rfl)]
        exact hR
      · have np : pck B (A 75 1 / 96) p2 i ≠ -1 := by omega
        have lt : (pck B (A 75 1 / 96) p2 i).toNat < N 11 := by omega
        obtain ⟨w1, w2, w3⟩ := r.2.2 _ lt
        have ob2 := x.obj 11 _ (show (pck B (A 75 1 / 96) p2 i).toNat < M 11 by omega)
        have big := x.big 11 _ (show (pck B (A 75 1 / 96) p2 i).toNat < M 11 by omega)
        rw [if_neg np]
        rw [x.int 11 i 0 (by omega), x.int 11 i 1 (by omega), x.int 11 _ 0 (by omega), x.int 11 _ 1 (by omega), y1.1, y2.1, w1.1, w2.1]
        refine ⟨rok_ob ob2 (by decide), fun _ => ⟨ob2, fun _ => x.obj 11 i (by omega), fun _ => x.obj 11 i (by omega)⟩, ?_⟩
        rintro r1 rfl
        refine ⟨⟨by omega, by omega⟩, ?_⟩
        rintro j rfl
        by_cases d : pck B (A 75 1 / 96) p2 i = -1 ∨ (B 156 (pck B (A 75 1 / 96) p2 i).toNat = 0 ∧ B 156 i ≠ 0) ∨ (B 156 (pck B (A 75 1 / 96) p2 i).toNat = B 156 i ∧ B 157 i < B 157 (pck B (A 75 1 / 96) p2 i).toNat)
        · have hni : ¬ ((i : Int) = -1) := by omega
          rw [if_pos d] at pu
          rw [pu, if_neg hni, Int.toNat_natCast] at hR
          rw [if_pos (by omega)]
          exact hR
        · rw [if_neg d] at pu
          rw [pu, if_neg np] at hR
          rw [if_neg (by omega)]
          exact hR
    · rw [if_pos (fun z => c (f2.1 z))]
      rw [if_pos c] at pu
      rw [pu] at hR
      refine ⟨⟨by omega, by omega⟩, ?_⟩
      rintro j rfl
      exact hR
  · refine ⟨x.osize 11, ?_⟩
    rw [if_neg (by omega)]
    have pk := pck_ok hs
    have np : ¬ (pck B (A 75 1 / 96) p2 (N 11) = -1) := by omega
    rw [if_neg np]
    exact k
theorem x_spend {T : Nat} {Q : Rs → Hp → Prop} (x : XS K D N N X Z C Wd A h) (r : Rel T N X C Wd A) (hD : D ≤ 780000) {p1 p2 : Int} (k : ∀ h', OpV K T (D + 12000) A (gSpend A p1 p2).2 h' → Q (rV (vI (gSpend A p1 p2).1)) h') : mX1_spend p1 p2 h Q := by
  obtain ⟨r0, r1, r2, r3, r4, r5, r6, r7, r8, r9, r10, r11, rw0⟩ := id r
  obtain ⟨q1, q2, q3⟩ := id r11
  have now := r0.1
  have e : vJ2_size 64 h = N 11 := x.size 11
  unfold mX1_spend
  unfold gSpend at k
  simp only [in_0, in_1]
  by_cases c : p1 < 1 ∨ 99999 < p1 ∨ p2 < 1 ∨ 3 < p2
  · rw [if_pos c] at k
    rw [if_pos (by omega)]
    exact k _ ⟨N, X, Z, C, Wd, x.more (by omega) (by omega), r.thr 0⟩
  rw [if_neg c] at k
  rw [if_neg (by omega), e]
  rw [q1, Int.toNat_natCast] at k
  have srng : ∀ n, n ≤ N 11 → 0 ≤ sgF A (A 75 1 / 96) p2 n ∧ sgF A (A 75 1 / 96) p2 n ≤ 99999 * n := by
    intro n
    induction n with
    | zero => intro _; exact ⟨by show (0 : Int) ≤ 0; decide, by show (0 : Int) ≤ _; omega⟩
    | succ n ih =>
      intro hn
      have i := ih (by omega)
      have q := (q3 n (by omega)).2.2
      show 0 ≤ (if (A 156 n = p2 ∨ A 156 n = 0) ∧ A 75 1 / 96 ≤ A 157 n then sgF A (A 75 1 / 96) p2 n + A 155 n else sgF A (A 75 1 / 96) p2 n) ∧ (if (A 156 n = p2 ∨ A 156 n = 0) ∧ A 75 1 / 96 ≤ A 157 n then sgF A (A 75 1 / 96) p2 n + A 155 n else sgF A (A 75 1 / 96) p2 n) ≤ _
      split <;> omega
  refine fp2 (N 11) (sgF A (A 75 1 / 96) p2) (fun R i hi hR => ?_) (fun R => ?_)
  · refine ⟨x.osize 11, ?_⟩
    rw [if_pos (by omega)]
    have g : vJ2_get 64 (i : Int) h = Z 11 i := x.get 11 (by omega) (by omega)
    have sr := srng i (by omega)
    obtain ⟨y1, y2, y3⟩ := q3 i hi
    obtain ⟨f1, f2⟩ := isFor_x (p2 := p2) x now.1 now.2.1 r11 hi
    rw [g, x.int 11 i 2 hi, y3.1]
    refine ⟨x.oget 11 (by omega) (by omega), x.obj 11 i hi, f1, fun _ => ⟨by omega, by omega⟩, ?_⟩
    rintro v rfl
    refine ⟨⟨by omega, by omega⟩, ?_⟩
    rintro j rfl
    have : (if ¬ (vX1_isFor (Z 11 i) p2 h = 0) then sgF A (A 75 1 / 96) p2 i + A 155 i else sgF A (A 75 1 / 96) p2 i) = sgF A (A 75 1 / 96) p2 (i + 1) := by
      show _ = if (A 156 i = p2 ∨ A 156 i = 0) ∧ A 75 1 / 96 ≤ A 157 i then sgF A (A 75 1 / 96) p2 i + A 155 i else sgF A (A 75 1 / 96) p2 i
      by_cases d : (A 156 i = p2 ∨ A 156 i = 0) ∧ A 75 1 / 96 ≤ A 157 i
      · rw [if_pos d]
        by_cases z : 0 < A 155 i
        · rw [if_pos (f2.2 ⟨d.1, z, d.2⟩)]
        · rw [if_neg (fun w => z (f2.1 w).2.1)]
          omega
      · rw [if_neg d, if_neg (fun w => d ⟨(f2.1 w).1, (f2.1 w).2.2⟩)]
    rw [this]
    exact hR
  · refine ⟨x.osize 11, ?_⟩
    rw [if_neg (by omega)]
    by_cases d : sgF A (A 75 1 / 96) p2 (N 11) < p1
    · rw [if_pos d] at k
      rw [if_pos (by omega)]
      exact k _ ⟨N, X, Z, C, Wd, x.more (by omega) (by omega), r.thr 0⟩
    rw [if_neg d] at k
    rw [if_neg (by omega)]
    have s0 : sgF (uA A 75 0 0) (A 75 1 / 96) p2 (N 11) = sgF A (A 75 1 / 96) p2 (N 11) := by
      have : ∀ n, sgF (uA A 75 0 0) (A 75 1 / 96) p2 n = sgF A (A 75 1 / 96) p2 n := by
        intro n
        induction n with
        | zero => rfl
        | succ n ih =>
          show (if (A 156 n = p2 ∨ A 156 n = 0) ∧ A 75 1 / 96 ≤ A 157 n then sgF (uA A 75 0 0) (A 75 1 / 96) p2 n + A 155 n else sgF (uA A 75 0 0) (A 75 1 / 96) p2 n) = if (A 156 n = p2 ∨ A 156 n = 0) ∧ A 75 1 / 96 ≤ A 157 n then sgF A (A 75 1 / 96) p2 n + A 155 n else sgF A (A 75 1 / 96) p2 n
          rw [ih]
      exact this _
    refine wh2_of (fun (rest : Int) g => ∃ (B : Nat → Nat → Int) (Y : Nat → Nat → Nat → Int) (f : Nat), XS K D N N Y Z C Wd A g ∧ (∀ c, c ≠ 11 → Y c = X c) ∧ Rl11 (N 11) (Y 11) B ∧ (∀ a, a ≠ 155 → B a = uA A 75 0 0 a) ∧ rest ≤ f ∧ rest ≤ 99999 ∧ 0 ≤ rest ∧ rest ≤ sgF B (A 75 1 / 96) p2 (N 11) ∧ spI (A 75 1 / 96) p2 (N 11) f rest B = spI (A 75 1 / 96) p2 (N 11) p1.toNat p1 (uA A 75 0 0)) (fun rest _ => rest.toNat) ?_ ⟨uA A 75 0 0, X, p1.toNat, x, fun _ _ => rfl, r11, fun _ _ => rfl, by omega, by omega, by omega, by rw [s0]; omega, rfl⟩
    rintro R rest g ⟨B, Y, f, y, hY, rB, eB, hf, hr9, hr0, hrs, hSp⟩ kk
    by_cases z : rest ≤ 0
    · rw [if_neg (by omega)]
      have : spI (A 75 1 / 96) p2 (N 11) f rest B = B := by
        cases f with
        | zero => rfl
        | succ f => exact if_pos z
      rw [this] at hSp
      rw [← hSp] at k
      refine k _ ⟨N, Y, Z, C, Wd, y.more (by omega) (by omega), ?_⟩
      obtain ⟨t0, t1, t2, t3, t4, t5, t6, t7, t8, t9, t10, t11, tw⟩ := r.thr 0
      have sB : ∀ a, a ≠ 155 → uA A 75 0 0 a = B a := fun a ha => (eB a ha).symm
      have rr : Rel (T + 1) N X C Wd (fun a => if a = 155 then uA A 75 0 0 155 else B a) := by
        have : (fun a => if a = 155 then uA A 75 0 0 155 else B a) = uA A 75 0 0 := by
          funext a
          by_cases w : a = 155
          · rw [if_pos w, w]
          · rw [if_neg w, eB a w]
        rw [this]
        exact ⟨t0, t1, t2, t3, t4, t5, t6, t7, t8, t9, t10, t11, tw⟩
      obtain ⟨t0, t1, t2, t3, t4, t5, t6, t7, t8, t9, t10, t11, tw⟩ := rr
      unfold Rel
      rw [hY 0 (by decide), hY 1 (by decide), hY 2 (by decide), hY 3 (by decide), hY 4 (by decide), hY 6 (by decide), hY 7 (by decide), hY 8 (by decide), hY 9 (by decide), hY 10 (by decide)]
      exact ⟨t0, t1, t2, t3, t4, t5, t6, t7, t8, t9, t10, rB, tw⟩
    · rw [if_pos (by omega)]
      have pk := pck_ok (A := B) (d := A 75 1 / 96) (of := p2) (n := N 11) (by omega)
      have e20 : Y 0 0 20 = A 75 1 := by rw [hY 0 (by decide)]; exact now.1
      refine x_next y e20 now.2.1 rB (by omega) (by omega) ?_
      have lt : (pck B (A 75 1 / 96) p2 (N 11)).toNat < N 11 := by omega
      obtain ⟨w1, w2, w3⟩ := rB.2.2 _ lt
      rw [kR_v, y.int 11 _ 2 lt, w3.1]
      refine ⟨y.obj 11 _ lt, ?_⟩
      rintro v rfl
      have ec : vJ4_min rest (B 155 (pck B (A 75 1 / 96) p2 (N 11)).toNat) g = (if rest < B 155 (pck B (A 75 1 / 96) p2 (N 11)).toNat then rest else B 155 (pck B (A 75 1 / 96) p2 (N 11)).toNat) := by
        unfold vJ4_min
        split <;> split <;> omega
      rw [ec]
      refine ⟨⟨by split <;> omega, by split <;> omega⟩, ?_⟩
      rintro g1 rfl
      refine ⟨⟨by split <;> omega, by split <;> omega⟩, ?_⟩
      rintro v rfl
      have hSp2 : spI (A 75 1 / 96) p2 (N 11) f rest B = spI (A 75 1 / 96) p2 (N 11) (f - 1) (rest - (if rest < B 155 (pck B (A 75 1 / 96) p2 (N 11)).toNat then rest else B 155 (pck B (A 75 1 / 96) p2 (N 11)).toNat)) (uA B 155 (pck B (A 75 1 / 96) p2 (N 11)).toNat (B 155 (pck B (A 75 1 / 96) p2 (N 11)).toNat - (if rest < B 155 (pck B (A 75 1 / 96) p2 (N 11)).toNat then rest else B 155 (pck B (A 75 1 / 96) p2 (N 11)).toNat))) := by
        obtain ⟨f0, rfl⟩ : ∃ f0, f = f0 + 1 := ⟨f - 1, by omega⟩
        exact if_neg z
      rw [hSp2] at hSp
      refine kk _ _ ⟨uA B 155 (pck B (A 75 1 / 96) p2 (N 11)).toNat (B 155 (pck B (A 75 1 / 96) p2 (N 11)).toNat - (if rest < B 155 (pck B (A 75 1 / 96) p2 (N 11)).toNat then rest else B 155 (pck B (A 75 1 / 96) p2 (N 11)).toNat)), _, f - 1, y.setI 11 _ 2 _ lt, fun c hc => (uX_c hc).trans (hY c hc), ⟨rB.1, rB.2.1, fun i hi => ?_⟩, fun a ha => (uA_a ha).trans (eB a ha), ?_, ?_, ?_, ?_, hSp⟩ ?_
      · obtain ⟨v1, v2, v3⟩ := rB.2.2 i hi
        by_cases w : i = (pck B (A 75 1 / 96) p2 (N 11)).toNat
        · subst w
          simp [uX, uA]
          refine ⟨v1, v2, ?_⟩
          split <;> omega
        · simpa [uX, uA, w] using rB.2.2 i hi
      · split <;> omega
      · split <;> omega
      · split <;> omega
      · rw [sg_upd ⟨pk.2.2.2.1, pk.2.2.2.2⟩, if_pos lt]
        omega
      · split <;> omega
end
