set_option maxRecDepth 100000
set_option maxHeartbeats 1000000
/-! SPECS, 2: lists -/
/-- the list at l has n elements E 0 .. E (n-1); its array; how often it was changed, at most -/
def LOk (h : Hp) (l n : Nat) (E : Nat → Nat) (B : Nat) : Prop := ob h l 32 ∧ 50 ≤ l ∧ hI h l 2 = n ∧ (0 ≤ hI h l 0 ∧ hI h l 0 ≤ B) ∧ ((hR h l 1 = 2 ∧ n = 0 ∧ hN h 2 = 0) ∨ 50 ≤ hR h l 1) ∧ ob h (hR h l 1) 74 ∧ n ≤ hN h (hR h l 1) ∧ 2 * hN h (hR h l 1) ≤ 3 * n + 20 ∧ (∀ i, i < n → hR h (hR h l 1) i = E i) ∧ ∀ i, i < hN h (hR h l 1) → rOb h (hR h (hR h l 1) i)
theorem LOk.size {h : Hp} {l n : Nat} {E : Nat → Nat} {B : Nat} (L : LOk h l n E B) : vJ2_size l h = n := L.2.2.1
theorem LOk.osize {h : Hp} {l n : Nat} {E : Nat → Nat} {B : Nat} (L : LOk h l n E B) : oJ2_size l h := L.1
theorem LOk.get {h : Hp} {l n : Nat} {E : Nat → Nat} {B : Nat} (L : LOk h l n E B) {i : Int} (h0 : 0 ≤ i) (h1 : i < n) : vJ2_get l i h = E i.toNat := L.2.2.2.2.2.2.2.2.1 _ (by omega)
theorem LOk.oget {h : Hp} {l n : Nat} {E : Nat → Nat} {B : Nat} (L : LOk h l n E B) {i : Int} (h0 : 0 ≤ i) (h1 : i < n) : oJ2_get l i h := by
  obtain ⟨l1, l2, l3, l4, l5, l6, l7, l8, l9, l10⟩ := L
  refine ⟨l1, ?_, l1, l6, h0, by omega⟩
  show ¬ (i < 0) ∧ i < hI h l 2
  rw [l3]
  omega
theorem rOb_mono {h k : Hp} {r : Nat} (hn1 : hn h ≤ hn k) (ht : ∀ a, a < hn h → hT k a = hT h a) (p : rOb h r) : rOb k r := by
  rcases p with p | ⟨p1, p2, p3⟩
  · exact Or.inl p
  · exact Or.inr ⟨p1, Nat.lt_of_lt_of_le p2 hn1, by rw [ht r p2]; exact p3⟩
theorem rOo_mono {h k : Hp} {r : Nat} (hn1 : hn h ≤ hn k) (ht : ∀ a, a < hn h → hT k a = hT h a) (p : rOo h r) : rOo k r := ⟨p.1, Nat.lt_of_lt_of_le p.2.1 hn1, by rw [ht r p.2.1]; exact p.2.2⟩
/-- a list that isn't touched stays -/
theorem LOk.frame {h k : Hp} {l n : Nat} {E : Nat → Nat} {B : Nat} (L : LOk h l n E B) (hn1 : hn h ≤ hn k) (ht : ∀ a, a < hn h → hT k a = hT h a) (s1 : same h k l) (s2 : same h k (hR h l 1)) : LOk k l n E B := by
  obtain ⟨l1, l2, l3, l4, l5, l6, l7, l8, l9, l10⟩ := L
  have e1 : hR k l 1 = hR h l 1 := congrFun s1.2.2.1 1
  have e2 : hN k (hR h l 1) = hN h (hR h l 1) := s2.2.2.2.2
  have e3 : hR k (hR h l 1) = hR h (hR h l 1) := s2.2.2.1
  have e4 : hI k l = hI h l := s1.1
  refine ⟨s1.ob hn1 l1, l2, by rw [e4]; exact l3, by rw [e4]; exact l4, ?_, by rw [e1]; exact s2.ob hn1 l6, by rw [e1, e2]; exact l7, by rw [e1, e2]; exact l8, fun i hi => by rw [e1, e3]; exact l9 i hi, fun i hi => ?_⟩
  · rw [e1]
    rcases l5 with ⟨z1, z2, z3⟩ | z
    · refine Or.inl ⟨z1, z2, ?_⟩
      rw [z1] at e2
      rw [e2]
      exact z3
    · exact Or.inr z
  · rw [e1, e2] at hi
    rw [e1, e3]
    exact rOb_mono hn1 ht (l10 i hi)
/-- a list's array grows -/
theorem grow_of {h : Hp} {l n : Nat} {Q : Rs → Hp → Prop} (l1 : ob h l 32) (l5 : (hR h l 1 = 2 ∧ n = 0 ∧ hN h 2 = 0) ∨ 50 ≤ hR h l 1) (l6 : ob h (hR h l 1) 74) (l7 : hN h (hR h l 1) = n) (l10 : ∀ i, i < n → rOb h (hR h (hR h l 1) i)) (hnn : n ≤ 10000) (k50 : 50 ≤ hn h) (k2 : hT h 2 = 74) (c1 : hn h + 1 ≤ 878547) (c2 : hq h + (2 * n + 20) ≤ 6460613)
    (k : ∀ g, hR g l 1 = hn h → ob g (hn h) 74 → n < hN g (hn h) → 2 * hN g (hn h) ≤ 3 * (n + 1) + 20 → (∀ i, i < n → hR g (hn h) i = hR h (hR h l 1) i) → (∀ i, n ≤ i → hR g (hn h) i = 0) → hI g l = hI h l → (∀ b, b < hn h → b ≠ l → same h g b) → (∀ b, b < hn h → hT g b = hT h b ∧ hN g b = hN h b) → hn g = hn h + 1 → hq h ≤ hq g → hq g ≤ hq h + (2 * n + 20) → Q (rV (vR (hn h))) g) : mJ2_grow_2 l ((n : Int) + 1) h Q := by
  have la : l < hn h := l1.2.1
  have aa : hR h l 1 < hn h := l6.2.1
  unfold mJ2_grow_2
  refine ⟨l1, l6, ⟨by omega, by omega⟩, ?_⟩
  rintro v rfl
  rw [l7]
  refine ⟨?_, ?_⟩
  · intro z
    rcases l5 with w | w
    · exact Or.inl w.1
    · refine Or.inr ⟨?_, ?_, Or.inl w⟩
      · exact Or.inr ⟨l6.1, l6.2.1, Or.inr ⟨by rw [l6.2.2]; decide, by rw [l6.2.2]; decide⟩⟩
      · exact Or.inr ⟨by decide, by omega, Or.inr ⟨by rw [k2]; decide, by rw [k2]; decide⟩⟩
  by_cases hc : 0 < (n : Int) ∨ ¬ (hR h l 1 = 2)
  · rw [if_pos hc]
    have w50 : 50 ≤ hR h l 1 := by
      rcases l5 with w | w
      · exfalso
        rcases hc with z | z
        · omega
        · exact z w.1
      · exact w
    have e1 : ishr (n : Int) 1 = (n : Int) / 2 := ishr_1 ⟨by omega, by omega⟩
    have e2 : ∀ g, vJ4_max ((n : Int) + 1 - n) ((n : Int) / 2) g = if n < 4 then 1 else (n : Int) / 2 := by
      intro g
      unfold vJ4_max
      by_cases z : n < 4
      · rw [if_pos z, if_pos (by omega)]
        omega
      · rw [if_neg z, if_neg (by omega)]
    rw [e1]
    unfold oJ3_newLength vJ3_newLength
    rw [e2]
    refine ⟨⟨by omega, by omega⟩, ⟨⟨?_, ?_⟩, ?_, ?_⟩, ?_⟩
    · split <;> omega
    · split <;> omega
    · split <;> omega
    · split <;> omega
    rintro v rfl
    obtain ⟨m, hm, hm1, hm2⟩ : ∃ m : Nat, (n : Int) + (if n < 4 then 1 else (n : Int) / 2) = m ∧ n < m ∧ 2 * m ≤ 3 * (n + 1) + 20 := by
      by_cases z : n < 4
      · exact ⟨n + 1, by rw [if_pos z]; omega, by omega, by omega⟩
      · exact ⟨n + n / 2, by rw [if_neg z]; omega, by omega, by omega⟩
    rw [hm]
    refine ⟨l6, Or.inl w50, Or.inl rfl, fun z => z rfl, by omega, by omega, c1, by show hq h + (m : Int).toNat ≤ _; rw [Int.toNat_natCast]; omega, ?_⟩
    rintro r rfl g0 rfl
    rw [Int.toNat_natCast]
    have o1 : ob (nw h 74 m m) (hR h l 1) 74 := ob_nw rfl l6
    have nl1 : hN (nw h 74 m m) (hR h l 1) = n := by rw [hN_nw, if_neg (by omega)]; exact l7
    have nl2 : hN (nw h 74 m m) (hn h) = m := by rw [hN_nw, if_pos rfl]
    have e3 : ∀ g, vJ4_min (n : Int) (m : Int) g = n := by
      intro g
      unfold vJ4_min
      rw [if_pos (by omega)]
    rw [nl1, nl2, e3]
    refine ⟨o1, ⟨by omega, by omega⟩, by omega, by omega, by omega, ?_, ?_⟩
    · intro i hi
      rw [Int.toNat_natCast] at hi
      rw [hR_nw, if_neg (by omega), Nat.zero_add]
      exact rOb_mono (by rw [hn_nw]; omega) (fun a ha => by rw [hT_nw, if_neg (by omega)]) (l10 i hi)
    rintro g1 rfl
    rw [Int.toNat_natCast]
    refine ⟨ob_cpR rfl (ob_nw rfl l1), ?_⟩
    rintro g2 rfl
    refine k _ ?_ ?_ ?_ ?_ ?_ ?_ ?_ ?_ ?_ ?_ ?_ ?_
    · rw [hR_sR, if_pos ⟨rfl, rfl⟩]
    · exact (ob_nw_self (h := h) rfl (by omega) : ob (nw h 74 _ _) (hn h) 74)
    · rw [hN_sR, hN_cpR, nl2]; exact hm1
    · rw [hN_sR, hN_cpR, nl2]; exact hm2
    · intro i hi
      rw [hR_sR, if_neg (by omega), hR_cpR, if_pos ⟨rfl, by omega, by omega⟩, hR_nw, if_neg (by omega)]
      congr 1
      omega
    · intro i hi
      rw [hR_sR, if_neg (by omega), hR_cpR, if_neg (by omega), hR_nw, if_pos rfl]
    · funext i
      show hI (nw h 74 m m) l i = _
      rw [hI_nw, if_neg (by omega)]
    · intro b hb hbl
      exact (same_nw (by omega)).trans ((same_cpR (by omega)).trans (same_sR hbl))
    · intro b hb
      exact ⟨by rw [hT_sR, hT_cpR, hT_nw, if_neg (by omega)], by rw [hN_sR, hN_cpR, hN_nw, if_neg (by omega)]⟩
    · rfl
    · show hq h ≤ hq h + m
      omega
    · show hq h + m ≤ _
      omega
  · rw [if_neg hc]
    have z2 : hR h l 1 = 2 := Classical.byContradiction fun z => hc (Or.inr z)
    have n0 : n = 0 := by
      have : ¬ (0 < (n : Int)) := fun z => hc (Or.inl z)
      omega
    have e3 : ∀ g, vJ4_max 10 ((n : Int) + 1) g = 10 := by
      intro g
      unfold vJ4_max
      rw [if_pos (by omega)]
    rw [e3]
    refine ⟨by decide, by decide, c1, by show hq h + 10 ≤ _; omega, ?_⟩
    rintro r rfl g0 rfl g1 rfl
    refine k _ ?_ ?_ ?_ ?_ ?_ ?_ ?_ ?_ ?_ ?_ ?_ ?_
    · rw [hR_sR, if_pos ⟨rfl, rfl⟩]
    · exact (ob_nw_self (h := h) rfl (by omega) : ob (nw h 74 _ _) (hn h) 74)
    · rw [hN_sR, hN_nw, if_pos rfl, n0]; decide
    · rw [hN_sR, hN_nw, if_pos rfl, n0]; decide
    · intro i hi
      omega
    · intro i hi
      rw [hR_sR, if_neg (by omega), hR_nw, if_pos rfl]
    · funext i
      show hI (nw h 74 10 10) l i = _
      rw [hI_nw, if_neg (by omega)]
    · intro b hb hbl
      exact (same_nw (by omega)).trans (same_sR hbl)
    · intro b hb
      exact ⟨by rw [hT_sR, hT_nw, if_neg (by omega)], by rw [hN_sR, hN_nw, if_neg (by omega)]⟩
    · rfl
    · show hq h ≤ hq h + 10
      omega
    · show hq h + 10 ≤ _
      omega
/-- one more element -/
theorem LOk.add {h : Hp} {l n : Nat} {E : Nat → Nat} {B r : Nat} {Q : Rs → Hp → Prop} (L : LOk h l n E B) (hr : rOo h r) (hB : B ≤ 100000) (hnn : n ≤ 10000) (k50 : 50 ≤ hn h) (k2 : hT h 2 = 74) (c1 : hn h + 1 ≤ 878547) (c2 : hq h + (2 * n + 20) ≤ 6460613)
    (k : ∀ h', LOk h' l (n + 1) (fun i => if i = n then r else E i) (B + 1) → (∀ a, a < hn h → a ≠ l → a ≠ hR h' l 1 → same h h' a) → (∀ a, a < hn h → hT h' a = hT h a ∧ hN h' a = hN h a) → hn h ≤ hn h' → hn h' ≤ hn h + 1 → hq h ≤ hq h' → hq h' ≤ hq h + (2 * n + 20) → ((hR h' l 1 = hR h l 1 ∧ 50 ≤ hR h l 1) ∨ hR h' l 1 = hn h) → Q (rV (vI 1)) h') : mJ2_add l r h Q := by
  obtain ⟨l1, l2, l3, l4, l5, l6, l7, l8, l9, l10⟩ := L
  have lt := l1.2.1
  unfold mJ2_add
  refine ⟨l1, ⟨by omega, by omega⟩, ?_⟩
  rintro h1 rfl
  have r1 : hR (sI h l 0 (hI h l 0 + 1)) l 1 = hR h l 1 := rfl
  have i2 : hI (sI h l 0 (hI h l 0 + 1)) l 2 = n := by
    rw [hI_sI, if_neg (by omega)]
    exact l3
  rw [r1, i2]
  unfold mJ2_add_2
  refine ⟨l6, ⟨by show (-2147483648 : Int) ≤ (hN h (hR h l 1) : Int); omega, by show (hN h (hR h l 1) : Int) ≤ 2147483647; omega⟩, ?_⟩
  have alen : hN (sI h l 0 (hI h l 0 + 1)) (hR h l 1) = hN h (hR h l 1) := rfl
  rw [alen]
  refine jn2_of (fun a g => ob g l 32 ∧ hI g l 0 = hI h l 0 + 1 ∧ hR g l 1 = a ∧ 50 ≤ a ∧ ob g a 74 ∧ n < hN g a ∧ 2 * hN g a ≤ 3 * (n + 1) + 20 ∧ (∀ i, i < n → hR g a i = E i) ∧ (∀ i, i < hN g a → rOb g (hR g a i)) ∧ (∀ b, b < hn h → b ≠ l → same h g b) ∧ (∀ b, b < hn h → hT g b = hT h b ∧ hN g b = hN h b) ∧ hn h ≤ hn g ∧ hn g ≤ hn h + 1 ∧ hq h ≤ hq g ∧ hq g ≤ hq h + (2 * n + 20) ∧ ((a = hR h l 1 ∧ 50 ≤ hR h l 1) ∨ a = hn h)) (fun a g p => ?_) (fun K hK => ?_)
  · obtain ⟨p1, p2, p3, p4, p5, p6, p7, p8, p9, p10, p11, p12, p13, p14, p15, p16⟩ := p
    have ro : rOo g r := rOo_mono p12 (fun b hb => (p11 b hb).1) hr
    refine ⟨p5, p4, ro, by omega, by omega, ?_⟩
    rintro g1 rfl
    refine ⟨⟨by omega, by omega⟩, p1, ?_⟩
    rintro g2 rfl
    have al : a ≠ l := by
      intro z
      have h1 := p5.2.2
      have h2 := p1.2.2
      rw [z, h2] at h1
      cases h1
    have e1 : hR (sI (sR g a (n : Int).toNat r) l 2 ((n : Int) + 1)) l 1 = a := by
      rw [hR_sI, hR_sR, if_neg (fun z => al z.1.symm)]
      exact p3
    have hnat : (n : Int).toNat = n := by simp
    refine k _ ⟨p1, l2, ?_, ?_, ?_, ?_, ?_, ?_, fun i hi => ?_, fun i hi => ?_⟩ (fun b hb hb1 hb2 => ?_) (fun b hb => p11 b hb) p12 p13 p14 p15 ?_
    · rw [hI_sI, if_pos ⟨rfl, rfl⟩]
      omega
    · rw [hI_sI, if_neg (by omega), hI_sR, p2]
      omega
    · rw [e1]
      exact Or.inr p4
    · rw [e1]
      exact p5
    · rw [e1]
      exact p6
    · rw [e1]
      exact p7
    · rw [e1, hR_sI, hR_sR, hnat]
      by_cases z : i = n
      · rw [if_pos ⟨rfl, z⟩]; exact (if_pos z).symm
      · rw [if_neg (fun w => z w.2)]
        exact (p8 i (by omega)).trans (if_neg z).symm
    · rw [e1] at hi ⊢
      rw [hR_sI, hR_sR, hnat]
      by_cases z : i = n
      · rw [if_pos ⟨rfl, z⟩]
        exact Or.inr ro
      · rw [if_neg (fun w => z w.2)]
        exact p9 i hi
    · have ba : b ≠ a := by
        rw [e1] at hb2
        exact hb2
      exact ((p10 b hb hb1).trans (same_sR ba)).trans (same_sI hb1)
    · rw [e1]
      exact p16
  · by_cases hc : n = hN h (hR h l 1)
    · rw [if_pos (by omega)]
      refine ⟨l1, l1, ?_, ?_⟩
      · rw [i2]; exact ⟨by omega, by omega⟩
      rw [i2]
      refine grow_of (h := sI h l 0 (hI h l 0 + 1)) l1 l5 l6 (by rw [r1, alen]; exact hc.symm) (fun i hi => l10 i (by rw [← hc]; exact hi)) hnn k50 k2 c1 c2 ?_
      intro g q1 q2 q3 q4 q5 q6 q7 q8 q9 q10 q11 q12
      have ob1 : ob g l 32 := ⟨l1.1, by rw [q10]; exact Nat.lt_succ_of_lt lt, by rw [(q9 l lt).1]; exact l1.2.2⟩
      refine hK _ _ ⟨ob1, by rw [q7, hI_sI, if_pos ⟨rfl, rfl⟩], q1, k50, q2, q3, q4, fun i hi => by rw [q5 i hi]; exact l9 i hi, fun i hi => ?_, fun b hb hb1 => (same_sI hb1).trans (q8 b hb hb1), fun b hb => q9 b hb, by rw [q10]; exact Nat.le_succ _, by rw [q10]; exact Nat.le_refl _, q11, q12, Or.inr rfl⟩
      by_cases z : i < n
      · rw [q5 i z]
        exact rOb_mono (h := h) (by rw [q10]; exact Nat.le_succ _) (fun a ha => (q9 a ha).1) (l10 i (by omega))
      · rw [q6 i (by omega)]
        exact Or.inl rfl
    · rw [if_neg (by omega)]
      refine hK _ _ ⟨l1, by rw [hI_sI, if_pos ⟨rfl, rfl⟩], r1, ?_, l6, by rw [alen]; omega, by rw [alen]; omega, fun i hi => l9 i hi, fun i hi => l10 i hi, fun b hb hb1 => same_sI hb1, fun b hb => ⟨rfl, rfl⟩, Nat.le_refl _, Nat.le_succ _, Nat.le_refl _, Nat.le_add_right _ _, ?_⟩
      · rcases l5 with ⟨z1, z2, z3⟩ | z
        · rw [z1, z3, z2] at hc
          exact absurd rfl hc
        · exact z
      · rcases l5 with ⟨z1, z2, z3⟩ | z
        · rw [z1, z3, z2] at hc
          exact absurd rfl hc
        · exact Or.inl ⟨rfl, z⟩
