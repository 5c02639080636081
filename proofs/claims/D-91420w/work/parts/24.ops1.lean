set_option maxRecDepth 100000
set_option maxHeartbeats 1000000
set_option linter.unusedSimpArgs false
set_option linter.unusedVariables false
/-! SPECS, 7: simple acts -/
def gPlace (A : Nat → Nat → Int) (p1 p2 p3 p4 : Int) : Int × (Nat → Nat → Int) := if A 75 2 = 12 ∨ p1 < 0 ∨ 99 < p1 ∨ p2 < 0 ∨ 99 < p2 ∨ p3 < 0 ∨ 2000 < p3 ∨ p4 < 0 ∨ 3 < p4 then (-1, uA A 75 0 0) else (A 75 2, uA (uA (uA (uA (uA (uA A 75 0 0) 76 (A 75 2).toNat p1) 77 (A 75 2).toNat p2) 78 (A 75 2).toNat p3) 79 (A 75 2).toNat p4) 75 2 (A 75 2 + 1))
section
variable {K : Hp} {D : Nat} {N M : Nat → Nat} {X : Nat → Nat → Nat → Int} {Z : Nat → Nat → Nat} {C : Nat → Nat → List Int} {Wd : Nat → List Int} {A : Nat → Nat → Int} {h : Hp}
theorem m_place {T : Nat} {p1 p2 p3 p4 : Int} {Q : Rs → Hp → Prop} (x : XS K D N M X Z C Wd A h) (r : Rl1 (N 1) (X 1) A) (k : ∀ h', XS K D N M X Z C Wd (gPlace A p1 p2 p3 p4).2 h' → Q (rV (vI (gPlace A p1 p2 p3 p4).1)) h') : mX4_place p1 p2 p3 p4 h Q := by
  have e := x.rd 75 2
  have r1 := r.1
  have r2 := r.2.1
  unfold mX4_place
  simp only [forall_eq, hI_sI, hI_sL, hI_sR, hI_nw, hL_sI, hL_sL, hL_sR, hL_nw, hR_sI, hR_sL, hR_sR, hR_nw, hT_sI, hT_sL, hT_sR, hN_sI, hN_sL, hN_sR, hn_sI, hn_sL, hn_sR, hq_sI, hq_sL, hq_sR, Nat.reduceEqDiff, false_and, and_false, true_and, and_true, and_self, if_false, if_true, reduceIte, ite_self]
  rw [e]
  unfold gPlace at k
  split
  · next c =>
    rw [if_pos (by omega)] at k
    exact k _ (by repeat (first | exact XS.mI (by assumption) (by decide) (by decide) | (refine XS.mI ?_ (by decide) (by first | decide | omega))))
  · next c =>
    rw [if_neg (by omega)] at k
    have a1 : 0 ≤ A 75 2 := by omega
    have a2 : A 75 2 < 12 := by omega
    refine ⟨a1, a2, a1, a2, a1, a2, a1, a2, ⟨by omega, by omega⟩, ⟨by omega, by omega⟩, ?_⟩
    rw [Int.add_sub_cancel]
    exact k _ (by repeat (first | exact XS.mI (by assumption) (by decide) (by decide) | (refine XS.mI ?_ (by decide) (by first | decide | omega))))
end
theorem in_0 (a b c : Int) (h : Hp) : vX1_in a b c h = 0 ↔ (a < b ∨ c < a) := by
  unfold vX1_in b2i
  split <;> omega
theorem in_1 (a b c : Int) (h : Hp) : vX1_in a b c h ≠ 0 ↔ (b ≤ a ∧ a ≤ c) := by
  unfold vX1_in b2i
  split <;> omega
def rwPlace (n p1 p2 p3 p4 : Int) : Nat → Int := fun f => if f = 0 then n else if f = 1 then p1 else if f = 2 then p2 else if f = 3 then p3 else if f = 4 then p4 % 2 else if f = 5 then p4 / 2 else 0
section
variable {K : Hp} {D : Nat} {N M : Nat → Nat} {X : Nat → Nat → Nat → Int} {Z : Nat → Nat → Nat} {C : Nat → Nat → List Int} {Wd : Nat → List Int} {A : Nat → Nat → Int} {h : Hp}
theorem x_place {T : Nat} {p1 p2 p3 p4 : Int} {Q : Rs → Hp → Prop} (x : XS K D N N X Z C Wd A h) (r : Rel T N X C Wd A) (hD : D ≤ 780000) (k : ∀ v h' N' X' Z' C' Wd', XS K (D + 12000) N' N' X' Z' C' Wd' A h' → Rel (T + 1) N' X' C' Wd' (gPlace A p1 p2 p3 p4).2 → v = (gPlace A p1 p2 p3 p4).1 → Q (rV (vI v)) h') : mX1_place p1 p2 p3 p4 h Q := by
  obtain ⟨⟨own, x⟩, xe⟩ := x
  obtain ⟨r0, r1, r2, r3, r4, r5, r6, r7, r8, r9, r10, r11, rw⟩ := r
  obtain ⟨b1, b2, b3, b4, b5, b6, b7⟩ := x.1
  obtain ⟨q1, q2, q3, q4⟩ := r1
  have e : vJ2_size 54 h = N 1 := x.size 1
  unfold mX1_place
  refine ⟨x.osize 1, ?_⟩
  rw [e]
  unfold gPlace at k
  simp only [in_0, in_1]
  split
  · next c =>
    rw [if_pos (by omega)] at k
    refine k _ _ N X Z C Wd ((XS.of x xe).more (by omega) (by omega)) ⟨r0.up, ⟨q1, q2, q3, q4⟩, r2, r3, r4, r5, r6, r7, r8, r9, r10, r11, rw⟩ rfl
  · next c =>
    rw [if_neg (by omega)] at k
    refine ⟨by omega, by omega, ?_⟩
    rintro r rfl g rfl
    have xg : XR K own (D + 2) N N X Z C Wd (nw h 5 0 10) := x.fresh (fun a ha => same_nw (by omega)) (by rw [hn_nw]; omega) (by rw [hn_nw]; omega) (by rw [hq_nw]; omega) (by omega) (fun _ _ => rfl)
    have e1 : vJ2_size 54 (nw h 5 0 10) = N 1 := xg.size 1
    refine ⟨xg.osize 1, ?_⟩
    rw [e1]
    unfold mX5_init
    simp only [forall_eq, hn_nw, hq_nw]
    refine ⟨by omega, by omega, by omega, ⟨by omega, by simp only [hn_nw]; omega, by simp only [hT_nw, hn_nw]; rw [if_neg (by omega), if_pos trivial]⟩, ?_⟩
    have e4 : b2i (¬ (iand p4 1 ≠ 1)) = p4 % 2 := by
      rw [iand_1]
      unfold b2i
      split <;> omega
    have e5 : b2i (¬ (iand p4 2 ≠ 2)) = p4 / 2 := by
      rw [iand_2 (by omega) (by omega)]
      unfold b2i
      split <;> omega
    rw [e4, e5]
    refine x.make 1 (own' := fun a => if a = hn h then (1, N 1 + 1, 0) else if a = hn h + 1 then (1, N 1 + 1, 7) else own a) (row := rwPlace (N 1) p1 p2 p3 p4) (D' := D + 20) ⟨?_, ?_, ?_, ?_, ?_, ?_, ?_⟩ ?_ ?_ ?_ ?_ ?_ ?_ ?_ ?_
    · exact ⟨by omega, by simp only [hI_sI, hI_sL, hI_sR, hI_nw, hL_sI, hL_sL, hL_sR, hL_nw, hR_sI, hR_sL, hR_sR, hR_nw, hT_sI, hT_sL, hT_sR, hN_sI, hN_sL, hN_sR, hn_sI, hn_sL, hn_sR, hq_sI, hq_sL, hq_sR, Nat.reduceEqDiff, false_and, and_false, true_and, and_true, and_self, if_false, if_true, reduceIte, ite_self, hn_nw]; omega, by simp only [hI_sI, hI_sL, hI_sR, hI_nw, hL_sI, hL_sL, hL_sR, hL_nw, hR_sI, hR_sL, hR_sR, hR_nw, hT_sI, hT_sL, hT_sR, hN_sI, hN_sL, hN_sR, hn_sI, hn_sL, hn_sR, hq_sI, hq_sL, hq_sR, Nat.reduceEqDiff, false_and, and_false, true_and, and_true, and_self, if_false, if_true, reduceIte, ite_self, hT_nw, hn_nw]; rw [if_neg (by omega)]; rfl⟩
    · simp only [if_true]
    · intro f hf
      simp only [fI, List.mem_cons, List.not_mem_nil, or_false] at hf
      rcases hf with rfl | rfl | rfl | rfl | rfl | rfl | rfl | rfl | rfl <;> simp [hI_sI, hI_sL, hI_sR, hI_nw, hL_sI, hL_sL, hL_sR, hL_nw, hR_sI, hR_sL, hR_sR, hR_nw, hT_sI, hT_sL, hT_sR, hN_sI, hN_sL, hN_sR, hn_sI, hn_sL, hn_sR, hq_sI, hq_sL, hq_sR, Nat.reduceEqDiff, false_and, and_false, true_and, and_true, and_self, if_false, if_true, reduceIte, ite_self, rwPlace, hn_nw]
    · intro p hp
      simp [fR] at hp
    · intro p hp
      simp only [fA, List.mem_cons, List.not_mem_nil, or_false] at hp
      subst hp
      refine ⟨?_, ?_, ?_, fun j hj => ?_⟩
      · simp only [hI_sI, hI_sL, hI_sR, hI_nw, hL_sI, hL_sL, hL_sR, hL_nw, hR_sI, hR_sL, hR_sR, hR_nw, hT_sI, hT_sL, hT_sR, hN_sI, hN_sL, hN_sR, hn_sI, hn_sL, hn_sR, hq_sI, hq_sL, hq_sR, Nat.reduceEqDiff, false_and, and_false, true_and, and_true, and_self, if_false, if_true, reduceIte, ite_self, hn_nw]
        exact ⟨by omega, by simp only [hI_sI, hI_sL, hI_sR, hI_nw, hL_sI, hL_sL, hL_sR, hL_nw, hR_sI, hR_sL, hR_sR, hR_nw, hT_sI, hT_sL, hT_sR, hN_sI, hN_sL, hN_sR, hn_sI, hn_sL, hn_sR, hq_sI, hq_sL, hq_sR, Nat.reduceEqDiff, false_and, and_false, true_and, and_true, and_self, if_false, if_true, reduceIte, ite_self, hn_nw]; omega, by simp only [hI_sI, hI_sL, hI_sR, hI_nw, hL_sI, hL_sL, hL_sR, hL_nw, hR_sI, hR_sL, hR_sR, hR_nw, hT_sI, hT_sL, hT_sR, hN_sI, hN_sL, hN_sR, hn_sI, hn_sL, hn_sR, hq_sI, hq_sL, hq_sR, Nat.reduceEqDiff, false_and, and_false, true_and, and_true, and_self, if_false, if_true, reduceIte, ite_self, hT_nw, hn_nw]⟩
      · simp only [hI_sI, hI_sL, hI_sR, hI_nw, hL_sI, hL_sL, hL_sR, hL_nw, hR_sI, hR_sL, hR_sR, hR_nw, hT_sI, hT_sL, hT_sR, hN_sI, hN_sL, hN_sR, hn_sI, hn_sL, hn_sR, hq_sI, hq_sL, hq_sR, Nat.reduceEqDiff, false_and, and_false, true_and, and_true, and_self, if_false, if_true, reduceIte, ite_self, hn_nw, hN_nw]
      · simp only [hI_sI, hI_sL, hI_sR, hI_nw, hL_sI, hL_sL, hL_sR, hL_nw, hR_sI, hR_sL, hR_sR, hR_nw, hT_sI, hT_sL, hT_sR, hN_sI, hN_sL, hN_sR, hn_sI, hn_sL, hn_sR, hq_sI, hq_sL, hq_sR, Nat.reduceEqDiff, false_and, and_false, true_and, and_true, and_self, if_false, if_true, reduceIte, ite_self, hn_nw]
        rw [if_neg (by omega)]
      · simp only [hI_sI, hI_sL, hI_sR, hI_nw, hL_sI, hL_sL, hL_sR, hL_nw, hR_sI, hR_sL, hR_sR, hR_nw, hT_sI, hT_sL, hT_sR, hN_sI, hN_sL, hN_sR, hn_sI, hn_sL, hn_sR, hq_sI, hq_sL, hq_sR, Nat.reduceEqDiff, false_and, and_false, true_and, and_true, and_self, if_false, if_true, reduceIte, ite_self, hn_nw]
        rw [if_neg (by omega), if_neg (by omega), if_neg (by omega), if_neg (by omega), if_neg (by omega), if_neg (by omega)]
        unfold rwPlace af
        rw [if_neg (by omega), if_neg (by omega), if_neg (by omega), if_neg (by omega), if_neg (by omega), if_neg (by omega)]
    · intro p hp
      simp [fP] at hp
    · intro p hp
      simp [fZ] at hp
    · intro a ha
      exact (((((((same_nw (by omega)).trans (same_nw (by rw [hn_nw]; omega))).trans (same_sR (by omega))).trans (same_sI (by omega))).trans (same_sI (by omega))).trans (same_sI (by omega))).trans (same_sI (by omega))).trans ((same_sI (by omega)).trans (same_sI (by omega)))
    · intro a ha
      rw [if_neg (by omega), if_neg (by omega)]
    · simp only [hI_sI, hI_sL, hI_sR, hI_nw, hL_sI, hL_sL, hL_sR, hL_nw, hR_sI, hR_sL, hR_sR, hR_nw, hT_sI, hT_sL, hT_sR, hN_sI, hN_sL, hN_sR, hn_sI, hn_sL, hn_sR, hq_sI, hq_sL, hq_sR, Nat.reduceEqDiff, false_and, and_false, true_and, and_true, and_self, if_false, if_true, reduceIte, ite_self, hn_nw]; omega
    · simp only [hI_sI, hI_sL, hI_sR, hI_nw, hL_sI, hL_sL, hL_sR, hL_nw, hR_sI, hR_sL, hR_sR, hR_nw, hT_sI, hT_sL, hT_sR, hN_sI, hN_sL, hN_sR, hn_sI, hn_sL, hn_sR, hq_sI, hq_sL, hq_sR, Nat.reduceEqDiff, false_and, and_false, true_and, and_true, and_self, if_false, if_true, reduceIte, ite_self, hn_nw]; omega
    · simp only [hI_sI, hI_sL, hI_sR, hI_nw, hL_sI, hL_sL, hL_sR, hL_nw, hR_sI, hR_sL, hR_sR, hR_nw, hT_sI, hT_sL, hT_sR, hN_sI, hN_sL, hN_sR, hn_sI, hn_sL, hn_sR, hq_sI, hq_sL, hq_sR, Nat.reduceEqDiff, false_and, and_false, true_and, and_true, and_self, if_false, if_true, reduceIte, ite_self, hn_nw, hq_nw]; omega
    · omega
    · omega
    · intro h' y
      have e2 : vJ2_size 54 h' = N 1 + 1 := (y.size 1).trans (by rw [uM_at]; rfl)
      show oJ2_size 54 h' ∧ nm (vJ2_size 54 h' - 1) ∧ _
      rw [e2]
      refine ⟨y.osize 1, ⟨by omega, by omega⟩, ?_⟩
      rw [xe] at y
      have n0 : (A 75 2).toNat = N 1 := by omega
      have n1 : A 75 2 = N 1 := by omega
      rw [n0, n1] at k
      refine k _ _ _ _ _ _ _ (y.more (by omega) (by omega)) ⟨r0.up, ⟨rfl, ?_, ?_, ?_⟩, ?_, ?_, r4, r5, r6, r7, ?_, ?_, ?_, r11, rw⟩ ?_
      · show N 1 + 1 ≤ 12
        omega
      · intro i hi
        have hi : i < N 1 + 1 := hi
        by_cases z : i = N 1
        · subst z
          obtain ⟨z1, z2, z3, z4⟩ := q4 (N 1) (Nat.le_refl _) (by omega)
          rw [uW_at]
          have ra : ∀ j, rwPlace (N 1) p1 p2 p3 p4 (af 6 j) = 0 := by
            intro j
            unfold rwPlace af
            rw [if_neg (by omega), if_neg (by omega), if_neg (by omega), if_neg (by omega), if_neg (by omega), if_neg (by omega)]
          refine ⟨rfl, ⟨?_, ?_, ?_⟩, ⟨?_, ?_, ?_⟩, ⟨?_, ?_, ?_⟩, ⟨?_, ?_, ?_, ?_⟩, ⟨?_, ?_, ?_⟩, ⟨?_, ?_, ?_⟩, ⟨?_, ?_, ?_⟩, fun j hj => ⟨?_, ?_, ?_⟩⟩ <;> simp [uA, rwPlace, z1, z2, z3]
          all_goals try omega
          · rw [z4 j hj]; exact ra j
          · rw [z4 j hj]; decide
          · rw [z4 j hj]; decide
        · rw [uW_ne (by omega)]
          have := q3 i (by omega)
          simpa [Pl1, uA, z] using this
      · intro i h1 h2
        have h1 : N 1 + 1 ≤ i := h1
        exact q4 i (by omega) h2
      · obtain ⟨w1, w2, w3, w4⟩ := r2.grow (m1 := N 1 + 1) (by omega)
        refine ⟨w1, w2, fun i hi => ?_, w4⟩
        obtain ⟨v1, v2, v3, v4, v5, v6, v7, v8⟩ := w3 i hi
        have v9 := (r2.2.2.1 i hi).2.2.2.2.2.2.2
        refine ⟨v1, v2, v3, v4, v5, v6, v7, v8.1, v8.2.1, ?_⟩
        have : ¬ (79 = 79 ∧ (X 2 i 4).toNat = N 1) := by omega
        exact Int.le_trans v9.2.2 (Int.le_of_eq (if_neg this).symm)
      · exact r3.grow (m1 := N 1 + 1) (by omega)
      · obtain ⟨w1, w2, w3⟩ := r8.grow (m1 := N 1 + 1) (by omega)
        refine ⟨w1, w2, fun i hi => ?_⟩
        obtain ⟨v1, v2, v3, v4, v5, v6⟩ := w3 i hi
        refine ⟨v1, v2, v3, v4, v5, fun z => ?_⟩
        obtain ⟨b, hb, hb1⟩ := (r8.2.2 i hi).2.2.2.2.2 z
        refine ⟨b, Nat.lt_succ_of_lt hb, ?_⟩
        have : ¬ (79 = 79 ∧ b = N 1) := by omega
        exact Int.le_trans hb1 (Int.le_of_eq (if_neg this).symm)
      · exact r9.grow (m1 := N 1 + 1) (by omega) (Nat.le_refl _) (Nat.le_refl _)
      · exact r10.grow (m1 := N 1 + 1) (by omega)
      · omega
end
