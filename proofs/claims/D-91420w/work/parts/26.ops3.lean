set_option maxRecDepth 100000
set_option maxHeartbeats 1000000
set_option linter.unusedSimpArgs false
set_option linter.unusedVariables false
/-! SPECS, 11: acts that make an object -/
section
variable {K : Hp} {D : Nat} {N M : Nat → Nat} {X : Nat → Nat → Nat → Int} {Z : Nat → Nat → Nat} {C : Nat → Nat → List Int} {Wd : Nat → List Int} {A : Nat → Nat → Int} {h : Hp}
theorem XS.mk (x : XS K D N N X Z C Wd A h) (c : Nat) {g : Hp} {row : Nat → Int} {Q : Rs → Hp → Prop} (s : ∀ a, a < hn h → same h g a) (n1 : hn g = hn h + 1) (q1 : hq g ≤ hq h + 16) (t : hT g (hn h) = tgC c) (fi : ∀ f, f ∈ fI c → hI g (hn h) f = row f) (fr : ∀ p, p ∈ fR c → hR g (hn h) p.1 = rfZ Z p.2 (row p.1) ∧ row p.1 < N p.2) (fz : ∀ f, f ∈ fZ c → hR g (hn h) f = 50) (h2 : N c < 200) (hD : D + 100 ≤ 800000) (k : ∀ h', XS K (D + 70) (uM N c (N c + 1)) (uM N c (N c + 1)) (uW X c (N c) row) (uZ Z c (N c) (hn h)) C Wd A h' → Q (rV (vI 1)) h') (c1 : 1 ≤ c := by decide) (c2 : c ≤ 11 := by decide) (n4 : c ≠ 4 := by decide) (n5 : c ≠ 5 := by decide) (eA : fA c = [] := by decide) (eP : fP c = [] := by decide) : mJ2_add (53 + c) (hn h) g Q := by
  obtain ⟨⟨own, x⟩, xe⟩ := x
  obtain ⟨b1, b2, b3, b4, b5, b6, b7⟩ := x.1
  refine x.make c (own' := fun a => if a = hn h then (c, N c + 1, 0) else own a) (row := row) (D' := D + 10) ⟨⟨by omega, by omega, t⟩, if_pos rfl, fi, fr, ?_, ?_, fz⟩ s (fun a ha => if_neg (by omega)) (by omega) (by omega) (by omega) (by omega) h2 (fun h' y => k h' (by rw [xe] at y; exact y)) c1 c2 n4 n5
  · intro p hp
    rw [eA] at hp
    cases hp
  · intro p hp
    rw [eP] at hp
    cases hp
end
def gGift (A : Nat → Nat → Int) (p1 p2 p3 : Int) : Int × (Nat → Nat → Int) := if A 75 113 = 12 ∨ p1 < 1 ∨ 99999 < p1 ∨ p2 < 0 ∨ 3 < p2 ∨ p3 < 0 ∨ 30 < p3 then (-1, uA A 75 0 0) else (A 75 113, uA (uA (uA (uA (uA A 75 0 0) 155 (A 75 113).toNat p1) 156 (A 75 113).toNat p2) 157 (A 75 113).toNat p3) 75 113 (A 75 113 + 1))
def rwGift (p1 p2 p3 : Int) : Nat → Int := fun f => if f = 0 then p2 else if f = 1 then p3 else p1
def OpV (K : Hp) (T D : Nat) (A B : Nat → Nat → Int) (h : Hp) : Prop := ∃ (N : Nat → Nat) (X : Nat → Nat → Nat → Int) (Z : Nat → Nat → Nat) (C : Nat → Nat → List Int) (Wd : Nat → List Int), XS K D N N X Z C Wd A h ∧ Rel (T + 1) N X C Wd B
theorem day_0 (a : Int) (h : Hp) : vX4_isDay a h ≠ 0 ↔ (0 ≤ a ∧ a ≤ 30) := by
  unfold vX4_isDay b2i
  split <;> omega
theorem day_1 (a : Int) (h : Hp) : vX4_isDay a h = 0 ↔ (a < 0 ∨ 30 < a) := by
  unfold vX4_isDay b2i
  split <;> omega
section
variable {K : Hp} {D : Nat} {N M : Nat → Nat} {X : Nat → Nat → Nat → Int} {Z : Nat → Nat → Nat} {C : Nat → Nat → List Int} {Wd : Nat → List Int} {A : Nat → Nat → Int} {h : Hp}
theorem m_gift {T : Nat} {N0 : Nat → Nat} {X0 : Nat → Nat → Nat → Int} {C0 : Nat → Nat → List Int} {Wd0 : Nat → List Int} {Q : Rs → Hp → Prop} (x : XS K D N M X Z C Wd A h) (r : Rel T N0 X0 C0 Wd0 A) {p1 p2 p3 : Int} (k : ∀ h', XS K D N M X Z C Wd (gGift A p1 p2 p3).2 h' → Q (rV (vI (gGift A p1 p2 p3).1)) h') : mX4_gift p1 p2 p3 h Q := by
  have e := x.rd 75 113
  have r1 := r.2.2.2.2.2.2.2.2.2.2.2.1.1
  have r2 := r.2.2.2.2.2.2.2.2.2.2.2.1.2.1
  unfold mX4_gift
  simp only [forall_eq, hI_sI, hI_sL, hI_sR, hI_nw, hL_sI, hL_sL, hL_sR, hL_nw, hR_sI, hR_sL, hR_sR, hR_nw, hT_sI, hT_sL, hT_sR, hN_sI, hN_sL, hN_sR, hn_sI, hn_sL, hn_sR, hq_sI, hq_sL, hq_sR, Nat.reduceEqDiff, false_and, and_false, true_and, and_true, and_self, if_false, if_true, reduceIte, ite_self, day_0]
  rw [e]
  unfold gGift at k
  split
  · rw [if_pos (by omega)] at k
    exact k _ x.m5
  · rw [if_neg (by omega)] at k
    have a1 : 0 ≤ A 75 113 := by omega
    have a2 : A 75 113 < 12 := by omega
    refine ⟨a1, a2, a1, a2, a1, a2, ⟨by omega, by omega⟩, ⟨by omega, by omega⟩, ?_⟩
    rw [Int.add_sub_cancel]
    exact k _ x.m5.ma.ma.ma.m5
theorem x_gift {T : Nat} {Q : Rs → Hp → Prop} (x : XS K D N N X Z C Wd A h) (r : Rel T N X C Wd A) (hD : D ≤ 780000) {p1 p2 p3 : Int} (k : ∀ h', OpV K T (D + 12000) A (gGift A p1 p2 p3).2 h' → Q (rV (vI (gGift A p1 p2 p3).1)) h') : mX1_gift p1 p2 p3 h Q := by
  obtain ⟨r0, r1, r2, r3, r4, r5, r6, r7, r8, r9, r10, r11, rw0⟩ := id r
  obtain ⟨b1, b2, b3, b4⟩ := x.hb
  obtain ⟨q1, q2, q3⟩ := r11
  have e : vJ2_size 64 h = N 11 := x.size 11
  unfold mX1_gift
  refine ⟨x.osize 11, ?_⟩
  rw [e]
  unfold gGift at k
  simp only [in_0, in_1]
  split
  · rw [if_pos (by omega)] at k
    exact k _ ⟨N, X, Z, C, Wd, x.more (by omega) (by omega), r.thr 0⟩
  · rw [if_neg (by omega)] at k
    have n1 : A 75 113 = N 11 := by omega
    rw [n1, Int.toNat_natCast] at k
    refine ⟨by omega, by omega, ?_⟩
    rintro r rfl g rfl
    unfold mX23_init
    simp only [forall_eq]
    refine ⟨by omega, ob_nw_self rfl (by omega), ?_⟩
    refine x.mk 11 (row := rwGift p1 p2 p3) ?_ rfl ?_ ?_ ?_ ?_ ?_ (by omega) (by omega) ?_
    · exact fun a ha => (same_nw (by omega)).trans ((same_sI (by omega)).trans ((same_sI (by omega)).trans (same_sI (by omega))))
    · simp only [hI_sI, hI_sL, hI_sR, hI_nw, hL_sI, hL_sL, hL_sR, hL_nw, hR_sI, hR_sL, hR_sR, hR_nw, hT_sI, hT_sL, hT_sR, hN_sI, hN_sL, hN_sR, hn_sI, hn_sL, hn_sR, hq_sI, hq_sL, hq_sR, Nat.reduceEqDiff, false_and, and_false, true_and, and_true, and_self, if_false, if_true, reduceIte, ite_self, hq_nw]; omega
    · simp only [hI_sI, hI_sL, hI_sR, hI_nw, hL_sI, hL_sL, hL_sR, hL_nw, hR_sI, hR_sL, hR_sR, hR_nw, hT_sI, hT_sL, hT_sR, hN_sI, hN_sL, hN_sR, hn_sI, hn_sL, hn_sR, hq_sI, hq_sL, hq_sR, Nat.reduceEqDiff, false_and, and_false, true_and, and_true, and_self, if_false, if_true, reduceIte, ite_self, hT_nw]; rfl
    · intro f hf
      simp only [fI, List.mem_cons, List.not_mem_nil, or_false] at hf
      rcases hf with rfl | rfl | rfl <;> simp [hI_sI, hI_sL, hI_sR, hI_nw, hL_sI, hL_sL, hL_sR, hL_nw, hR_sI, hR_sL, hR_sR, hR_nw, hT_sI, hT_sL, hT_sR, hN_sI, hN_sL, hN_sR, hn_sI, hn_sL, hn_sR, hq_sI, hq_sL, hq_sR, Nat.reduceEqDiff, false_and, and_false, true_and, and_true, and_self, if_false, if_true, reduceIte, ite_self, rwGift]
    · intro p hp
      simp [fR] at hp
    · intro p hp
      simp [fZ] at hp
    · intro h' y
      have e2 : vJ2_size 64 h' = N 11 + 1 := (y.size 11).trans (by rw [uM_at]; rfl)
      rw [kI_v, e2]
      refine ⟨y.osize 11, ⟨by omega, by omega⟩, ?_⟩
      rw [Int.add_sub_cancel]
      refine k _ ⟨_, _, _, _, _, y.more (by omega) (by omega), ⟨r0.up, r1, r2, r3, r4, r5, r6, r7, r8, r9, r10, ⟨rfl, ?_, ?_⟩, rw0⟩⟩
      · show N 11 + 1 ≤ 12
        omega
      · intro i hi
        have hi : i < N 11 + 1 := hi
        by_cases z : i = N 11
        · subst z
          rw [uW_at]
          simp [uA, rwGift]
          omega
        · rw [uW_ne (by omega)]
          simpa [uA, z] using q3 i (by omega)
end
def gRain (A : Nat → Nat → Int) (p1 p2 p3 : Int) : Int × Int × (Nat → Nat → Int) := if p1 < 0 ∨ A 75 2 ≤ p1 then (1, 0, uA A 75 0 1) else if A 75 60 = 150 ∨ p2 < 0 ∨ 30 < p2 ∨ p3 < 0 ∨ 99 < p3 then (0, 0, uA A 75 0 0) else (0, 1, uA (uA (uA (uA (uA (uA A 75 0 0) 111 (A 75 60).toNat p1) 112 (A 75 60).toNat p2) 113 (A 75 60).toNat p3) 114 (A 75 60).toNat (A 75 1)) 75 60 (A 75 60 + 1))
def rw4 (p0 p1 p2 p3 : Int) : Nat → Int := fun f => if f = 0 then p0 else if f = 1 then p1 else if f = 2 then p2 else p3
section
variable {K : Hp} {D : Nat} {N M : Nat → Nat} {X : Nat → Nat → Nat → Int} {Z : Nat → Nat → Nat} {C : Nat → Nat → List Int} {Wd : Nat → List Int} {A : Nat → Nat → Int} {h : Hp}
theorem m_rain {T : Nat} {N0 : Nat → Nat} {X0 : Nat → Nat → Nat → Int} {C0 : Nat → Nat → List Int} {Wd0 : Nat → List Int} {Q : Rs → Hp → Prop} (x : XS K D N M X Z C Wd A h) (r : Rel T N0 X0 C0 Wd0 A) {p1 p2 p3 : Int} (k : ∀ h', XS K D N M X Z C Wd (gRain A p1 p2 p3).2.2 h' → hL h' 158 = hL h 158 → Q (rV (vI (gRain A p1 p2 p3).2.1)) h') : mX4_rain p1 p2 p3 h Q := by
  have r1 := r.2.2.2.2.2.2.1.1
  have r2 := r.2.2.2.2.2.2.1.2.1
  unfold mX4_rain
  unfold gRain at k
  refine m_isPlace x (fun a1 a2 y => ?_) (fun z y => ?_)
  · rw [if_neg (by omega)] at k
    rw [kI_v]
    have e : hI h 75 60 = A 75 60 := x.rd 75 60
    have e1 : hI h 75 1 = A 75 1 := x.rd 75 1
    simp only [forall_eq, hI_sI, hI_sL, hI_sR, hI_nw, hL_sI, hL_sL, hL_sR, hL_nw, hR_sI, hR_sL, hR_sR, hR_nw, hT_sI, hT_sL, hT_sR, hN_sI, hN_sL, hN_sR, hn_sI, hn_sL, hn_sR, hq_sI, hq_sL, hq_sR, Nat.reduceEqDiff, false_and, and_false, true_and, and_true, and_self, if_false, if_true, reduceIte, ite_self, day_1, e, e1]
    split
    · rw [if_pos (by omega)] at k
      exact k _ y rfl
    · rw [if_neg (by omega)] at k
      have b1 : 0 ≤ A 75 60 := by omega
      have b2 : A 75 60 < 150 := by omega
      exact ⟨b1, b2, b1, b2, b1, b2, b1, b2, ⟨by omega, by omega⟩, k _ y.ma.ma.ma.ma.m5 rfl⟩
  · rw [if_pos z] at k
    rw [kI_v, if_pos (Or.inl rfl)]
    exact k _ y rfl
theorem x_rain {T : Nat} {Q : Rs → Hp → Prop} (x : XS K D N N X Z C Wd A h) (r : Rel T N X C Wd A) (hD : D ≤ 780000) {p1 p2 p3 : Int} (k : ∀ h', OpT K T (D + 12000) A (gRain A p1 p2 p3) h' → Q (rV (vI (gRain A p1 p2 p3).1)) h') : mX0_rain p1 p2 p3 h Q := by
  obtain ⟨r0, r1, r2, r3, r4, r5, r6, r7, r8, r9, r10, r11, rw0⟩ := id r
  obtain ⟨b1, b2, b3, b4⟩ := x.hb
  obtain ⟨q1, q2, q3⟩ := r6
  have r1' := r1.1
  have e : vJ2_size 59 h = N 6 := x.size 6
  have en : hI (nw h 18 0 4) 50 20 = A 75 1 := by
    rw [hI_nw, if_neg (by omega)]
    exact (x.sc 20).trans r0.1.1
  unfold mX0_rain mX1_rain
  unfold gRain at k
  refine x_placeAt x (by omega) (fun a1 a2 a3 => ?_) (fun z y o t => ?_)
  · rw [if_neg (by omega)] at k
    rw [kR_v]
    simp only [in_0, in_1]
    rw [e]
    refine ⟨fun _ _ => x.osize 6, ?_⟩
    split
    · rw [if_pos (by omega)] at k
      rw [kIx_v]
      rintro l rfl g rfl
      exact k _ ⟨N, X, Z, C, Wd, (x.out).more (by omega) (by omega), r.thr 0, fun _ => (by rw [hL_sL, if_pos ⟨rfl, rfl⟩]; try rfl)⟩
    · rw [if_neg (by omega)] at k
      have n1 : A 75 60 = N 6 := by omega
      rw [n1, Int.toNat_natCast] at k
      refine ⟨by omega, by omega, ?_⟩
      rintro r rfl g rfl
      rw [en]
      unfold mX18_init
      simp only [forall_eq]
      refine ⟨by omega, ob_nw_self rfl (by omega), ?_⟩
      refine x.mk 6 (row := rw4 p1 p2 p3 (A 75 1)) ?_ rfl ?_ ?_ ?_ ?_ ?_ (by omega) (by omega) ?_
      · exact fun a ha => (same_nw (by omega)).trans ((same_sI (by omega)).trans ((same_sI (by omega)).trans ((same_sI (by omega)).trans (same_sI (by omega)))))
      · simp only [hI_sI, hI_sL, hI_sR, hI_nw, hL_sI, hL_sL, hL_sR, hL_nw, hR_sI, hR_sL, hR_sR, hR_nw, hT_sI, hT_sL, hT_sR, hN_sI, hN_sL, hN_sR, hn_sI, hn_sL, hn_sR, hq_sI, hq_sL, hq_sR, Nat.reduceEqDiff, false_and, and_false, true_and, and_true, and_self, if_false, if_true, reduceIte, ite_self, hq_nw]; omega
      · simp only [hI_sI, hI_sL, hI_sR, hI_nw, hL_sI, hL_sL, hL_sR, hL_nw, hR_sI, hR_sL, hR_sR, hR_nw, hT_sI, hT_sL, hT_sR, hN_sI, hN_sL, hN_sR, hn_sI, hn_sL, hn_sR, hq_sI, hq_sL, hq_sR, Nat.reduceEqDiff, false_and, and_false, true_and, and_true, and_self, if_false, if_true, reduceIte, ite_self, hT_nw]; rfl
      · intro f hf
        simp only [fI, List.mem_cons, List.not_mem_nil, or_false] at hf
        rcases hf with rfl | rfl | rfl | rfl <;> simp [hI_sI, hI_sL, hI_sR, hI_nw, hL_sI, hL_sL, hL_sR, hL_nw, hR_sI, hR_sL, hR_sR, hR_nw, hT_sI, hT_sL, hT_sR, hN_sI, hN_sL, hN_sR, hn_sI, hn_sL, hn_sR, hq_sI, hq_sL, hq_sR, Nat.reduceEqDiff, false_and, and_false, true_and, and_true, and_self, if_false, if_true, reduceIte, ite_self, rw4]
      · intro p hp
        simp [fR] at hp
      · intro p hp
        simp [fZ] at hp
      · intro h' y
        rw [kI_v, kIx_v]
        refine k _ ⟨_, _, _, _, _, (y.out).more (by omega) (by omega), ⟨r0.up, r1, r2, r3, r4, r5, ⟨rfl, ?_, ?_⟩, r7, r8, r9, r10, r11, rw0⟩, fun _ => (by rw [hL_sL, if_pos ⟨rfl, rfl⟩]; try rfl)⟩
        · show N 6 + 1 ≤ 150
          omega
        · intro i hi
          have hi : i < N 6 + 1 := hi
          by_cases z : i = N 6
          · subst z
            rw [uW_at]
            simp [uA, rw4]
            omega
          · rw [uW_ne (by omega)]
            simpa [uA, z] using q3 i (by omega)
  · rw [if_pos (by omega)] at k
    exact ⟨o, k _ ⟨N, X, Z, C, Wd, y.more (by omega) (by omega), r.thr 1, fun z => absurd z ne10⟩⟩
end
theorem Wf.plane {n1 n2 n3 n9 : Nat} {x2 x9 y2 : Nat → Nat → Int} {A : Nat → Nat → Int} {p1 p2 p3 p4 p5 : Int} (r : Wf n2 n3 n9 x2 x9 A) (h9 : ∀ f, f < n9 → Pl9 n1 n2 n3 (x9 f) A f) {B : Nat → Nat → Int} (hB : B = uA (uA (uA (uA (uA (uA (uA (uA A 75 0 0) 81 n2 p1) 82 n2 p2) 83 n2 p3) 84 n2 p4) 85 n2 p5) 86 n2 p2) 75 3 ((n2 : Int) + 1)) (hy : ∀ i, i < n2 → y2 i = x2 i) (hn : y2 n2 4 = p5) : Wf (n2 + 1) n3 n9 y2 x9 B := by
  obtain ⟨w1, w2, w3, w4, w5, w6, w7, w8, w9, w10⟩ := r
  have e85 : ∀ p, B 85 p = if p = n2 then p5 else A 85 p := by
    intro p
    rw [hB]
    simp [uA]
  have pl : ∀ f, f < n9 → 0 ≤ A 128 f ∧ A 128 f < n2 := fun f hf => (h9 f hf).2.1.2
  have row : ∀ a, a ≠ 75 → (a < 81 ∨ 86 < a) → B a = A a := by
    intro a h1 h2
    rw [hB, uA_a h1, uA_a (by omega), uA_a (by omega), uA_a (by omega), uA_a (by omega), uA_a (by omega), uA_a (by omega), uA_a h1]
  have q : ∀ a, a ∈ [89, 90, 91, 128, 130, 131, 132, 133, 134, 135, 136, 137, 138, 142] → B a = A a := by
    intro a ha
    have : ∀ a ∈ [89, 90, 91, 128, 130, 131, 132, 133, 134, 135, 136, 137, 138, 142], a ≠ 75 ∧ (a < 81 ∨ 86 < a) := by decide
    exact row a (this a ha).1 (this a ha).2
  unfold Wf atB abB frL
  rw [q 89 (by decide), q 90 (by decide), q 91 (by decide), q 128 (by decide), q 130 (by decide), q 131 (by decide), q 132 (by decide), q 133 (by decide), q 134 (by decide), q 135 (by decide), q 136 (by decide), q 137 (by decide), q 138 (by decide), q 142 (by decide)]
  refine ⟨fun f hf hg => ?_, fun p hp hf => ?_, w3, w4, w5, w6, w7, w8, w9, w10⟩
  · rw [hy _ (by have := pl f hf; omega)]
    exact w1 f hf hg
  · rw [e85]
    by_cases z : p = n2
    · rw [if_pos z, z, hn]
    · rw [if_neg z, hy p (by omega)]
      exact w2 p (by omega) hf
theorem Wf.person {n2 n3 n9 : Nat} {x2 x9 : Nat → Nat → Int} {A : Nat → Nat → Int} {p1 p2 : Int} (r : Wf n2 n3 n9 x2 x9 A) {B : Nat → Nat → Int} (hB : B = uA (uA (uA (uA (uA (uA A 75 0 0) 88 n3 p1) 89 n3 p2) 90 n3 p2) 92 n3 (-1)) 75 4 ((n3 : Int) + 1)) : Wf n2 (n3 + 1) n9 x2 x9 B := by
  obtain ⟨w1, w2, w3, w4, w5, w6, w7, w8, w9, w10⟩ := r
  have e89 : ∀ p, B 89 p = if p = n3 then p2 else A 89 p := by
    intro p
    rw [hB]
    simp [uA]
  have e90 : ∀ p, B 90 p = if p = n3 then p2 else A 90 p := by
    intro p
    rw [hB]
    simp [uA]
  have row : ∀ a, a ≠ 75 → a ≠ 88 → a ≠ 89 → a ≠ 90 → a ≠ 92 → B a = A a := by
    intro a h1 h2 h3 h4 h5
    rw [hB, uA_a h1, uA_a h5, uA_a h4, uA_a h3, uA_a h2, uA_a h1]
  have q : ∀ a, a ∈ [85, 91, 128, 130, 131, 132, 133, 134, 135, 136, 137, 138, 142] → B a = A a := by
    intro a ha
    have : ∀ a ∈ [85, 91, 128, 130, 131, 132, 133, 134, 135, 136, 137, 138, 142], a ≠ 75 ∧ a ≠ 88 ∧ a ≠ 89 ∧ a ≠ 90 ∧ a ≠ 92 := by decide
    obtain ⟨h1, h2, h3, h4, h5⟩ := this a ha
    exact row a h1 h2 h3 h4 h5
  have no : ∀ f j : Nat, f < n9 → (j : Int) < A 130 f → abB A f j n3 = false := by
    intro f j hf hj
    have := w9 f j hf hj
    unfold abB
    exact Nat.testBit_lt_two_pow (by have : 0 < 2 ^ n3 := Nat.pow_pos (by decide); omega)
  have no2 : ∀ f j : Nat, f < n9 → (j : Int) < A 130 f → atB A f j n3 = false := by
    intro f j hf hj
    have h6 := w6 f hf
    unfold atB
    have c1 : ¬ (A 134 f = j ∧ A 135 f = n3) := by omega
    rw [if_neg c1]
    by_cases c2 : A 132 f = j ∧ A 133 f = n3
    · rw [if_pos c2]
    · rw [if_neg c2]
      exact no f j hf hj
  have ea : ∀ f j w, abB B f j w = abB A f j w := by
    intro f j w
    unfold abB
    rw [q 142 (by decide)]
  have et : ∀ f j w, atB B f j w = atB A f j w := by
    intro f j w
    unfold atB
    rw [ea, q 132 (by decide), q 133 (by decide), q 134 (by decide), q 135 (by decide)]
  have ef : ∀ f j, frL B f j = frL A f j := by
    intro f j
    unfold frL
    rw [q 131 (by decide), q 136 (by decide)]
  unfold Wf
  rw [q 85 (by decide), q 91 (by decide), q 128 (by decide), q 130 (by decide), q 131 (by decide), q 132 (by decide), q 133 (by decide), q 134 (by decide), q 135 (by decide), q 137 (by decide), q 138 (by decide), q 142 (by decide)]
  simp only [ea, et, ef]
  refine ⟨w1, w2, fun f j w hf hj hw hb hn => ?_, fun w hw hn => ?_, w5, fun f hf => ?_, fun f j w hf hj hw hb => ?_, fun f j g i w hfg hg hj hi hw hb => ?_, fun f j hf hj => ?_, w10⟩
  · by_cases z : w = n3
    · rw [z, no f j hf hj] at hb
      cases hb
    · rw [e89, if_neg z]
      exact w3 f j w hf hj (by omega) hb hn
  · rw [e89, e90]
    by_cases z : w = n3
    · rw [if_pos z, if_pos z]
    · rw [if_neg z, if_neg z]
      exact w4 w (by omega) hn
  · obtain ⟨h1, h2⟩ := w6 f hf
    refine ⟨?_, ?_⟩
    · rcases h1 with h1 | ⟨a1, a2, a3, a4, a5⟩
      · exact Or.inl h1
      · exact Or.inr ⟨a1, a2, a3, by omega, a5⟩
    · rcases h2 with h1 | ⟨a1, a2, a3, a4, a5⟩
      · exact Or.inl h1
      · exact Or.inr ⟨a1, a2, a3, by omega, a5⟩
  · by_cases z : w = n3
    · rw [z, no f j hf hj, no2 f j hf hj] at hb
      rcases hb with hb | hb <;> cases hb
    · exact w7 f j w hf hj (by omega) hb
  · by_cases z : w = n3
    · rw [z, no f j (by omega) hj, no2 f j (by omega) hj] at hb
      rcases hb with hb | hb <;> cases hb
    · exact w8 f j g i w hfg hg hj hi (by omega) hb
  · have := w9 f j hf hj
    have h2 : 2 ^ n3 ≤ 2 ^ (n3 + 1) := Nat.pow_le_pow_right (by decide) (by omega)
    omega
def gPlane (A : Nat → Nat → Int) (p1 p2 p3 p4 p5 : Int) : Int × (Nat → Nat → Int) := if A 75 3 = 6 ∨ p1 < 10 ∨ 60 < p1 ∨ p2 < 10 ∨ 400 < p2 ∨ p3 < 1 ∨ 9 < p3 ∨ p4 < 100 ∨ 2000 < p4 ∨ p5 < 0 ∨ A 75 2 ≤ p5 ∨ A 79 p5.toNat < 2 then (-1, uA A 75 0 0) else (A 75 3, uA (uA (uA (uA (uA (uA (uA (uA A 75 0 0) 81 (A 75 3).toNat p1) 82 (A 75 3).toNat p2) 83 (A 75 3).toNat p3) 84 (A 75 3).toNat p4) 85 (A 75 3).toNat p5) 86 (A 75 3).toNat p2) 75 3 (A 75 3 + 1))
def rwPlane (p1 p2 p3 p4 p5 : Int) : Nat → Int := fun f => if f = 0 then p1 else if f = 1 then p2 else if f = 2 then p3 else if f = 3 then p4 else if f = 4 then p5 else if f = 5 then p5 else if f = 6 then p2 else 0
theorem isBase_eq {A : Nat → Nat → Int} {h : Hp} {p : Int} (e : hI h 79 p.toNat = A 79 p.toNat) (h1 : 0 ≤ A 79 p.toNat) (h2 : A 79 p.toNat ≤ 3) : vX4_isBase p h ≠ 0 ↔ 2 ≤ A 79 p.toNat := by
  unfold vX4_isBase b2i
  rw [e, iand_2 h1 h2]
  split <;> omega
section
variable {K : Hp} {D : Nat} {N M : Nat → Nat} {X : Nat → Nat → Nat → Int} {Z : Nat → Nat → Nat} {C : Nat → Nat → List Int} {Wd : Nat → List Int} {A : Nat → Nat → Int} {h : Hp}
theorem m_plane {T : Nat} {N0 : Nat → Nat} {X0 : Nat → Nat → Nat → Int} {C0 : Nat → Nat → List Int} {Wd0 : Nat → List Int} {Q : Rs → Hp → Prop} (x : XS K D N M X Z C Wd A h) (r : Rel T N0 X0 C0 Wd0 A) {p1 p2 p3 p4 p5 : Int} (k : ∀ h', XS K D N M X Z C Wd (gPlane A p1 p2 p3 p4 p5).2 h' → Q (rV (vI (gPlane A p1 p2 p3 p4 p5).1)) h') : mX4_plane p1 p2 p3 p4 p5 h Q := by
  have e := x.rd 75 3
  have e2 := x.rd 75 2
  obtain ⟨s1, s2, s3, s4⟩ := r.2.1
  have r1 := r.2.2.1.1
  have r2 := r.2.2.1.2.1
  unfold mX4_plane
  simp only [forall_eq, hI_sI, hI_sL, hI_sR, hI_nw, hL_sI, hL_sL, hL_sR, hL_nw, hR_sI, hR_sL, hR_sR, hR_nw, hT_sI, hT_sL, hT_sR, hN_sI, hN_sL, hN_sR, hn_sI, hn_sL, hn_sR, hq_sI, hq_sL, hq_sR, Nat.reduceEqDiff, false_and, and_false, true_and, and_true, and_self, if_false, if_true, reduceIte, ite_self]
  rw [e, e2]
  unfold gPlane at k
  have ib : 0 ≤ p5 → p5 < A 75 2 → (vX4_isBase p5 (sI h 75 0 0) ≠ 0 ↔ 2 ≤ A 79 p5.toNat) := by
    intro z1 z2
    obtain ⟨y1, y2, y3, y4, y5, y6⟩ := s3 p5.toNat (by omega)
    exact isBase_eq (x.ra 79 p5.toNat) y5.2.2.1 y5.2.2.2
  refine ⟨fun _ _ z1 z2 => ⟨by omega, by omega⟩, ?_⟩
  have cb : (A 75 3 = 6 ∨ b2i (¬p1 < 10 ∧ ¬60 < p1 ∧ ¬p2 < 10 ∧ ¬400 < p2 ∧ ¬p3 < 1 ∧ ¬9 < p3 ∧ ¬p4 < 100 ∧ ¬2000 < p4) = 0 ∨ p5 < 0 ∨ A 75 2 ≤ p5 ∨ ¬vX4_isBase p5 (sI h 75 0 0) ≠ 0) ↔ (A 75 3 = 6 ∨ p1 < 10 ∨ 60 < p1 ∨ p2 < 10 ∨ 400 < p2 ∨ p3 < 1 ∨ 9 < p3 ∨ p4 < 100 ∨ 2000 < p4 ∨ p5 < 0 ∨ A 75 2 ≤ p5 ∨ A 79 p5.toNat < 2) := by
    by_cases z : 0 ≤ p5 ∧ p5 < A 75 2
    · rw [ib z.1 z.2]
      unfold b2i
      split <;> omega
    · unfold b2i
      split <;> omega
  by_cases c : A 75 3 = 6 ∨ p1 < 10 ∨ 60 < p1 ∨ p2 < 10 ∨ 400 < p2 ∨ p3 < 1 ∨ 9 < p3 ∨ p4 < 100 ∨ 2000 < p4 ∨ p5 < 0 ∨ A 75 2 ≤ p5 ∨ A 79 p5.toNat < 2
  · rw [if_pos c] at k
    rw [if_pos (cb.2 c)]
    exact k _ x.m5
  · rw [if_neg c] at k
    rw [if_neg (fun z => c (cb.1 z))]
    have a1 : 0 ≤ A 75 3 := by omega
    have a2 : A 75 3 < 6 := by omega
    refine ⟨a1, a2, a1, a2, a1, a2, a1, a2, a1, a2, a1, a2, ⟨by omega, by omega⟩, ⟨by omega, by omega⟩, ?_⟩
    rw [Int.add_sub_cancel]
    exact k _ x.m5.ma.ma.ma.ma.ma.ma.m5
theorem x_plane {T : Nat} {Q : Rs → Hp → Prop} (x : XS K D N N X Z C Wd A h) (r : Rel T N X C Wd A) (hD : D ≤ 780000) {p1 p2 p3 p4 p5 : Int} (k : ∀ h', OpV K T (D + 12000) A (gPlane A p1 p2 p3 p4 p5).2 h' → Q (rV (vI (gPlane A p1 p2 p3 p4 p5).1)) h') : mX1_plane p1 p2 p3 p4 p5 h Q := by
  obtain ⟨r0, r1, r2, r3, r4, r5, r6, r7, r8, r9, r10, r11, rw0⟩ := id r
  obtain ⟨b1, b2, b3, b4⟩ := x.hb
  obtain ⟨q1, q2, q3, q4⟩ := r2
  obtain ⟨s1, s2, s3, s4⟩ := id r1
  have e : vJ2_size 55 h = N 2 := x.size 2
  have e1 : vJ2_size 54 h = N 1 := x.size 1
  unfold mX1_plane
  refine ⟨x.osize 2, ?_⟩
  rw [e, e1]
  unfold gPlane at k
  simp only [in_0, in_1]
  split
  · rw [if_pos (by omega)] at k
    exact k _ ⟨N, X, Z, C, Wd, x.more (by omega) (by omega), r.thr 0⟩
  · refine ⟨x.osize 1, ⟨by omega, by omega⟩, ?_⟩
    by_cases z : 0 ≤ p5 ∧ p5 < N 1
    case neg =>
      rw [if_pos (Or.inl (by omega))]
      rw [if_pos (by omega)] at k
      exact ⟨fun z => by omega, k _ ⟨N, X, Z, C, Wd, x.more (by omega) (by omega), r.thr 0⟩⟩
    obtain ⟨p, rfl⟩ : ∃ n : Nat, p5 = n := ⟨p5.toNat, by omega⟩
    have lt : p < N 1 := by omega
    have g : vJ2_get 54 (p : Int) h = Z 1 p := x.get 1 z.1 z.2
    obtain ⟨y1, y2, y3, y4, y5, y6⟩ := s3 p lt
    rw [g, x.int 1 p 5 lt]
    rw [Int.toNat_natCast] at k
    refine ⟨fun _ => ⟨x.oget 1 z.1 z.2, x.obj 1 p lt⟩, ?_⟩
    by_cases c : A 79 p < 2
    · rw [if_pos (by omega)]
      rw [if_pos (by omega)] at k
      exact k _ ⟨N, X, Z, C, Wd, x.more (by omega) (by omega), r.thr 0⟩
    · rw [if_neg (by omega)]
      rw [if_neg (by omega)] at k
      have n1 : A 75 3 = N 2 := by omega
      rw [n1, Int.toNat_natCast] at k
      refine ⟨by omega, by omega, ?_⟩
      rintro r rfl g0 rfl
      have xg : XS K (D + 2) N N X Z C Wd A (nw h 6 0 8) := x.thr (by omega) (by omega) (by omega)
      have g1 : vJ2_get 54 (p : Int) (nw h 6 0 8) = Z 1 p := xg.get 1 z.1 z.2
      rw [g1]
      refine ⟨xg.oget 1 z.1 z.2, xg.obj 1 p lt, ?_⟩
      unfold mX6_init
      simp only [forall_eq]
      refine ⟨by omega, ob_nw_self rfl (by omega), ?_⟩
      refine x.mk 2 (row := rwPlane p1 p2 p3 p4 p) ?_ rfl ?_ ?_ ?_ ?_ ?_ (by omega) (by omega) ?_
      · exact fun a ha => (same_nw (by omega)).trans ((same_sI (by omega)).trans ((same_sI (by omega)).trans ((same_sI (by omega)).trans ((same_sI (by omega)).trans ((same_sR (by omega)).trans ((same_sR (by omega)).trans (same_sI (by omega))))))))
      · simp only [hI_sI, hI_sL, hI_sR, hI_nw, hL_sI, hL_sL, hL_sR, hL_nw, hR_sI, hR_sL, hR_sR, hR_nw, hT_sI, hT_sL, hT_sR, hN_sI, hN_sL, hN_sR, hn_sI, hn_sL, hn_sR, hq_sI, hq_sL, hq_sR, Nat.reduceEqDiff, false_and, and_false, true_and, and_true, and_self, if_false, if_true, reduceIte, ite_self, hq_nw]; omega
      · simp only [hI_sI, hI_sL, hI_sR, hI_nw, hL_sI, hL_sL, hL_sR, hL_nw, hR_sI, hR_sL, hR_sR, hR_nw, hT_sI, hT_sL, hT_sR, hN_sI, hN_sL, hN_sR, hn_sI, hn_sL, hn_sR, hq_sI, hq_sL, hq_sR, Nat.reduceEqDiff, false_and, and_false, true_and, and_true, and_self, if_false, if_true, reduceIte, ite_self, hT_nw]; rfl
      · intro f hf
        simp only [fI, List.mem_cons, List.not_mem_nil, or_false] at hf
        rcases hf with rfl | rfl | rfl | rfl | rfl | rfl <;> simp [hI_sI, hI_sL, hI_sR, hI_nw, hL_sI, hL_sL, hL_sR, hL_nw, hR_sI, hR_sL, hR_sR, hR_nw, hT_sI, hT_sL, hT_sR, hN_sI, hN_sL, hN_sR, hn_sI, hn_sL, hn_sR, hq_sI, hq_sL, hq_sR, Nat.reduceEqDiff, false_and, and_false, true_and, and_true, and_self, if_false, if_true, reduceIte, ite_self, rwPlane]
      · intro q hq
        simp only [fR, List.mem_cons, List.not_mem_nil, or_false] at hq
        rcases hq with rfl | rfl <;> simp [hI_sI, hI_sL, hI_sR, hI_nw, hL_sI, hL_sL, hL_sR, hL_nw, hR_sI, hR_sL, hR_sR, hR_nw, hT_sI, hT_sL, hT_sR, hN_sI, hN_sL, hN_sR, hn_sI, hn_sL, hn_sR, hq_sI, hq_sL, hq_sR, Nat.reduceEqDiff, false_and, and_false, true_and, and_true, and_self, if_false, if_true, reduceIte, ite_self, rwPlane, rfZ, lt] <;> (intro w; omega)
      · intro q hq
        simp [fZ] at hq
      · intro h' y
        have e2 : vJ2_size 55 h' = N 2 + 1 := (y.size 2).trans (by rw [uM_at]; rfl)
        rw [kI_v, e2]
        refine ⟨y.osize 2, ⟨by omega, by omega⟩, ?_⟩
        rw [Int.add_sub_cancel]
        refine k _ ⟨_, _, _, _, _, y.more (by omega) (by omega), ⟨r0.up, r1, ⟨rfl, ?_, ?_, ?_⟩, r3, r4, r5, r6, r7, r8, r9.grow (Nat.le_refl _) (Nat.le_succ (N 2)) (Nat.le_refl _), r10, r11, ?_⟩⟩
        · show N 2 + 1 ≤ 6
          omega
        · intro i hi
          have hi : i < N 2 + 1 := hi
          by_cases z : i = N 2
          · subst z
            have z87 := q4 (N 2) (Nat.le_refl _) (by omega)
            rw [uW_at]
            simp [Pl2, uA, rwPlane, z87]
            refine ⟨by omega, by omega, by omega, by omega, ?_, by omega, ?_⟩
            · show p < N 1
              omega
            · show p < N 1 ∧ 2 ≤ A 79 p
              omega
          · rw [uW_ne (by omega)]
            have := q3 i (by omega)
            simpa [Pl2, uA, z, uM] using this
        · intro i h1 h2
          have h1 : N 2 + 1 ≤ i := h1
          exact q4 i (by omega) h2
        · exact rw0.plane r9.2.2 rfl (fun i hi => by rw [uW_ne (by omega)]) (by rw [uW_at]; rfl)
end
def gPerson (A : Nat → Nat → Int) (p1 p2 : Int) : Int × (Nat → Nat → Int) := if A 75 4 = 12 ∨ p1 < 0 ∨ 2 < p1 ∨ p2 < 0 ∨ A 75 2 ≤ p2 then (-1, uA A 75 0 0) else (A 75 4, uA (uA (uA (uA (uA (uA A 75 0 0) 88 (A 75 4).toNat p1) 89 (A 75 4).toNat p2) 90 (A 75 4).toNat p2) 92 (A 75 4).toNat (-1)) 75 4 (A 75 4 + 1))
def rwPerson (n p1 p2 : Int) : Nat → Int := fun f => if f = 0 then n else if f = 1 then p1 else if f = 2 then p2 else if f = 3 then p2 else 0
section
variable {K : Hp} {D : Nat} {N M : Nat → Nat} {X : Nat → Nat → Nat → Int} {Z : Nat → Nat → Nat} {C : Nat → Nat → List Int} {Wd : Nat → List Int} {A : Nat → Nat → Int} {h : Hp}
theorem m_person {T : Nat} {N0 : Nat → Nat} {X0 : Nat → Nat → Nat → Int} {C0 : Nat → Nat → List Int} {Wd0 : Nat → List Int} {Q : Rs → Hp → Prop} (x : XS K D N M X Z C Wd A h) (r : Rel T N0 X0 C0 Wd0 A) {p1 p2 : Int} (k : ∀ h', XS K D N M X Z C Wd (gPerson A p1 p2).2 h' → Q (rV (vI (gPerson A p1 p2).1)) h') : mX4_person p1 p2 h Q := by
  have e := x.rd 75 4
  have e2 := x.rd 75 2
  have r1 := r.2.2.2.1.1
  have r2 := r.2.2.2.1.2.1
  unfold mX4_person
  simp only [forall_eq, hI_sI, hI_sL, hI_sR, hI_nw, hL_sI, hL_sL, hL_sR, hL_nw, hR_sI, hR_sL, hR_sR, hR_nw, hT_sI, hT_sL, hT_sR, hN_sI, hN_sL, hN_sR, hn_sI, hn_sL, hn_sR, hq_sI, hq_sL, hq_sR, Nat.reduceEqDiff, false_and, and_false, true_and, and_true, and_self, if_false, if_true, reduceIte, ite_self]
  rw [e, e2]
  unfold gPerson at k
  split
  · rw [if_pos (by omega)] at k
    exact k _ x.m5
  · rw [if_neg (by omega)] at k
    have a1 : 0 ≤ A 75 4 := by omega
    have a2 : A 75 4 < 12 := by omega
    refine ⟨a1, a2, a1, a2, a1, a2, a1, a2, ⟨by omega, by omega⟩, ⟨by omega, by omega⟩, ?_⟩
    rw [Int.add_sub_cancel]
    exact k _ x.m5.ma.ma.ma.ma.m5
theorem Rl3.one {n n1 : Nat} {x : Nat → Nat → Int} {d : Int} {A : Nat → Nat → Int} {p1 p2 : Int} (r : Rl3 n n1 x d A) (hn : n < 12) (h1 : 0 ≤ p1 ∧ p1 ≤ 2) (h2 : 0 ≤ p2 ∧ p2 < n1) {x' : Nat → Nat → Int} (hx : ∀ i, i < n → x' i = x i) (hx' : x' n = rwPerson n p1 p2) : Rl3 (n + 1) n1 x' (if p1 = 1 then ior d (ishl 1 n) else d) (uA (uA (uA (uA (uA (uA A 75 0 0) 88 n p1) 89 n p2) 90 n p2) 92 n (-1)) 75 4 ((n : Int) + 1)) := by
  obtain ⟨q1, q2, q3, q4, m, q5, q6, q7⟩ := r
  have h2n : 2 ^ n < 4096 := Nat.pow_lt_pow_right (by decide) hn
  refine ⟨rfl, by omega, fun i hi => ?_, fun i h1 h2 => ?_, ?_⟩
  · by_cases z : i = n
    · subst z
      have z91 := q4 i (Nat.le_refl _) (by omega)
      rw [hx']
      simp [Pl3, uA, rwPerson, z91]
      omega
    · rw [hx i (by omega)]
      have := q3 i (by omega)
      simpa [Pl3, uA, z] using this
  · have := q4 i (by omega) h2
    simpa [uA] using this
  · by_cases c : p1 = 1
    · rw [if_pos c]
      refine ⟨m ||| 2 ^ n, ?_, ?_, fun i hi => ?_⟩
      · rw [q5]
        exact bit_set (by omega) (by omega)
      · exact Nat.or_lt_two_pow (Nat.lt_of_lt_of_le q6 (Nat.pow_le_pow_right (by decide) (Nat.le_succ _))) (Nat.pow_lt_pow_right (by decide) (Nat.lt_succ_self _))
      · rw [Nat.testBit_or, Nat.testBit_two_pow]
        by_cases z : i = n
        · subst z
          simp [uA, c]
        · have := q7 i (by omega)
          simp [uA, z, show ¬ (n = i) by omega, this]
    · rw [if_neg c]
      refine ⟨m, q5, Nat.lt_of_lt_of_le q6 (Nat.pow_le_pow_right (by decide) (Nat.le_succ _)), fun i hi => ?_⟩
      by_cases z : i = n
      · subst z
        have : m.testBit i = false := Nat.testBit_lt_two_pow q6
        simp [uA, c, this]
      · have := q7 i (by omega)
        simp [uA, z, this]
theorem x_person {T : Nat} {Q : Rs → Hp → Prop} (x : XS K D N N X Z C Wd A h) (r : Rel T N X C Wd A) (hD : D ≤ 780000) {p1 p2 : Int} (k : ∀ h', OpV K T (D + 12000) A (gPerson A p1 p2).2 h' → Q (rV (vI (gPerson A p1 p2).1)) h') : mX1_person p1 p2 h Q := by
  obtain ⟨r0, r1, r2, r3, r4, r5, r6, r7, r8, r9, r10, r11, rw0⟩ := id r
  obtain ⟨b1, b2, b3, b4⟩ := x.hb
  have q1 := r3.1
  have q2 := r3.2.1
  obtain ⟨s1, s2, s3, s4⟩ := id r1
  have e : vJ2_size 56 h = N 3 := x.size 3
  have e1 : vJ2_size 54 h = N 1 := x.size 1
  unfold mX1_person
  refine ⟨x.osize 3, ?_⟩
  rw [e, e1]
  unfold gPerson at k
  simp only [in_0, in_1]
  refine ⟨fun _ _ => ⟨x.osize 1, ⟨by omega, by omega⟩⟩, ?_⟩
  split
  · rw [if_pos (by omega)] at k
    exact k _ ⟨N, X, Z, C, Wd, x.more (by omega) (by omega), r.thr 0⟩
  · rw [if_neg (by omega)] at k
    obtain ⟨p, rfl⟩ : ∃ n : Nat, p2 = n := ⟨p2.toNat, by omega⟩
    have lt : p < N 1 := by omega
    have n1 : A 75 4 = N 3 := by omega
    rw [n1, Int.toNat_natCast] at k
    refine ⟨by omega, by omega, ?_⟩
    rintro r rfl g0 rfl
    have xg : XS K (D + 2) N N X Z C Wd A (nw h 7 0 6) := x.thr (by omega) (by omega) (by omega)
    have g1 : vJ2_get 54 (p : Int) (nw h 7 0 6) = Z 1 p := xg.get 1 (by omega) (by omega)
    have e2 : vJ2_size 56 (nw h 7 0 6) = N 3 := xg.size 3
    rw [g1, e2]
    refine ⟨xg.osize 3, xg.oget 1 (by omega) (by omega), xg.obj 1 p lt, ?_⟩
    unfold mX7_init
    simp only [forall_eq]
    refine ⟨by omega, ob_nw_self rfl (by omega), ?_⟩
    refine x.mk 3 (row := rwPerson (N 3) p1 p) ?_ rfl ?_ ?_ ?_ ?_ ?_ (by omega) (by omega) ?_
    · exact fun a ha => (same_nw (by omega)).trans ((same_sI (by omega)).trans ((same_sI (by omega)).trans ((same_sR (by omega)).trans (same_sR (by omega)))))
    · simp only [hI_sI, hI_sL, hI_sR, hI_nw, hL_sI, hL_sL, hL_sR, hL_nw, hR_sI, hR_sL, hR_sR, hR_nw, hT_sI, hT_sL, hT_sR, hN_sI, hN_sL, hN_sR, hn_sI, hn_sL, hn_sR, hq_sI, hq_sL, hq_sR, Nat.reduceEqDiff, false_and, and_false, true_and, and_true, and_self, if_false, if_true, reduceIte, ite_self, hq_nw]; omega
    · simp only [hI_sI, hI_sL, hI_sR, hI_nw, hL_sI, hL_sL, hL_sR, hL_nw, hR_sI, hR_sL, hR_sR, hR_nw, hT_sI, hT_sL, hT_sR, hN_sI, hN_sL, hN_sR, hn_sI, hn_sL, hn_sR, hq_sI, hq_sL, hq_sR, Nat.reduceEqDiff, false_and, and_false, true_and, and_true, and_self, if_false, if_true, reduceIte, ite_self, hT_nw]; rfl
    · intro f hf
      simp only [fI, List.mem_cons, List.not_mem_nil, or_false] at hf
      rcases hf with rfl | rfl | rfl | rfl <;> simp [hI_sI, hI_sL, hI_sR, hI_nw, hL_sI, hL_sL, hL_sR, hL_nw, hR_sI, hR_sL, hR_sR, hR_nw, hT_sI, hT_sL, hT_sR, hN_sI, hN_sL, hN_sR, hn_sI, hn_sL, hn_sR, hq_sI, hq_sL, hq_sR, Nat.reduceEqDiff, false_and, and_false, true_and, and_true, and_self, if_false, if_true, reduceIte, ite_self, rwPerson]
    · intro q hq
      simp only [fR, List.mem_cons, List.not_mem_nil, or_false] at hq
      rcases hq with rfl | rfl <;> simp [hI_sI, hI_sL, hI_sR, hI_nw, hL_sI, hL_sL, hL_sR, hL_nw, hR_sI, hR_sL, hR_sR, hR_nw, hT_sI, hT_sL, hT_sR, hN_sI, hN_sL, hN_sR, hn_sI, hn_sL, hn_sR, hq_sI, hq_sL, hq_sR, Nat.reduceEqDiff, false_and, and_false, true_and, and_true, and_self, if_false, if_true, reduceIte, ite_self, rwPerson, rfZ, lt] <;> (intro w; omega)
    · intro q hq
      simp [fZ] at hq
    · intro h' y
      have lt3 : N 3 < uM N 3 (N 3 + 1) 3 := by rw [uM_at]; omega
      have z3 : uZ Z 3 (N 3) (hn h) 3 (N 3) = hn h := uZ_at _ _ _ _
      have o3 := y.obj 3 (N 3) lt3
      have i3 := y.int 3 (N 3) 0 lt3
      have s23 := y.sc 23
      rw [z3] at o3 i3
      rw [uW_at] at i3
      have i3 : hI h' (hn h) 0 = N 3 := i3
      have s23 : hI h' 50 23 = X 0 0 23 := s23
      rw [kI_v]
      have rel : ∀ X', (∀ c, c ≠ 0 → X' c = uW X 3 (N 3) (rwPerson (N 3) p1 p) c) → (∀ i f, ¬ (i = 0 ∧ f = 23) → X' 0 i f = X 0 i f) → X' 0 0 23 = (if p1 = 1 then ior (X 0 0 23) (ishl 1 (N 3)) else X 0 0 23) → Rel (T + 1) (uM N 3 (N 3 + 1)) X' C Wd (uA (uA (uA (uA (uA (uA A 75 0 0) 88 (N 3) p1) 89 (N 3) p) 90 (N 3) p) 92 (N 3) (-1)) 75 4 ((N 3 : Int) + 1)) := by
        intro X' h1 h0 hd
        have hr3 := Rl3.one (p1 := p1) (p2 := p) r3 (by omega) (by omega) (by omega) (x' := X' 3) (fun i hi => by rw [h1 3 (by decide), uW_ne (by omega)]) (by rw [h1 3 (by decide), uW_at])
        rw [← hd] at hr3
        have hr0 : Rl0 (T + 1) (X' 0) A := by
          obtain ⟨t1, t2, t3, t4, t5, t6, t7⟩ := r0.up
          have f0 : ∀ f, f ≠ 23 → X' 0 0 f = X 0 0 f := fun f hf => h0 0 f (fun z => hf z.2)
          have f1 : X' 0 1 = X 0 1 := funext fun f => h0 1 f (fun z => absurd z.1 (by decide))
          have f2 : X' 0 2 = X 0 2 := funext fun f => h0 2 f (fun z => absurd z.1 (by decide))
          unfold Rl0
          rw [f0 20 (by decide), f0 21 (by decide), f0 22 (by decide), f0 24 (by decide), f0 25 (by decide), f0 26 (by decide), f0 27 (by decide), f1, f2]
          exact ⟨t1, t2, t3, t4, t5, t6, t7⟩
        unfold Rel
        rw [h1 1 (by decide), h1 2 (by decide), h1 4 (by decide), h1 6 (by decide), h1 7 (by decide), h1 8 (by decide), h1 9 (by decide), h1 10 (by decide), h1 11 (by decide)]
        exact ⟨hr0, r1, r2, hr3, r4, r5, r6, r7, r8, r9.grow (Nat.le_refl _) (Nat.le_refl _) (Nat.le_succ (N 3)), r10, r11, rw0.person rfl⟩
      by_cases c : p1 = 1
      · rw [if_pos (by omega)]
        unfold oX7_bit vX7_bit
        rw [i3, s23]
        refine ⟨o3, o3, ?_⟩
        have y1 := y.setS 23 (ior (X 0 0 23) (ishl 1 (N 3)))
        have i3' := y1.int 3 (N 3) 0 lt3
        rw [z3] at i3'
        rw [i3', uX_ci (by omega), uW_at]
        refine k _ ⟨_, _, _, _, _, y1.more (by omega) (by omega), rel _ (fun c hc => uX_c hc) (fun i f hf => ?_) ?_⟩
        · unfold uX
          rw [if_neg (by omega)]
          rfl
        · rw [if_pos c, uX_at]
      · rw [if_neg (by omega)]
        rw [i3]
        refine ⟨o3, k _ ⟨_, _, _, _, _, y.more (by omega) (by omega), rel _ (fun c hc => rfl) (fun i f hf => rfl) ?_⟩⟩
        rw [if_neg c]
        rfl
end
