set_option maxRecDepth 100000
set_option maxHeartbeats 1000000
set_option linter.unusedSimpArgs false
set_option linter.unusedVariables false
/-! SPECS, 14: acts over texts, rain, chests, legs -/
def nfl (A : Nat → Nat → Int) (t : Int) : Int := if t = -1 then 0 else A 98 t.toNat
def ndo (A : Nat → Nat → Int) (t : Int) : Int := if t = -1 then 0 else A 100 t.toNat
def gLaw (A : Nat → Nat → Int) (p1 : Int) : Int × Int × (Nat → Nat → Int) := if p1 < 0 ∨ 7 < p1 then (1, 0, uA A 75 0 1) else (0, if p1 < 5 then prm A (tN A (A 75 1)) p1.toNat else if p1 = 7 then A 75 36 else if p1 = 5 then nfl A (tN A (A 75 1)) else ndo A (tN A (A 75 1)), uA A 75 0 0)
def gWet (A : Nat → Nat → Int) (p1 p2 p3 : Int) : Int × Int × (Nat → Nat → Int) := if p1 < 0 ∨ A 75 2 ≤ p1 then (1, 0, uA A 75 0 1) else if p2 < 0 ∨ 30 < p2 ∨ p3 < 0 ∨ A 75 1 < p3 then (2, 0, uA A 75 0 2) else (0, wetF A p1 p2 p3, uA A 75 0 0)
theorem tN_u0 (A : Nat → Nat → Int) (v k : Int) : tN (uA A 75 0 v) k = tN A k := by
  have : ∀ n, tx (uA A 75 0 v) k n = tx A k n := by
    intro n
    induction n with
    | zero => rfl
    | succ n ih =>
      show (if A 95 n ≤ k then (n : Int) else tx (uA A 75 0 v) k n) = if A 95 n ≤ k then (n : Int) else tx A k n
      rw [ih]
  exact this _
theorem wetF_u0 (A : Nat → Nat → Int) (v p d k : Int) : wetF (uA A 75 0 v) p d k = wetF A p d k := by
  have : ∀ d n, rainF (uA A 75 0 v) p d k n = rainF A p d k n := by
    intro d n
    induction n with
    | zero => rfl
    | succ n ih =>
      show (if A 111 n = p ∧ A 112 n = d ∧ A 114 n ≤ k then A 113 n else rainF (uA A 75 0 v) p d k n) = if A 111 n = p ∧ A 112 n = d ∧ A 114 n ≤ k then A 113 n else rainF A p d k n
      rw [ih]
  unfold wetF rN1
  rw [this, this, this]
  rfl
section
variable {K : Hp} {D : Nat} {N M : Nat → Nat} {X : Nat → Nat → Nat → Int} {Z : Nat → Nat → Nat} {C : Nat → Nat → List Int} {Wd : Nat → List Int} {A : Nat → Nat → Int} {h : Hp}
theorem XS.txt (x : XS K D N M X Z C Wd A h) (t : Nat) (ht : t < M 4) : ∃ own, TxOk own h (Z 4 t) (X 4 t) (C t) ∧ hn h = hn h := by
  obtain ⟨⟨own, x⟩, _⟩ := x
  exact ⟨own, x.2.2.2.2.2.1 t ht, rfl⟩
/-- the lists of the text that holds -/
theorem XS.rulL (x : XS K D N M X Z C Wd A h) (r : Rl4 (N 4) (X 4) C A) {t : Int} (h0 : -1 ≤ t) (h1 : t < N 4) : (ob h (hR h (rul Z t) 1) 32 ∧ vJ2_size (hR h (rul Z t) 1) h = nfl A t) ∧ (ob h (hR h (rul Z t) 2) 32 ∧ vJ2_size (hR h (rul Z t) 2) h = ndo A t) := by
  have l := x.le 4
  obtain ⟨r1, r2, r3⟩ := r
  by_cases z : t < 0
  · have : t = -1 := by omega
    subst this
    obtain ⟨⟨own, x⟩, _⟩ := x
    obtain ⟨n1, n2, n3, n4, n5, n6, n7, n8, n9, n10, n11⟩ := x.2.2.2.2.1
    have e : rul Z (-1) = 66 := rfl
    rw [e, n9, n10]
    exact ⟨⟨n6.1.osize, n6.1.size⟩, ⟨n7.1.osize, n7.1.size⟩⟩
  · obtain ⟨q, rfl⟩ : ∃ n : Nat, t = n := ⟨t.toNat, by omega⟩
    have lt : q < N 4 := by omega
    have e : rul Z (q : Int) = Z 4 q := by
      unfold rul
      rw [if_neg z, Int.toNat_natCast]
    obtain ⟨own, ⟨⟨a1, a2, E, a3, a4⟩, ⟨b1, b2, F, b3, b4⟩, _⟩, _⟩ := x.txt q (by omega)
    obtain ⟨p1, p2, p3, p4, p5⟩ := r3 q lt
    have f1 : nfl A (q : Int) = A 98 q := by
      unfold nfl
      rw [if_neg (by omega), Int.toNat_natCast]
    have f2 : ndo A (q : Int) = A 100 q := by
      unfold ndo
      rw [if_neg (by omega), Int.toNat_natCast]
    rw [e, f1, f2]
    exact ⟨⟨a3.1.osize, a3.1.size.trans (by omega)⟩, ⟨b3.1.osize, b3.1.size.trans (by omega)⟩⟩
theorem m_prm {t j : Int} (x : XS K D N M X Z C Wd A h) (h0 : -1 ≤ t) (h1 : t < 12) (h2 : 0 ≤ j) (h3 : j < 5) : oX4_paramOf t j h ∧ vX4_paramOf t j h = prm A t j.toNat := by
  unfold oX4_paramOf vX4_paramOf prm
  constructor
  · intro z
    exact ⟨⟨by omega, by omega⟩, ⟨by omega, by omega⟩, by omega, by omega⟩
  · rw [x.ra 96]
    by_cases z : t = -1
    · rw [if_neg (by omega), if_pos z]
      have : j = 0 ∨ j = 1 ∨ j = 2 ∨ j = 3 ∨ j = 4 := by omega
      rcases this with rfl | rfl | rfl | rfl | rfl <;> rfl
    · rw [if_pos z, if_neg z]
      congr 1
      omega
theorem m_law {T : Nat} {N0 : Nat → Nat} {X0 : Nat → Nat → Nat → Int} {C0 : Nat → Nat → List Int} {Wd0 : Nat → List Int} {Q : Rs → Hp → Prop} (x : XS K D N M X Z C Wd A h) (r : Rel T N0 X0 C0 Wd0 A) {p1 : Int} (k : ∀ h', XS K D N M X Z C Wd (gLaw A p1).2.2 h' → hL h' 158 = hL h 158 → Q (rV (vI (gLaw A p1).2.1)) h') : mX4_law p1 h Q := by
  have r1 := r.2.2.2.2.1.1
  have r2 := r.2.2.2.2.1.2.1
  unfold mX4_law
  unfold gLaw at k
  rintro g rfl v rfl
  have y : XS K D N M X Z C Wd (uA A 75 0 0) (sI h 75 0 0) := x.m5
  refine m_right rfl (by decide) (fun z => ?_) (fun z => ?_)
  · have z := b2i_1 z
    rw [if_neg (by omega)] at k
    rw [kI_v, if_neg (by decide), y.rd 75 1]
    refine m_textBy y (n := N0 4) r1 r2 ?_
    have et : tN (uA A 75 0 0) (uA A 75 0 0 75 1) = tN A (A 75 1) := tN_u0 A 0 _
    rw [et, kI_v]
    have tl := tx_lt A (A 75 1) (A 75 35).toNat
    have t0 : -1 ≤ tN A (A 75 1) := tl.1
    have t1 : tN A (A 75 1) < 12 := by
      have : tN A (A 75 1) < (A 75 35).toNat := tl.2
      omega
    have k := k _ y rfl
    by_cases c5 : p1 < 5
    · rw [if_pos (by omega)]
      rw [if_pos c5] at k
      obtain ⟨o, e⟩ := m_prm y t0 t1 (j := p1) (by omega) (by omega)
      rw [e]
      exact ⟨o, k⟩
    · rw [if_neg (by omega)]
      rw [if_neg c5] at k
      by_cases c7 : p1 = 7
      · rw [if_pos (by omega), y.rd 75 36]
        rw [if_pos c7] at k
        exact k
      · rw [if_neg (by omega)]
        rw [if_neg c7] at k
        refine ⟨fun w => ⟨fun _ => ⟨by omega, by omega⟩, fun _ => ⟨by omega, by omega⟩⟩, ?_⟩
        rintro v rfl
        rw [y.ra 98, y.ra 100]
        by_cases c : tN A (A 75 1) = -1
        · rw [if_pos (by omega)]
          have e1 : nfl A (tN A (A 75 1)) = 0 := if_pos c
          have e2 : ndo A (tN A (A 75 1)) = 0 := if_pos c
          rw [e1, e2] at k
          split at k <;> exact k
        · rw [if_neg (by omega)]
          have e1 : nfl A (tN A (A 75 1)) = A 98 (tN A (A 75 1)).toNat := if_neg c
          have e2 : ndo A (tN A (A 75 1)) = A 100 (tN A (A 75 1)).toNat := if_neg c
          rw [e1, e2] at k
          by_cases c6 : p1 = 5
          · rw [if_pos (by omega)]
            rw [if_pos c6] at k
            exact k
          · rw [if_neg (by omega)]
            rw [if_neg c6] at k
            exact k
  · have z := b2i_0 z
    rw [if_pos (by omega)] at k
    rw [kI_v, if_pos (by decide)]
    exact k _ y.t5 rfl
theorem x_law {T : Nat} {Q : Rs → Hp → Prop} (x : XS K D N N X Z C Wd A h) (r : Rel T N X C Wd A) (hD : D ≤ 780000) {p1 : Int} (k : ∀ h', OpT K T (D + 12000) A (gLaw A p1) h' → Q (rV (vI (gLaw A p1).1)) h') : mX0_law p1 h Q := by
  obtain ⟨r0, r1, r2, r3, r4, r5, r6, r7, r8, r9, r10, r11, rw0⟩ := id r
  unfold mX0_law mX1_law
  unfold gLaw at k
  have en0 : hI h 50 20 = A 75 1 := (x.sc 20).trans r0.1.1
  refine x_found x (by omega) (fun z => ?_) (fun z y o t => ?_)
  · have z := (in_1 _ _ _ _).1 z
    rw [if_neg (by omega)] at k
    rw [kN_v, en0]
    refine x_rulesAt x r4 ?_
    have tl := tx_lt A (A 75 1) (A 75 35).toNat
    have t0 : -1 ≤ tN A (A 75 1) := tl.1
    have t1 : tN A (A 75 1) < N 4 := by
      have : tN A (A 75 1) < (A 75 35).toNat := tl.2
      have := r4.1
      omega
    obtain ⟨o1, o2, o3, o4⟩ := x.rulF r4 t0 t1
    obtain ⟨⟨l1, l2⟩, ⟨l3, l4⟩⟩ := x.rulL r4 t0 t1
    rw [kR_v]
    refine ⟨⟨fun w => ⟨o1, o2, by omega, by rw [o3]; omega⟩, fun w => ⟨fun _ => ⟨o1, l1, l1⟩, fun _ => ⟨fun _ => ⟨o1, l3, l3⟩, fun _ => x.osize 5⟩⟩⟩, ?_⟩
    rintro v rfl
    rw [kIx_v]
    rintro g rfl
    refine k _ ⟨N, X, Z, C, Wd, (x.out).more (by omega) (by omega), r.thr 0, fun _ => ?_⟩
    rw [hL_sL, if_pos ⟨rfl, rfl⟩]
    show _ = if p1 < 5 then prm A (tN A (A 75 1)) p1.toNat else if p1 = 7 then A 75 36 else if p1 = 5 then nfl A (tN A (A 75 1)) else ndo A (tN A (A 75 1))
    have e5 : vJ2_size 58 h = A 75 36 := (x.size 5).trans r5.1.symm
    rw [l2, l4, e5]
    by_cases c5 : p1 < 5
    · rw [if_pos (by omega), if_pos c5]
      exact (o4 p1.toNat (by omega)).1
    · rw [if_neg (by omega), if_neg c5]
      by_cases c : p1 = 5
      · rw [if_pos (by omega), if_neg (by omega), if_pos c]
      · rw [if_neg (by omega), if_neg c]
        by_cases c6 : p1 = 6
        · rw [if_pos (by omega), if_neg (by omega)]
        · rw [if_neg (by omega), if_pos (by omega)]
  · have z := (in_0 _ _ _ _).1 z
    rw [if_pos (by omega)] at k
    exact ⟨o, k _ ⟨N, X, Z, C, Wd, y.more (by omega) (by omega), r.thr 1, fun z => absurd z ne10⟩⟩
theorem m_wet {T : Nat} {N0 : Nat → Nat} {X0 : Nat → Nat → Nat → Int} {C0 : Nat → Nat → List Int} {Wd0 : Nat → List Int} {Q : Rs → Hp → Prop} (x : XS K D N M X Z C Wd A h) (r : Rel T N0 X0 C0 Wd0 A) {p1 p2 p3 : Int} (k : ∀ h', XS K D N M X Z C Wd (gWet A p1 p2 p3).2.2 h' → hL h' 158 = hL h 158 → Q (rV (vI (gWet A p1 p2 p3).2.1)) h') : mX4_wet p1 p2 p3 h Q := by
  have r6 := r.2.2.2.2.2.2.1
  unfold mX4_wet
  unfold gWet at k
  refine m_isPlace x (fun a1 a2 y => ?_) (fun z y => ?_)
  · rw [if_neg (by omega)] at k
    rw [kI_v, if_pos (by decide)]
    rintro v rfl
    have et : vX4_isTime p3 (sI h 75 0 0) = 0 ↔ (p3 < 0 ∨ A 75 1 < p3) := by
      unfold vX4_isTime b2i
      have : hI (sI h 75 0 0) 75 1 = A 75 1 := x.rd 75 1
      rw [this]
      split <;> omega
    refine m_right rfl (by decide) (fun z => ?_) (fun z => ?_)
    · have z := b2i_1 z
      rw [day_1, et] at z
      rw [if_neg (by omega)] at k
      rw [kI_v, if_pos (by decide)]
      refine m_wetOf y (n := N0 6) (y := X0 6) r6 (by omega) ?_
      have : wetF (uA A 75 0 0) p1 p2 p3 = wetF A p1 p2 p3 := wetF_u0 A 0 _ _ _
      rw [this]
      exact k _ y rfl
    · have z := b2i_0 z
      rw [day_1, et] at z
      rw [if_pos (by omega)] at k
      rw [kI_v, if_neg (by decide)]
      exact k _ y.t5 rfl
  · rw [if_pos z] at k
    rw [kI_v, if_neg (by decide)]
    exact k _ y rfl
theorem x_wet {T : Nat} {Q : Rs → Hp → Prop} (x : XS K D N N X Z C Wd A h) (r : Rel T N X C Wd A) (hD : D ≤ 780000) {p1 p2 p3 : Int} (k : ∀ h', OpT K T (D + 12000) A (gWet A p1 p2 p3) h' → Q (rV (vI (gWet A p1 p2 p3).1)) h') : mX0_wet p1 p2 p3 h Q := by
  obtain ⟨r0, r1, r2, r3, r4, r5, r6, r7, r8, r9, r10, r11, rw0⟩ := id r
  have s1 := r1.1
  have s3 := r1.2.2.1
  have en0 : hI h 50 20 = A 75 1 := (x.sc 20).trans r0.1.1
  unfold mX0_wet mX1_wet
  unfold gWet at k
  refine x_placeAt x (by omega) (fun a1 a2 a3 => ?_) (fun z y o t => ?_)
  · rw [if_neg (by omega)] at k
    rw [kR_v]
    rintro v rfl
    refine x_right x (by omega) (fun z => ?_) (fun z y o t => ?_)
    · have z := b2i_1 z
      rw [in_0, in_0, en0] at z
      rw [if_neg (by omega)] at k
      obtain ⟨p, rfl⟩ : ∃ n : Nat, p1 = n := ⟨p1.toNat, by omega⟩
      rw [Int.toNat_natCast] at a3 ⊢
      rw [kN_v]
      refine x_wetOf x r6 a3 (s3 p a3).1 (by omega) ?_
      rw [kI_v, kIx_v]
      rintro g rfl
      exact k _ ⟨N, X, Z, C, Wd, (x.out).more (by omega) (by omega), r.thr 0, fun _ => (by rw [hL_sL, if_pos ⟨rfl, rfl⟩]; try rfl)⟩
    · have z := b2i_0 z
      rw [in_0, in_0, en0] at z
      rw [if_pos (by omega)] at k
      show if hT (nw h 42 0 6) (hn h) = 41 then _ else _
      rw [t, if_neg (by decide)]
      exact ⟨o, k _ ⟨N, X, Z, C, Wd, y.more (by omega) (by omega), r.thr 2, fun z => absurd z ne20⟩⟩
  · rw [if_pos (by omega)] at k
    show if hT (nw h 41 0 6) (hn h) = 41 then _ else _
    rw [if_pos t]
    exact ⟨o, k _ ⟨N, X, Z, C, Wd, y.more (by omega) (by omega), r.thr 1, fun z => absurd z ne10⟩⟩
end
