set_option maxRecDepth 100000
set_option maxHeartbeats 1000000
set_option linter.unusedSimpArgs false
set_option linter.unusedVariables false
/-! SPECS, 23: acts that ask whether one may come down -/
/-- as OpT, for acts that leave the texts alone -/
def OpS (K : Hp) (T D : Nat) (A : Nat → Nat → Int) (N0 : Nat → Nat) (X0 : Nat → Nat → Nat → Int) (C : Nat → Nat → List Int) (g : Int × Int × (Nat → Nat → Int)) (h : Hp) : Prop := ∃ (N : Nat → Nat) (X : Nat → Nat → Nat → Int) (Z : Nat → Nat → Nat) (Wd : Nat → List Int), XS K D N N X Z C Wd A h ∧ N 4 = N0 4 ∧ X 4 = X0 4 ∧ Rel (T + 1) N X C Wd g.2.2 ∧ (g.1 = 0 → hL h 158 0 = g.2.1)
theorem mayF_c {A B : Nat → Nat → Int} {C : Nat → Nat → List Int} (e : ∀ a, a ∈ [76, 77, 78, 79, 84, 95, 96, 98, 111, 112, 113, 114] → B a = A a) (e35 : B 75 35 = A 75 35) (e60 : B 75 60 = A 75 60) (pl p : Nat) (t k : Int) (fr : Nat) (fu fl : Int) : mayF B C pl p t k fr fu fl = mayF A C pl p t k fr fu fl := by
  have et : tN B k = tN A k := tN_v e35 (e 95 (by decide)) k
  have ep : prm B = prm A := by
    funext t j
    unfold prm
    rw [e 96 (by decide)]
  have ev : vMay B pl p t k fr fu fl = vMay A pl p t k fr fu fl := by
    funext j
    unfold vMay mi
    rw [wetF_c (A := A) (B := B) e60 (e 111 (by decide)) (e 112 (by decide)) (e 113 (by decide)) (e 114 (by decide)), e 76 (by decide), e 77 (by decide), e 78 (by decide), e 79 (by decide), e 84 (by decide)]
  unfold mayF
  rw [et, ep, ev, e 98 (by decide)]
theorem mayF_u0 (A : Nat → Nat → Int) (C : Nat → Nat → List Int) (v : Int) (pl p : Nat) (t k : Int) (fr : Nat) (fu fl : Int) : mayF (uA A 75 0 v) C pl p t k fr fu fl = mayF A C pl p t k fr fu fl := by
  refine mayF_c (A := A) (B := uA A 75 0 v) (fun a ha => uA_a ?_) (uA_i (by decide)) (uA_i (by decide)) _ _ _ _ _ _ _
  have : ∀ a ∈ [76, 77, 78, 79, 84, 95, 96, 98, 111, 112, 113, 114], a ≠ 75 := by decide
  exact this a ha
def gMay (A : Nat → Nat → Int) (C : Nat → Nat → List Int) (p1 p2 p3 p4 p5 p6 p7 : Int) : Int × Int × (Nat → Nat → Int) := if p1 < 0 ∨ A 75 3 ≤ p1 ∨ p2 < 0 ∨ A 75 2 ≤ p2 ∨ p5 < 0 ∨ A 75 2 ≤ p5 then (1, 0, uA A 75 0 1) else if p3 < 0 ∨ 2975 < p3 ∨ p4 < 0 ∨ A 75 1 < p4 then (2, 0, uA A 75 0 2) else (0, mayF A C p1.toNat p2.toNat p3 p4 p5.toNat p6 p7, uA A 75 0 0)
section
variable {K : Hp} {D : Nat} {N M : Nat → Nat} {X : Nat → Nat → Nat → Int} {Z : Nat → Nat → Nat} {C : Nat → Nat → List Int} {Wd : Nat → List Int} {A : Nat → Nat → Int} {h : Hp}
theorem m_may {T : Nat} {N0 : Nat → Nat} {X0 : Nat → Nat → Nat → Int} {Wd0 : Nat → List Int} {Q : Rs → Hp → Prop} (x : XS K D N M X Z C Wd A h) (r : Rel T N0 X0 C Wd0 A) (hM : N0 4 ≤ M 4) (hX : X 4 = X0 4) {p1 p2 p3 p4 p5 p6 p7 : Int} (k : ∀ h' B, XS K D N M X Z C Wd B h' → scE (gMay A C p1 p2 p3 p4 p5 p6 p7).2.2 B → hL h' 158 = hL h 158 → Q (rV (vI (gMay A C p1 p2 p3 p4 p5 p6 p7).2.1)) h') : mX4_may p1 p2 p3 p4 p5 p6 p7 h Q := by
  obtain ⟨r0, r1, r2, r3, r4, r5, r6, r7, r8, r9, r10, r11, rw0⟩ := id r
  have s1 := r1.1
  have s2 := r2.1
  have s6 := r2.2.1
  unfold mX4_may
  unfold gMay at k
  rintro g rfl
  have y : XS K D N M X Z C Wd (uA A 75 0 0) (sI h 75 0 0) := x.m5
  refine m_isPlane y rfl (fun a1 a2 => ?_) (fun z w => ?_)
  · have a2 : p1 < A 75 3 := a2
    rw [kI_v, if_pos (by decide)]
    have e2 : hI (sI h 75 0 0) 75 2 = A 75 2 := x.rd 75 2
    have e1 : hI (sI h 75 0 0) 75 1 = A 75 1 := x.rd 75 1
    rw [e2]
    rintro v rfl
    refine m_right rfl (by decide) (fun z => ?_) (fun z => ?_)
    · have z := b2i_1 z
      rw [if_neg (by omega)] at k
      rw [kI_v, if_pos (by decide)]
      unfold vX4_isFar vX4_isTime
      rw [e1]
      rintro v rfl
      refine m_right rfl (by decide) (fun z2 => ?_) (fun z2 => ?_)
      · have z2 := b2i_1 z2
        have z3 := b2i_1 z2.1
        have z4 := b2i_1 z2.2
        rw [if_neg (by omega)] at k
        rw [kI_v, if_neg (by decide)]
        obtain ⟨p, rfl⟩ : ∃ n : Nat, p1 = n := ⟨p1.toNat, by omega⟩
        obtain ⟨q, rfl⟩ : ∃ n : Nat, p2 = n := ⟨p2.toNat, by omega⟩
        obtain ⟨f, rfl⟩ : ∃ n : Nat, p5 = n := ⟨p5.toNat, by omega⟩
        refine m_mayNot y (n := N0 1) (y := X0 1) (n4 := N0 4) (y4 := X0 4) (n6 := N0 6) (y6 := X0 6) r1 r4 r6 hM (fun t _ => congrFun hX t) (by omega) (by omega) (by omega) (by omega) (by omega) (fun g B xb eb ol => ?_)
        rw [kI_v, mayF_u0]
        exact k _ B xb eb.sc ol
      · have z2 := b2i_0 z2
        rw [if_pos (by
          apply Classical.byContradiction
          intro z3
          apply z2
          constructor
          · rw [b2i_t (by omega)]; decide
          · rw [b2i_t (by omega)]; decide)] at k
        rw [kI_v, if_pos (by decide)]
        exact k _ _ y.t5 (fun _ _ _ => rfl) rfl
    · have z := b2i_0 z
      rw [if_pos (by omega)] at k
      rw [kI_v, if_neg (by decide)]
      exact k _ _ y.t5 (fun _ _ _ => rfl) rfl
  · have z : p1 < 0 ∨ A 75 3 ≤ p1 := z
    rw [if_pos (by omega)] at k
    rw [kI_v, if_neg (by decide)]
    rw [uA_uA] at w
    exact k _ _ w (fun _ _ _ => rfl) rfl
theorem x_may {T : Nat} {Q : Rs → Hp → Prop} (x : XS K D N N X Z C Wd A h) (r : Rel T N X C Wd A) (hD : D ≤ 780000) {p1 p2 p3 p4 p5 p6 p7 : Int} (k : ∀ h', OpS K T (D + 12000) A N X C (gMay A C p1 p2 p3 p4 p5 p6 p7) h' → Q (rV (vI (gMay A C p1 p2 p3 p4 p5 p6 p7).1)) h') : mX0_may p1 p2 p3 p4 p5 p6 p7 h Q := by
  obtain ⟨r0, r1, r2, r3, r4, r5, r6, r7, r8, r9, r10, r11, rw0⟩ := id r
  have s1 := r1.1
  have s2 := r2.1
  have en0 : hI h 50 20 = A 75 1 := (x.sc 20).trans r0.1.1
  unfold mX0_may mX1_may
  unfold gMay at k
  refine x_planeAt x (by omega) (fun a1 a2 a3 => ?_) (fun z y o t => ?_)
  · rw [kR_v]
    refine x_placeAt x (by omega) (fun b1 b2 b3 => ?_) (fun z y o t => ?_)
    · rw [kR_v]
      refine x_placeAt x (by omega) (fun c1 c2 c3 => ?_) (fun z y o t => ?_)
      · rw [if_neg (by omega)] at k
        rw [kR_v]
        rintro v rfl
        refine x_right x (by omega) (fun z => ?_) (fun z y o t => ?_)
        · have z := b2i_1 z
          rw [in_0, in_0, en0] at z
          rw [if_neg (by omega)] at k
          rw [kN_v]
          refine x_mayNot x r1 r4 r6 a3 (r2.2.2.1 _ a3).2.2.2.1.1 b3 c3 (by omega) (by omega) (fun g y _ => ?_)
          rw [kI_v, kIx_v]
          rintro g2 rfl
          exact k _ ⟨N, X, Z, Wd, (y.out).more (by omega) (by omega), rfl, rfl, r.thr 0, fun _ => (by rw [hL_sL, if_pos ⟨rfl, rfl⟩]; try rfl)⟩
        · have z := b2i_0 z
          rw [in_0, in_0, en0] at z
          rw [if_pos (by omega)] at k
          show if hT (nw h 42 0 6) (hn h) = 41 then _ else _
          rw [t, if_neg (by decide)]
          exact ⟨o, k _ ⟨N, X, Z, Wd, y.more (by omega) (by omega), rfl, rfl, r.thr 2, fun z => absurd z ne20⟩⟩
      · rw [if_pos (by omega)] at k
        show if hT (nw h 41 0 6) (hn h) = 41 then _ else _
        rw [if_pos t]
        exact ⟨o, k _ ⟨N, X, Z, Wd, y.more (by omega) (by omega), rfl, rfl, r.thr 1, fun z => absurd z ne10⟩⟩
    · rw [if_pos (by omega)] at k
      show if hT (nw h 41 0 6) (hn h) = 41 then _ else _
      rw [if_pos t]
      exact ⟨o, k _ ⟨N, X, Z, Wd, y.more (by omega) (by omega), rfl, rfl, r.thr 1, fun z => absurd z ne10⟩⟩
  · rw [if_pos (by omega)] at k
    show if hT (nw h 41 0 6) (hn h) = 41 then _ else _
    rw [if_pos t]
    exact ⟨o, k _ ⟨N, X, Z, Wd, y.more (by omega) (by omega), rfl, rfl, r.thr 1, fun z => absurd z ne10⟩⟩
end
def hlB (A : Nat → Nat → Int) (C : Nat → Nat → List Int) (f j : Nat) : Bool := decide (A 75 1 < A 138 (7 * f + j)) && decide (mayF A C (A 128 f).toNat (A 136 (7 * f + j)).toNat (A 138 (7 * f + j)) (A 75 1) (frL A f j) (A 139 (7 * f + j)) (A 141 (7 * f + j)) ≠ -1)
def hlF (A : Nat → Nat → Int) (C : Nat → Nat → List Int) (f : Nat) : Nat → Nat → Int
  | 0, _ => -1
  | n + 1, j => if hlB A C f j = true then j else hlF A C f n (j + 1)
def gHolds (A : Nat → Nat → Int) (C : Nat → Nat → List Int) (p1 : Int) : Int × Int × (Nat → Nat → Int) := if p1 < 0 ∨ A 75 80 ≤ p1 then (1, 0, uA A 75 0 1) else (0, hlF A C p1.toNat (A 130 p1.toNat).toNat 0, uA A 75 0 0)
section
variable {K : Hp} {D : Nat} {N M : Nat → Nat} {X : Nat → Nat → Nat → Int} {Z : Nat → Nat → Nat} {C : Nat → Nat → List Int} {Wd : Nat → List Int} {A : Nat → Nat → Int} {h : Hp}
theorem frL_lt {n n1 n2 n3 : Nat} {y : Nat → Nat → Int} (r : Rl9 n n1 n2 n3 y A) {f j : Nat} (hf : f < n) (hj : (j : Int) < A 130 f) : frL A f j < n1 := by
  obtain ⟨y1, y2, y3, y4, y5⟩ := r.2.2 f hf
  unfold frL
  by_cases z : j = 0
  · rw [if_pos z]
    omega
  · rw [if_neg z]
    have := (y5 (j - 1) (by omega)).1
    omega
theorem x_ahead (x : XS K D N M X Z C Wd A h) (r : Rl9 (N 9) (N 1) (N 2) (N 3) (X 9) A) {f j : Nat} (hf : f < N 9) (hj : (j : Int) < A 130 f) : oX20_ahead (Z 9 f) j h ∧ vX20_ahead (Z 9 f) j h = Z 1 (frL A f j) := by
  have l := x.le 9
  obtain ⟨y1, y2, y3, y4, y5⟩ := r.2.2 f hf
  have o9 := x.obj 9 f (by omega)
  obtain ⟨t1, t2, t3, t4⟩ := x.par 9 f 3 7 1 (by omega)
  unfold oX20_ahead vX20_ahead frL
  refine ⟨⟨fun _ => o9, fun z => ⟨o9, ⟨by omega, by omega⟩, t1, by omega, by rw [t2]; omega⟩⟩, ?_⟩
  by_cases z : j = 0
  · rw [if_pos (by omega), if_pos z]
    have := (x.ref 9 f 11 1 (by omega) (by omega)).1
    rw [this, y4.1]
  · rw [if_neg (by omega), if_neg z]
    have q := (y5 (j - 1) (by omega)).1
    obtain ⟨t5, t6⟩ := t4 (j - 1) (by omega)
    rw [show ((j : Int) - 1).toNat = j - 1 by omega, t5]
    unfold rfZ
    rw [if_neg (by omega), q.1]
theorem x_holds {T : Nat} {Q : Rs → Hp → Prop} (x : XS K D N N X Z C Wd A h) (r : Rel T N X C Wd A) (hD : D ≤ 780000) {p1 : Int} (k : ∀ h', OpS K T (D + 12000) A N X C (gHolds A C p1) h' → Q (rV (vI (gHolds A C p1).1)) h') : mX0_holds p1 h Q := by
  obtain ⟨r0, r1, r2, r3, r4, r5, r6, r7, r8, r9, r10, r11, rw0⟩ := id r
  have s9 := r9.1
  unfold mX0_holds mX1_holds
  unfold gHolds at k
  refine x_flightAt x (by omega) (fun a1 a2 a3 => ?_) (fun z y o t => ?_)
  · rw [if_neg (by omega)] at k
    obtain ⟨f, rfl⟩ : ∃ n : Nat, p1 = n := ⟨p1.toNat, by omega⟩
    rw [Int.toNat_natCast] at k a3 ⊢
    obtain ⟨y1, y2, y3, y4, y5⟩ := r9.2.2 f a3
    obtain ⟨n, hn⟩ : ∃ n : Nat, A 130 f = n := ⟨(A 130 f).toNat, by omega⟩
    rw [hn, Int.toNat_natCast] at k
    rw [kR_v]
    refine wh2_of (fun (i : Int) g => XS K D N N X Z C Wd A g ∧ ∃ j : Nat, j ≤ n ∧ i = j ∧ hlF A C f (n - j) j = hlF A C f n 0) (fun i _ => n - i.toNat) ?_ ⟨x, 0, by omega, rfl, rfl⟩
    rintro R i g ⟨y, j, hj, rfl, hh⟩ kk
    have o9 := y.obj 9 f a3
    rw [y.int 9 f 2 a3, y1.1, hn]
    refine ⟨o9, ?_⟩
    have en0 : hI g 50 20 = A 75 1 := (y.sc 20).trans r0.1.1
    by_cases z : j < n
    · rw [if_pos (by omega)]
      have j7 : j < 7 := by omega
      obtain ⟨z1, z2, z3, z4, z5, z6, z7, z8⟩ := y5 j (by omega)
      obtain ⟨t1, t2, t3, t4⟩ := y.par 9 f 3 7 1 a3
      obtain ⟨t5, t6⟩ := t4 j j7
      obtain ⟨u1, u2, _, u3⟩ := y.arr 9 f 5 7 a3
      obtain ⟨v1, v2, _, v3⟩ := y.arr 9 f 6 7 a3
      obtain ⟨w1, w2, _, w3⟩ := y.arr 9 f 8 7 a3
      have lt : (A 136 (7 * f + j)).toNat < N 1 := by omega
      have er : hR g (hR g (Z 9 f) 3) j = Z 1 (A 136 (7 * f + j)).toNat := by
        rw [t5]
        unfold rfZ
        rw [if_neg (by omega), z1.1]
      have ep := (y.ref 9 f 0 2 a3 (by omega)).1
      rw [Int.toNat_natCast, u3 j j7, v3 j j7, w3 j j7, z3.1, z4.1, z6, u2, v2, w2, t2, en0, er, ep, y2.1]
      refine ⟨u1, by omega, by omega, ?_⟩
      have hs : n - j = (n - (j + 1)) + 1 := by omega
      rw [hs] at hh
      have hh : (if hlB A C f j = true then (j : Int) else hlF A C f (n - (j + 1)) (j + 1)) = hlF A C f n 0 := hh
      obtain ⟨ah1, ah2⟩ := x_ahead y r9 a3 (j := j) (by omega)
      by_cases c : A 75 1 < A 138 (7 * f + j)
      · rw [if_pos (by omega), ah2]
        refine ⟨t1, by omega, ah1, v1, by omega, w1, by omega, ?_⟩
        have lt2 : (A 128 f).toNat < N 2 := by omega
        refine x_mayNot y r1 r4 r6 lt2 (r2.2.2.1 _ lt2).2.2.2.1.1 lt (frL_lt r9 a3 (by omega)) (by omega) (by omega) (fun g2 y2 _ => ?_)
        rw [kI_v]
        by_cases d : mayF A C (A 128 f).toNat (A 136 (7 * f + j)).toNat (A 138 (7 * f + j)) (A 75 1) (frL A f j) (A 139 (7 * f + j)) (A 141 (7 * f + j)) = -1
        · rw [if_neg (fun w => w d)]
          have : hlB A C f j = false := by
            unfold hlB
            simp [d]
          rw [this, if_neg (by decide)] at hh
          refine ⟨⟨by omega, by omega⟩, ?_⟩
          rintro i rfl
          exact kk _ _ ⟨y2, j + 1, z, rfl, hh⟩ (by omega)
        · rw [if_pos d]
          have : hlB A C f j = true := by
            unfold hlB
            simp [d, c]
          rw [this, if_pos rfl] at hh
          rw [kIx_v, hh]
          rintro g3 rfl
          exact k _ ⟨N, X, Z, Wd, (y2.out).more (by omega) (by omega), rfl, rfl, r.thr 0, fun _ => (by rw [hL_sL, if_pos ⟨rfl, rfl⟩]; try rfl)⟩
      · rw [if_neg (by omega)]
        have : hlB A C f j = false := by
          unfold hlB
          simp [c]
        rw [this, if_neg (by decide)] at hh
        refine ⟨⟨by omega, by omega⟩, ?_⟩
        rintro i rfl
        exact kk _ _ ⟨y, j + 1, z, rfl, hh⟩ (by omega)
    · have : j = n := by omega
      subst this
      rw [if_neg (by omega)]
      rw [Nat.sub_self] at hh
      have hh : (-1 : Int) = _ := hh
      rw [kIx_v, hh]
      rintro g3 rfl
      exact k _ ⟨N, X, Z, Wd, (y.out).more (by omega) (by omega), rfl, rfl, r.thr 0, fun _ => (by rw [hL_sL, if_pos ⟨rfl, rfl⟩]; try rfl)⟩
  · rw [if_pos (by omega)] at k
    exact ⟨o, k _ ⟨N, X, Z, Wd, y.more (by omega) (by omega), rfl, rfl, r.thr 1, fun z => absurd z ne10⟩⟩
theorem m_holds {T : Nat} {N0 : Nat → Nat} {X0 : Nat → Nat → Nat → Int} {Wd0 : Nat → List Int} {Q : Rs → Hp → Prop} (x : XS K D N M X Z C Wd A h) (r : Rel T N0 X0 C Wd0 A) (hM : N0 4 ≤ M 4) (hX : X 4 = X0 4) {p1 : Int} (k : ∀ h' B, XS K D N M X Z C Wd B h' → scE (gHolds A C p1).2.2 B → hL h' 158 = hL h 158 → Q (rV (vI (gHolds A C p1).2.1)) h') : mX4_holds p1 h Q := by
  obtain ⟨r0, r1, r2, r3, r4, r5, r6, r7, r8, r9, r10, r11, rw0⟩ := id r
  have s9 := r9.1
  have n9 := r9.2.1
  have l2 := r2.2.1
  have now := r0.1.2
  unfold mX4_holds
  unfold gHolds at k
  refine m_isFlight x (fun a1 a2 y => ?_) (fun z y => ?_)
  · rw [if_neg (by omega)] at k
    rw [kI_v, if_neg (by decide)]
    obtain ⟨f, rfl⟩ : ∃ n : Nat, p1 = n := ⟨p1.toNat, by omega⟩
    rw [Int.toNat_natCast] at k
    have lf : f < N0 9 := by omega
    obtain ⟨y1, y2, y3, y4, y5⟩ := r9.2.2 f lf
    obtain ⟨n, hn⟩ : ∃ n : Nat, A 130 f = n := ⟨(A 130 f).toNat, by omega⟩
    rw [hn, Int.toNat_natCast] at k
    have lt2 : (A 128 f).toNat < N0 2 := by omega
    refine wh2_of (fun (i : Int) g => ∃ (j : Nat) (B : Nat → Nat → Int), i = j ∧ j ≤ n ∧ XS K D N M X Z C Wd B g ∧ eqv (uA A 75 0 0) B ∧ hL g 158 = hL h 158 ∧ hlF A C f (n - j) j = hlF A C f n 0) (fun i _ => n - i.toNat) ?_ ⟨0, _, rfl, by omega, y, fun _ _ _ _ _ => rfl, rfl, rfl⟩
    rintro R i g ⟨j, B, rfl, hj, xb, eb, ol, hh⟩ kk
    have ro : ∀ a, a ≠ 75 → a ≠ 109 → a ≠ 110 → B a = A a := fun a h1 h2 h3 => (eb.row h2 h3 h1).trans (uA_a h1)
    have e75 : ∀ i, i ≠ 0 → i ≠ 59 → B 75 i = A 75 i := fun i h1 h2 => (eb 75 i (by decide) (by decide) (fun _ => h2)).trans (uA_i h1)
    have en : hI g 75 1 = A 75 1 := (xb.rd 75 1).trans (e75 1 (by decide) (by decide))
    refine ⟨by omega, by omega, ?_⟩
    rw [Int.toNat_natCast, xb.ra 130, ro 130 (by decide) (by decide) (by decide), hn]
    by_cases z : j < n
    · rw [if_pos (by omega)]
      refine ⟨⟨by omega, by omega⟩, ⟨by omega, by omega⟩, ?_⟩
      rintro v rfl
      refine ⟨fun _ => ⟨⟨by omega, by omega⟩, by omega, by omega⟩, ?_⟩
      rintro v rfl
      have ek : (7 * (f : Int) + (j : Int)).toNat = 7 * f + j := by omega
      rw [ek, en, xb.ra 138, xb.ra 128, xb.ra 136, xb.ra 139, xb.ra 141, xb.ra 131, xb.ra 136, ro 138 (by decide) (by decide) (by decide), ro 128 (by decide) (by decide) (by decide), ro 136 (by decide) (by decide) (by decide), ro 139 (by decide) (by decide) (by decide), ro 141 (by decide) (by decide) (by decide), ro 131 (by decide) (by decide) (by decide)]
      obtain ⟨z1, z2, z3, z4, z5, z6, z7, z8⟩ := y5 j (by omega)
      have lt : (A 136 (7 * f + j)).toNat < N0 1 := by omega
      have fl := frL_lt r9 lf (j := j) (by omega)
      have efr : (if ¬ ((j : Int) ≠ 0) then A 131 f else A 136 (7 * (f : Int) + (j : Int) - 1).toNat) = ((frL A f j : Nat) : Int) := by
        unfold frL
        by_cases w : j = 0
        · rw [if_pos (by omega), if_pos w]
          omega
        · rw [if_neg (by omega), if_neg w, show (7 * (f : Int) + (j : Int) - 1).toNat = 7 * f + (j - 1) by omega]
          have := (y5 (j - 1) (by omega)).1
          omega
      rw [efr]
      refine ⟨by omega, by omega, ?_⟩
      have hs : n - j = (n - (j + 1)) + 1 := by omega
      rw [hs] at hh
      have hh : (if hlB A C f j = true then (j : Int) else hlF A C f (n - (j + 1)) (j + 1)) = hlF A C f n 0 := hh
      have e128 : A 128 f = ((A 128 f).toNat : Nat) := by omega
      have e136 : A 136 (7 * f + j) = ((A 136 (7 * f + j)).toNat : Nat) := by omega
      by_cases c : A 75 1 < A 138 (7 * f + j)
      · rw [if_pos (by omega), e128, e136]
        have rb1 := Rl1_v eb (show Rl1 (N0 1) (X0 1) (uA A 75 0 0) from r1)
        have rb6 := Rl6_v eb (show Rl6 (N0 6) (X0 6) (uA A 75 0 0) from r6)
        have rb4 : Rl4 (N0 4) (X0 4) C B := by
          unfold Rl4 Pl4 cdAt
          rw [e75 35 (by decide) (by decide), ro 95 (by decide) (by decide) (by decide), ro 96 (by decide) (by decide) (by decide), ro 97 (by decide) (by decide) (by decide), ro 98 (by decide) (by decide) (by decide), ro 99 (by decide) (by decide) (by decide), ro 100 (by decide) (by decide) (by decide), ro 101 (by decide) (by decide) (by decide), ro 102 (by decide) (by decide) (by decide), ro 103 (by decide) (by decide) (by decide), ro 106 (by decide) (by decide) (by decide)]
          exact r4
        refine m_mayNot xb rb1 rb4 rb6 hM (fun t _ => congrFun hX t) (by omega) (by omega) fl (by omega) (by omega) (fun g2 B2 x2 e2 ol2 => ?_)
        have em : ∀ a ∈ [76, 77, 78, 79, 84, 95, 96, 98, 111, 112, 113, 114], a ≠ 75 ∧ a ≠ 109 ∧ a ≠ 110 := by decide
        rw [kI_v, mayF_c (A := A) (B := B) (fun a ha => ro a (em a ha).1 (em a ha).2.1 (em a ha).2.2) (e75 35 (by decide) (by decide)) (e75 60 (by decide) (by decide))]
        by_cases d : mayF A C (A 128 f).toNat (A 136 (7 * f + j)).toNat (A 138 (7 * f + j)) (A 75 1) (frL A f j) (A 139 (7 * f + j)) (A 141 (7 * f + j)) = -1
        · rw [if_neg (fun w => w d)]
          have : hlB A C f j = false := by
            unfold hlB
            simp [d]
          rw [this, if_neg (by decide)] at hh
          refine ⟨⟨by omega, by omega⟩, ?_⟩
          rintro i rfl
          exact kk _ _ ⟨j + 1, B2, rfl, z, x2, eb.trans e2, ol2.trans ol, hh⟩ (by omega)
        · rw [if_pos d]
          have : hlB A C f j = true := by
            unfold hlB
            simp [d, c]
          rw [this, if_pos rfl] at hh
          rw [hh]
          exact k _ B2 x2 (eb.trans e2).sc (ol2.trans ol)
      · rw [if_neg (by omega)]
        have : hlB A C f j = false := by
          unfold hlB
          simp [c]
        rw [this, if_neg (by decide)] at hh
        refine ⟨⟨by omega, by omega⟩, ?_⟩
        rintro i rfl
        exact kk _ _ ⟨j + 1, B, rfl, z, xb, eb, ol, hh⟩ (by omega)
    · have : j = n := by omega
      subst this
      rw [if_neg (by omega)]
      rw [Nat.sub_self] at hh
      have hh : (-1 : Int) = _ := hh
      rw [hh]
      exact k _ B xb eb.sc ol
  · rw [if_pos (by omega)] at k
    rw [kI_v, if_pos (by decide)]
    exact k _ _ y (fun _ _ _ => rfl) rfl
end
