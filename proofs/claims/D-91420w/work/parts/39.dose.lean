set_option maxRecDepth 100000
set_option maxHeartbeats 1000000
set_option linter.unusedSimpArgs false
set_option linter.unusedVariables false
/-! SPECS, 24: a dose -/
def vDose (A : Nat → Nat → Int) (p n : Nat) : Nat → Int := fun j => if j = 9 then A 154 (31 * p + n) else 0
def dsM (A : Nat → Nat → Int) (t j n : Nat) (w : Int) : Bool := decide (A 101 (30 * t + j) = n) && (decide (A 102 (30 * t + j) = 2) || decide (A 102 (30 * t + j) = w))
def dsF (A : Nat → Nat → Int) (C : Nat → Nat → List Int) (t p n : Nat) (w : Int) : Nat → Nat → Int
  | 0, _ => 0
  | f + 1, j => if dsM A t j n w = true then (if C t (100 + j) = [] then 1 else if wF (envV (vDose A p n) (prm A t) 0) (C t (100 + j)) = 0 then 0 else 1) else dsF A C t p n w f (j + 1)
def duF (A : Nat → Nat → Int) (C : Nat → Nat → List Int) (p n : Nat) (w : Int) : Int := if tN A (A 75 1) = -1 then 0 else dsF A C (tN A (A 75 1)).toNat p n w (A 100 (tN A (A 75 1)).toNat).toNat 0
def gDose (A : Nat → Nat → Int) (C : Nat → Nat → List Int) (p1 p2 p3 : Int) : Int × Int × (Nat → Nat → Int) := if p1 < 0 ∨ A 75 2 ≤ p1 ∨ p2 < 1 ∨ 30 < p2 ∨ (p3 ≠ 0 ∧ p3 ≠ 1) then (1, 0, uA A 75 0 1) else if duF A C p1.toNat p2.toNat p3 = 0 then (0, -2, uA A 75 0 0) else if A 154 (31 * p1 + p2).toNat = 0 then (0, -1, uA A 75 0 0) else (0, A 154 (31 * p1 + p2).toNat - 1, uA (uA A 75 0 0) 154 (31 * p1 + p2).toNat (A 154 (31 * p1 + p2).toNat - 1))
section
variable {K : Hp} {D : Nat} {N M : Nat → Nat} {X : Nat → Nat → Nat → Int} {Z : Nat → Nat → Nat} {C : Nat → Nat → List Int} {Wd : Nat → List Int} {A : Nat → Nat → Int} {h : Hp}
theorem XS.dos (x : XS K D N M X Z C Wd A h) {t j : Nat} (ht : t < M 4) (hj : (j : Int) < X 4 t 2) : ∃ own, DoOk own h (vJ2_get (hR h (Z 4 t) 2) j h) (X 4 t (500 + j)) (X 4 t (600 + j)) (C t (100 + j)) ∧ oJ2_get (hR h (Z 4 t) 2) j h := by
  obtain ⟨own, ⟨_, ⟨b1, b2, F, b3, b4⟩, _⟩, _⟩ := x.txt t ht
  have g : vJ2_get (hR h (Z 4 t) 2) j h = F j := b3.1.get (by omega) (by omega)
  rw [g]
  exact ⟨own, b4 j (by omega), b3.1.oget (by omega) (by omega)⟩
theorem x_mayBe {p n : Nat} {w : Int} {Q : Rs → Hp → Prop} (x : XS K D N M X Z C Wd A h) (r0 : hI h 50 20 = A 75 1) (r1 : Rl1 (N 1) (X 1) A) (r4 : Rl4 (N 4) (X 4) C A) (hp : p < N 1) (hn : n < 31) (hw : w = 0 ∨ w = 1) (k : ∀ g v, XS K D N M X Z C Wd A g → (v = 0 ∨ v = 1) → v = duF A C p n w → Q (rV (vI v)) g) : mX1_mayBe (Z 1 p) n w h Q := by
  have l1 := x.le 1
  have l4 := x.le 4
  unfold mX1_mayBe
  rw [r0]
  refine x_rulesAt x r4 ?_
  have tl := tx_lt A (A 75 1) (A 75 35).toNat
  have t0 : -1 ≤ tN A (A 75 1) := tl.1
  have t1 : tN A (A 75 1) < N 4 := by
    have : tN A (A 75 1) < (A 75 35).toNat := tl.2
    have := r4.1
    omega
  rw [kR_v]
  refine x_asking x r4 t0 t1 (fun g y _ ha hb hc => ?_)
  rw [kR_v]
  obtain ⟨c1, c2, c3, c4⟩ := y.arr 1 p 6 31 (by omega)
  have q9 := (r1.2.2.1 p hp).2.2.2.2.2.2.2.2 n hn
  rw [Int.toNat_natCast, c4 n hn, q9.1]
  refine ⟨rfl, y.obj 1 p (by omega), c1, by omega, by rw [c2]; omega, ?_⟩
  intro G hG
  have y6 : XS K D N M X Z C Wd A G := by rw [hG]; exact y.tI
  have v71 : ∀ j, j < 10 → hI G 71 j = vDose A p n j := by
    intro j hj
    rw [hG, hI_sI]
    unfold vDose
    by_cases z : j = 9
    · rw [if_pos ⟨rfl, z⟩, if_pos z]
    · rw [if_neg (fun e => z e.2), if_neg z]
      exact ha j hj
  have v72 : ∀ j, j < 5 → hI G 72 j = prm A (tN A (A 75 1)) j := by
    intro j hj
    rw [hG, hI_sI, if_neg (by omega)]
    exact hc j hj
  have v70 : hI G 70 2 = 0 := by
    rw [hG, hI_sI, if_neg (by omega)]
    exact hb
  unfold duF at k
  obtain ⟨o1, _⟩ := y6.rulF r4 t0 t1
  obtain ⟨_, ⟨u1, u2⟩⟩ := y6.rulL r4 t0 t1
  by_cases c : tN A (A 75 1) = -1
  · rw [if_pos c] at k
    have n0 : ndo A (tN A (A 75 1)) = 0 := if_pos c
    rw [n0] at u2
    refine fp1 0 (fun R i hi => absurd hi (Nat.not_lt_zero _)) (fun R => ?_)
    refine ⟨o1, u1, u1, ?_⟩
    rw [u2, if_neg (by decide)]
    exact k _ 0 y6 (Or.inl rfl) rfl
  · rw [if_neg c] at k
    obtain ⟨q, hq⟩ : ∃ q : Nat, tN A (A 75 1) = q := ⟨(tN A (A 75 1)).toNat, by omega⟩
    have lt : q < N 4 := by omega
    have n0 : ndo A (tN A (A 75 1)) = A 100 q := by
      unfold ndo
      rw [if_neg c, hq, Int.toNat_natCast]
    have er : rul Z (tN A (A 75 1)) = Z 4 q := by
      unfold rul
      rw [if_neg (by omega), hq, Int.toNat_natCast]
    obtain ⟨p41, p42, p43, p44, p45, p46, p47⟩ := r4.2.2 q lt
    obtain ⟨m, hm⟩ : ∃ n : Nat, A 100 q = n := ⟨(A 100 q).toNat, by omega⟩
    rw [n0, hm, er] at u2
    rw [er] at u1 o1 ⊢
    have ekk : (tN A (A 75 1)).toNat = q := by omega
    rw [ekk, hm, Int.toNat_natCast] at k
    refine wh1_of (fun (i : Int) => ∃ j : Nat, j ≤ m ∧ i = j ∧ dsF A C q p n w (m - j) j = dsF A C q p n w m 0) (fun i => m - i.toNat) ?_ ⟨0, by omega, rfl, rfl⟩
    rintro R i ⟨j, hj, rfl, hh⟩ kk2
    refine ⟨o1, u1, u1, ?_⟩
    rw [u2]
    by_cases z : j < m
    · rw [if_pos (by omega)]
      obtain ⟨own, ⟨d1, d2, d3, d4, d5⟩, d6⟩ := y6.dos (t := q) (j := j) (by omega) (by omega)
      obtain ⟨e1, e2, e3, e4⟩ := p47 j (by omega)
      refine ⟨d6, d1, ?_⟩
      rintro r rfl
      refine ⟨d1, d1, ?_⟩
      have hs : m - j = (m - (j + 1)) + 1 := by omega
      rw [hs] at hh
      have hh : (if dsM A q j n w = true then (if C q (100 + j) = [] then (1 : Int) else if wF (envV (vDose A p n) (prm A q) 0) (C q (100 + j)) = 0 then 0 else 1) else dsF A C q p n w (m - (j + 1)) (j + 1)) = dsF A C q p n w m 0 := hh
      have cm : vX17_isFor (vJ2_get (hR G (Z 4 q) 2) j G) n w G = 0 ↔ ¬ (dsM A q j n w = true) := by
        unfold vX17_isFor b2i dsM
        rw [d3, d4, e1, e2]
        simp only [Bool.and_eq_true, Bool.or_eq_true, decide_eq_true_eq]
        by_cases f1 : A 102 (30 * q + j) = 2
        · rw [if_pos f1]
          split <;> omega
        · rw [if_neg f1]
          split <;> omega
      by_cases d : dsM A q j n w = true
      · rw [if_pos (fun z => cm.1 z d)]
        rw [if_pos d] at hh
        have rk : rok G (hR G (vJ2_get (hR G (Z 4 q) 2) j G) 2) := by
          rcases d5 with d5 | d5
          · exact Or.inl d5.1
          · have ox := d5.obx
            refine Or.inr ⟨ox.1, ox.2.1, Or.inl ?_⟩
            obtain ⟨_, _, o11, o16⟩ := ox
            have : ∀ t, t < 17 → 11 ≤ t → t ∈ cLs := by decide
            exact this _ (by omega) o11
        refine ⟨rk, ?_⟩
        rcases d5 with d5 | d5
        · rw [if_neg (fun z => z d5.1)]
          rw [if_pos d5.2] at hh
          exact k _ 1 y6 (Or.inr rfl) hh
        · have ox := d5.obx
          have hne : C q (100 + j) ≠ [] := by
            intro z
            rw [z] at d5
            obtain ⟨v, hv⟩ := xe_val (fun _ _ => 0) 70 _ _ d5
            have := (hv.fin (by decide)).1
            cases this
          rw [if_pos (fun z => by have := ox.1; omega)]
          rw [if_neg hne] at hh
          refine ⟨ox, ox, ?_⟩
          have he : ∀ k w, 1 ≤ k ∧ k ≤ 4 → (k = 2 → 0 ≤ w ∧ w < 10) ∧ (k = 3 → 0 ≤ w ∧ w < 5) ∧ (k = 4 → 0 ≤ w ∧ w < 16) → envV (vDose A p n) (prm A q) 0 k w = envX G k w := by
            intro k w hk hw
            unfold envV envX
            by_cases d1 : k = 1
            · rw [if_pos d1, if_pos d1]
            rw [if_neg d1, if_neg d1]
            by_cases d2 : k = 2
            · rw [if_pos d2, if_pos d2, v71 _ (by have := hw.1 d2; omega)]
            rw [if_neg d2, if_neg d2]
            by_cases d3 : k = 3
            · rw [if_pos d3, if_pos d3, v72 _ (by have := hw.2.1 d3; omega), hq]
            rw [if_neg d3, if_neg d3, v70]
          obtain ⟨v, v1, v2⟩ := ev_x he 70 _ _ d5
          refine v2 _ ?_
          obtain ⟨_, v3⟩ := v1.fin (by decide)
          rw [v3] at hh
          rw [kI_v]
          rintro u rfl
          rw [kI_v]
          rintro u rfl
          by_cases f : v = 0
          · rw [if_pos f] at hh
            have : b2i (¬ (b2i (¬ (v = 0)) = 0)) = 0 := by simp [b2i, f]
            rw [this]
            exact k _ 0 y6 (Or.inl rfl) hh
          · rw [if_neg f] at hh
            have : b2i (¬ (b2i (¬ (v = 0)) = 0)) = 1 := by simp [b2i, f]
            rw [this]
            exact k _ 1 y6 (Or.inr rfl) hh
      · rw [if_neg (fun z => z (cm.2 d))]
        rw [if_neg d] at hh
        refine ⟨⟨by omega, by omega⟩, ?_⟩
        rintro i rfl
        exact kk2 _ ⟨j + 1, z, rfl, hh⟩ (by omega)
    · have : j = m := by omega
      subst this
      rw [if_neg (by omega)]
      rw [Nat.sub_self] at hh
      exact k _ 0 y6 (Or.inl rfl) hh
theorem m_mayUse {n1 n4 p n : Nat} {y1 y4 : Nat → Nat → Int} {w : Int} {Q : Rs → Hp → Prop} (x : XS K D N M X Z C Wd A h) (r1 : Rl1 n1 y1 A) (r4 : Rl4 n4 y4 C A) (hM : n4 ≤ M 4) (hX : X 4 = y4) (hp : p < n1) (hn : n < 31) (k : ∀ g B v, XS K D N M X Z C Wd B g → eqv A B → hL g 158 = hL h 158 → (v = 0 ∨ v = 1) → v = duF A C p n w → Q (rV (vI v)) g) : mX4_mayUse p n w h Q := by
  have n12 := r1.2.1
  have n412 := r4.2.1
  unfold mX4_mayUse
  rw [x.rd 75 1]
  refine m_textBy x (n := n4) r4.1 r4.2.1 ?_
  have tl := tx_lt A (A 75 1) (A 75 35).toNat
  have t0 : -1 ≤ tN A (A 75 1) := tl.1
  have t1 : tN A (A 75 1) < n4 := by
    have : tN A (A 75 1) < (A 75 35).toNat := tl.2
    have := r4.1
    omega
  unfold duF at k
  rw [kI_v]
  by_cases c : tN A (A 75 1) = -1
  · rw [if_pos c] at k
    rw [if_pos (by omega)]
    exact k _ A 0 x (fun _ _ _ _ _ => rfl) rfl (Or.inl rfl) rfl
  rw [if_neg c] at k
  rw [if_neg (by omega)]
  obtain ⟨q, hq⟩ : ∃ q : Nat, tN A (A 75 1) = q := ⟨(tN A (A 75 1)).toNat, by omega⟩
  have lt : q < n4 := by omega
  obtain ⟨p41, p42, p43, p44, p45, p46, p47⟩ := r4.2.2 q lt
  obtain ⟨m, hm⟩ : ∃ n : Nat, A 100 q = n := ⟨(A 100 q).toNat, by omega⟩
  have ekk : (tN A (A 75 1)).toNat = q := by omega
  rw [ekk, hm, Int.toNat_natCast] at k
  rw [hq, Int.toNat_natCast, x.ra 100, hm]
  refine wh1_of (fun (i : Int) => ∃ j : Nat, j ≤ m ∧ i = j ∧ dsF A C q p n w (m - j) j = dsF A C q p n w m 0) (fun i => m - i.toNat) ?_ ⟨0, by omega, rfl, rfl⟩
  rintro R i ⟨j, hj, rfl, hh⟩ kk2
  refine ⟨by omega, by omega, ?_⟩
  by_cases z : j < m
  · rw [if_pos (by omega)]
    refine ⟨⟨by omega, by omega⟩, ⟨by omega, by omega⟩, ?_⟩
    rintro v rfl
    have ek : (30 * (q : Int) + (j : Int)).toNat = 30 * q + j := by omega
    obtain ⟨e1, e2, e3, e4⟩ := p47 j (by omega)
    rw [ek, x.ra 101, x.ra 102, x.ra 103]
    refine ⟨by omega, by omega, ?_⟩
    have hs : m - j = (m - (j + 1)) + 1 := by omega
    rw [hs] at hh
    have hh : (if dsM A q j n w = true then (if C q (100 + j) = [] then (1 : Int) else if wF (envV (vDose A p n) (prm A q) 0) (C q (100 + j)) = 0 then 0 else 1) else dsF A C q p n w (m - (j + 1)) (j + 1)) = dsF A C q p n w m 0 := hh
    have cm : dsM A q j n w = true ↔ (A 101 (30 * q + j) = n ∧ (A 102 (30 * q + j) = 2 ∨ A 102 (30 * q + j) = w)) := by
      unfold dsM
      simp only [Bool.and_eq_true, Bool.or_eq_true, decide_eq_true_eq]
    by_cases d : dsM A q j n w = true
    · have d' := cm.1 d
      rw [if_pos d] at hh
      rw [if_pos (by omega), if_neg (by omega)]
      rcases e4 with e4 | e4
      · rw [if_pos (by omega)]
        rw [if_pos e4.2] at hh
        exact k _ A 1 x (fun _ _ _ _ _ => rfl) rfl (Or.inr rfl) hh
      · have e40 := e4.2.1
        rw [if_neg (by omega)]
        rw [if_neg e4.1] at hh
        refine m_clears x (fun g B xb eb hz hs0 ol => ?_)
        rw [kN_v]
        refine ⟨⟨by omega, by omega⟩, ⟨by omega, by omega⟩, by omega, by omega, ?_⟩
        rintro g1 rfl
        have ei : (31 * (p : Int) + (n : Int)).toNat = 31 * p + n := by omega
        have e154 : hI g 154 (31 * p + n) = A 154 (31 * p + n) := by rw [xb.ra 154, eb.row (by decide) (by decide) (by decide)]
        rw [ei, e154]
        have x1 := xb.ma (a := 109) (i := 9) (v := A 154 (31 * p + n))
        have ev1 := eb.u (i := 9) (v := A 154 (31 * p + n))
        have e103 : hI (sI g 109 9 (A 154 (31 * p + n))) 103 (30 * q + j) = A 103 (30 * q + j) := by rw [x1.ra 103, ev1.row (by decide) (by decide) (by decide)]
        rw [e103]
        have hcd1 : cdAt (uA B 109 9 (A 154 (31 * p + n))) (A 103 (30 * q + j)) (C q (100 + j) ++ [0]) := by
          have hcd := e4.2
          unfold cdAt at hcd ⊢
          rw [ev1.row (a := 106) (by decide) (by decide) (by decide)]
          exact hcd
        have he : ∀ k w, 1 ≤ k ∧ k ≤ 4 → (k = 2 → 0 ≤ w ∧ w < 10) ∧ (k = 3 → 0 ≤ w ∧ w < 5) ∧ (k = 4 → 0 ≤ w ∧ w < 16) → envV (vDose A p n) (prm A q) 0 k w = envM (uA B 109 9 (A 154 (31 * p + n))) q k w := by
          intro k w hk hw
          unfold envV envM
          by_cases d1 : k = 1
          · rw [if_pos d1, if_pos d1]
          rw [if_neg d1, if_neg d1]
          by_cases d2 : k = 2
          · rw [if_pos d2, if_pos d2]
            have := hw.1 d2
            unfold vDose
            by_cases f : w.toNat = 9
            · rw [if_pos f, f, uA_at]
            · rw [if_neg f, uA_i f, hz _ (by omega)]
          rw [if_neg d2, if_neg d2]
          by_cases d3 : k = 3
          · rw [if_pos d3, if_pos d3]
            unfold prm
            rw [ev1.row (a := 96) (by decide) (by decide) (by decide)]
          rw [if_neg d3, if_neg d3, uA_a (by decide), hs0]
        obtain ⟨own, ⟨d1, d2, d3, d4, d5⟩, d6⟩ := x1.dos (t := q) (j := j) (by omega) (by rw [hX]; omega)
        have d5 : XE own (sI g 109 9 (A 154 (31 * p + n))) 70 (hR (sI g 109 9 (A 154 (31 * p + n))) (vJ2_get (hR (sI g 109 9 (A 154 (31 * p + n))) (Z 4 q) 2) j (sI g 109 9 (A 154 (31 * p + n)))) 2) (C q (100 + j)) := by
          rcases d5 with d5 | d5
          · exact absurd d5.2 e4.1
          · exact d5
        obtain ⟨v, hv⟩ := xe_val (envV (vDose A p n) (prm A q) 0) 70 _ _ d5
        obtain ⟨hv1, hv2⟩ := hv.fin (by decide)
        rw [hv2] at hh
        refine m_worth x1 (by omega) (by omega) he hcd1 hv1 (fun g10 B2 x2 e2 ol2 => ?_)
        rw [kI_v]
        rintro u rfl
        by_cases f : v = 0
        · rw [if_pos f] at hh
          rw [b2i_f (fun z => z f)]
          exact k _ B2 0 x2 (ev1.trans e2.v) (ol2.trans ol) (Or.inl rfl) hh
        · rw [if_neg f] at hh
          rw [b2i_t f]
          exact k _ B2 1 x2 (ev1.trans e2.v) (ol2.trans ol) (Or.inr rfl) hh
    · have d' := fun z => d (cm.2 z)
      rw [if_neg d] at hh
      by_cases f : A 101 (30 * q + j) = n
      · rw [if_pos (by omega), if_pos ⟨fun z => d' ⟨f, Or.inl z⟩, fun z => d' ⟨f, Or.inr z⟩⟩]
        refine ⟨⟨by omega, by omega⟩, ?_⟩
        rintro i rfl
        exact kk2 _ ⟨j + 1, z, rfl, hh⟩ (by omega)
      · rw [if_neg (by omega)]
        refine ⟨⟨by omega, by omega⟩, ?_⟩
        rintro i rfl
        exact kk2 _ ⟨j + 1, z, rfl, hh⟩ (by omega)
  · have : j = m := by omega
    subst this
    rw [if_neg (by omega)]
    rw [Nat.sub_self] at hh
    exact k _ A 0 x (fun _ _ _ _ _ => rfl) rfl (Or.inl rfl) hh
theorem duF_u0 (A : Nat → Nat → Int) (C : Nat → Nat → List Int) (p n : Nat) (w : Int) : duF (uA A 75 0 0) C p n w = duF A C p n w := by
  have e2 : ∀ t f j, dsF (uA A 75 0 0) C t p n w f j = dsF A C t p n w f j := by
    intro t f
    induction f with
    | zero => intro j; rfl
    | succ f ih =>
      intro j
      show (if dsM A t j n w = true then (if C t (100 + j) = [] then (1 : Int) else if wF (envV (vDose A p n) (prm A t) 0) (C t (100 + j)) = 0 then 0 else 1) else dsF (uA A 75 0 0) C t p n w f (j + 1)) = (if dsM A t j n w = true then (if C t (100 + j) = [] then (1 : Int) else if wF (envV (vDose A p n) (prm A t) 0) (C t (100 + j)) = 0 then 0 else 1) else dsF A C t p n w f (j + 1))
      rw [ih]
  unfold duF
  rw [show uA A 75 0 0 75 1 = A 75 1 from rfl, tN_u0, e2]
  rfl
theorem x_dose {T : Nat} {Q : Rs → Hp → Prop} (x : XS K D N N X Z C Wd A h) (r : Rel T N X C Wd A) (hD : D ≤ 780000) {p1 p2 p3 : Int} (k : ∀ h', OpS K T (D + 12000) A N X C (gDose A C p1 p2 p3) h' → Q (rV (vI (gDose A C p1 p2 p3).1)) h') : mX0_dose p1 p2 p3 h Q := by
  obtain ⟨r0, r1, r2, r3, r4, r5, r6, r7, r8, r9, r10, r11, rw0⟩ := id r
  have s1 := r1.1
  have s3 := r1.2.2.1
  have en0 : hI h 50 20 = A 75 1 := (x.sc 20).trans r0.1.1
  unfold mX0_dose mX1_dose
  unfold gDose at k
  refine x_placeAt x (by omega) (fun a1 a2 a3 => ?_) (fun z y o t => ?_)
  · rw [kR_v]
    refine x_found x (by omega) (fun z => ?_) (fun z y o t => ?_)
    · have z := (in_1 _ _ _ _).1 z
      rw [kN_v, kN_v]
      rintro v rfl
      refine x_found x (by omega) (fun w => ?_) (fun w y o t => ?_)
      · have w := b2i_1 w
        rw [if_neg (by omega)] at k
        obtain ⟨p, rfl⟩ : ∃ n : Nat, p1 = n := ⟨p1.toNat, by omega⟩
        obtain ⟨q, rfl⟩ : ∃ n : Nat, p2 = n := ⟨p2.toNat, by omega⟩
        have ei : (31 * (p : Int) + q).toNat = 31 * p + q := by omega
        rw [ei, Int.toNat_natCast, Int.toNat_natCast] at k
        rw [Int.toNat_natCast] at a3 ⊢
        rw [kN_v]
        refine x_mayBe x en0 r1 r4 a3 (by omega) (by omega) (fun g v y hv ev => ?_)
        rw [kI_v]
        rw [← ev] at k
        have yy := (s3 p a3).2.2.2.2.2.2.2.2 q (by omega)
        by_cases c : v = 0
        · rw [if_pos (fun z => z c), kIx_v]
          rw [if_pos c] at k
          rintro g2 rfl
          exact k _ ⟨N, X, Z, Wd, (y.out).more (by omega) (by omega), rfl, rfl, r.thr 0, fun _ => (by rw [hL_sL, if_pos ⟨rfl, rfl⟩]; try rfl)⟩
        · rw [if_neg (fun z => z c)]
          rw [if_neg c] at k
          obtain ⟨y1, y2, y3, y4⟩ := y.arr 1 p 6 31 a3
          rw [Int.toNat_natCast, y4 q (by omega), yy.1]
          refine ⟨y.obj 1 p a3, y1, by omega, by rw [y2]; omega, ?_⟩
          by_cases d : A 154 (31 * p + q) = 0
          · rw [if_pos (fun z => z d), kIx_v]
            rw [if_pos d] at k
            rintro g2 rfl
            exact k _ ⟨N, X, Z, Wd, (y.out).more (by omega) (by omega), rfl, rfl, r.thr 0, fun _ => (by rw [hL_sL, if_pos ⟨rfl, rfl⟩]; try rfl)⟩
          · rw [if_neg (fun z => z d)]
            rw [if_neg d] at k
            refine ⟨⟨by omega, by omega⟩, y3, ?_⟩
            rintro g2 rfl
            have x2 := y.setA 1 p 6 31 q (A 154 (31 * p + q) - 1) a3 (by omega)
            obtain ⟨w1, w2, w3, w4⟩ := x2.arr 1 p 6 31 a3
            refine ⟨w1, by rw [w2]; omega, ?_⟩
            rw [w4 q (by omega), uX_at, kIx_v]
            rintro g3 rfl
            refine k _ ⟨N, _, Z, Wd, (x2.out).more (by omega) (by omega), rfl, uX_c (by decide), ⟨r0.up, ?_, r2, r3, r4, r5, r6, r7, r8, r9, r10, r11, rw0⟩, fun _ => (by rw [hL_sL, if_pos ⟨rfl, rfl⟩]; try rfl)⟩
            refine r1.chest (p := p) (q := q) (v := A 154 (31 * p + q) - 1) a3 (by omega) (by omega) (fun i => uX_1 i) (fun a h1 h2 => ?_) rfl (fun i => ?_)
            · exact (uA_a h2).trans (uA_a h1)
            · show (if 154 = 154 ∧ i = 31 * p + q then _ else A 154 i) = _
              simp only [true_and]
      · have w := b2i_0 w
        rw [if_pos (by omega)] at k
        exact ⟨o, k _ ⟨N, X, Z, Wd, y.more (by omega) (by omega), rfl, rfl, r.thr 1, fun z => absurd z ne10⟩⟩
    · have z := (in_0 _ _ _ _).1 z
      rw [if_pos (by omega)] at k
      exact ⟨o, k _ ⟨N, X, Z, Wd, y.more (by omega) (by omega), rfl, rfl, r.thr 1, fun z => absurd z ne10⟩⟩
  · rw [if_pos (by omega)] at k
    exact ⟨o, k _ ⟨N, X, Z, Wd, y.more (by omega) (by omega), rfl, rfl, r.thr 1, fun z => absurd z ne10⟩⟩
theorem m_dose {T : Nat} {N0 : Nat → Nat} {X0 : Nat → Nat → Nat → Int} {Wd0 : Nat → List Int} {Q : Rs → Hp → Prop} (x : XS K D N M X Z C Wd A h) (r : Rel T N0 X0 C Wd0 A) (hM : N0 4 ≤ M 4) (hX : X 4 = X0 4) {p1 p2 p3 : Int} (k : ∀ h' B, XS K D N M X Z C Wd B h' → scE (gDose A C p1 p2 p3).2.2 B → hL h' 158 = hL h 158 → Q (rV (vI (gDose A C p1 p2 p3).2.1)) h') : mX4_dose p1 p2 p3 h Q := by
  obtain ⟨r0, r1, r2, r3, r4, r5, r6, r7, r8, r9, r10, r11, rw0⟩ := id r
  have s1 := r1.1
  have s3 := r1.2.2.1
  have n12 := r1.2.1
  unfold mX4_dose
  unfold gDose at k
  refine m_isChest x (fun a1 a2 a3 a4 y => ?_) (fun g z y e => ?_)
  · rw [kI_v, if_pos (by decide)]
    rintro v rfl
    refine m_right rfl (by decide) (fun z => ?_) (fun z => ?_)
    · have z := b2i_1 z
      rw [if_neg (by omega)] at k
      rw [kI_v, if_neg (by decide)]
      obtain ⟨p, rfl⟩ : ∃ n : Nat, p1 = n := ⟨p1.toNat, by omega⟩
      obtain ⟨q, rfl⟩ : ∃ n : Nat, p2 = n := ⟨p2.toNat, by omega⟩
      have ei : (31 * (p : Int) + q).toNat = 31 * p + q := by omega
      rw [ei, Int.toNat_natCast, Int.toNat_natCast] at k
      have yy := (s3 p (by omega)).2.2.2.2.2.2.2.2 q (by omega)
      refine m_mayUse y (n1 := N0 1) (y1 := X0 1) (n4 := N0 4) (y4 := X0 4) r1 r4 hM hX (by omega) (by omega) (fun g B v xb eb ol hv ev => ?_)
      rw [duF_u0] at ev
      rw [kI_v]
      rw [← ev] at k
      have e154 : hI g 154 (31 * p + q) = A 154 (31 * p + q) := by rw [xb.ra 154, eb.row (by decide) (by decide) (by decide)]; rfl
      by_cases c : v = 0
      · rw [if_pos (fun z => z c)]
        rw [if_pos c] at k
        exact k _ B xb eb.sc ol
      · rw [if_neg (fun z => z c)]
        rw [if_neg c] at k
        rw [ei, e154]
        refine ⟨⟨by omega, by omega⟩, ⟨by omega, by omega⟩, by omega, by omega, ?_⟩
        by_cases d : A 154 (31 * p + q) = 0
        · rw [if_pos (fun z => z d)]
          rw [if_pos d] at k
          exact k _ B xb eb.sc ol
        · rw [if_neg (fun z => z d)]
          rw [if_neg d] at k
          refine ⟨⟨by omega, by omega⟩, ?_⟩
          rintro g2 rfl
          have x2 := xb.ma (a := 154) (i := 31 * p + q) (v := A 154 (31 * p + q) - 1)
          rw [x2.ra 154, uA_at]
          exact k _ _ x2 eb.sc.u ol
    · have z := b2i_0 z
      rw [if_pos (by omega)] at k
      rw [kI_v, if_pos (by decide)]
      exact k _ _ y.t5 (fun _ _ _ => rfl) rfl
  · rw [if_pos (by omega)] at k
    rw [kI_v, if_neg (by decide)]
    exact k _ _ y (fun _ _ _ => rfl) e
end
