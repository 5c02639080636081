set_option maxRecDepth 100000
set_option maxHeartbeats 1000000
set_option linter.unusedSimpArgs false
set_option linter.unusedVariables false
/-! SPECS, 22: where one may come down -/
def fa (e : Int → Int → Int) (cd : Nat → List Int) : Nat → Nat → Int
  | 0, _ => -1
  | f + 1, i => if wF e (cd i) = 0 then i else fa e cd f (i + 1)
def vMay (A : Nat → Nat → Int) (pl p : Nat) (t k : Int) (fr : Nat) (fu fl : Int) : Nat → Int := fun j => if j = 0 then wetF A p (t / 96) k else if j = 1 then A 78 p else if j = 2 then A 84 pl else if j = 3 then A 79 p % 2 else if j = 4 then (if nightB t = true then 1 else 0) else if j = 5 then mi A p fr else if j = 6 then fu else if j = 7 then fl else 0
def mayF (A : Nat → Nat → Int) (C : Nat → Nat → List Int) (pl p : Nat) (t k : Int) (fr : Nat) (fu fl : Int) : Int := if tN A k = -1 then -1 else fa (envV (vMay A pl p t k fr fu fl) (prm A (tN A k)) 0) (fun i => C (tN A k).toNat (1 + i)) (A 98 (tN A k).toNat).toNat 0
/-- only what is asked with (70, 71, 72) is written -/
def qf (h g : Hp) : Prop := hR g = hR h ∧ ∀ a, ¬ (70 ≤ a ∧ a ≤ 72) → hI g a = hI h a
theorem qf_rfl (h : Hp) : qf h h := ⟨rfl, fun _ _ => rfl⟩
theorem qf.trans {h g k : Hp} (p : qf h g) (q : qf g k) : qf h k := ⟨q.1.trans p.1, fun a ha => (q.2 a ha).trans (p.2 a ha)⟩
theorem qf_sI {h : Hp} {a i : Nat} {v : Int} (ha : 70 ≤ a ∧ a ≤ 72 := by decide) : qf h (sI h a i v) := ⟨rfl, fun b hb => funext fun j => by rw [hI_sI, if_neg (fun z => hb (by rw [z.1]; exact ha))]⟩
theorem qf_cpI {h : Hp} {p b q m : Nat} : qf h (cpI h 72 p b q m) := ⟨rfl, fun c hc => funext fun j => by rw [hI_cpI, if_neg (fun z => hc (by omega))]⟩
section
variable {K : Hp} {D : Nat} {N M : Nat → Nat} {X : Nat → Nat → Nat → Int} {Z : Nat → Nat → Nat} {C : Nat → Nat → List Int} {Wd : Nat → List Int} {A : Nat → Nat → Int} {h : Hp}
theorem x_asking {t : Int} {Q : Rs → Hp → Prop} (x : XS K D N M X Z C Wd A h) (r : Rl4 (N 4) (X 4) C A) (h0 : -1 ≤ t) (h1 : t < N 4) (k : ∀ g, XS K D N M X Z C Wd A g → qf h g → (∀ j, j < 10 → hI g 71 j = 0) → hI g 70 2 = 0 → (∀ j, j < 5 → hI g 72 j = prm A t j) → Q (rV (vR 70)) g) : mX1_asking (rul Z t) h Q := by
  unfold mX1_asking mX3_clear
  refine fph 10 (fun j g => XS K D N M X Z C Wd A g ∧ qf h g ∧ ∀ i, i < j → hI g 71 i = 0) ?_ ?_ ⟨x, qf_rfl h, fun i hi => absurd hi (Nat.not_lt_zero _)⟩
  · rintro R j g hj ⟨y, yq, hy⟩ kk
    rw [if_pos (by omega)]
    refine ⟨by omega, by omega, ?_⟩
    rintro g1 rfl
    refine ⟨⟨by omega, by omega⟩, ?_⟩
    rintro i rfl
    refine kk _ ⟨y.tI, yq.trans qf_sI, fun i hi => ?_⟩
    rw [hI_sI, Int.toNat_natCast]
    by_cases z : i = j
    · rw [if_pos ⟨rfl, z⟩]
    · rw [if_neg (fun w => z w.2)]
      exact hy i (by omega)
  · rintro R g ⟨y, yq, hy⟩
    rw [if_neg (by decide)]
    rintro g1 rfl
    have y1 : XS K D N M X Z C Wd A (sI g 70 2 0) := y.tI
    obtain ⟨o1, o2, o3, o4⟩ := y1.rulF r h0 h1
    rw [kN_v]
    have k72 : hN (sI g 70 2 0) 72 = 5 := by
      obtain ⟨⟨own, y2⟩, _⟩ := y1
      exact (y2.kf.2 (72, 70, 5) (by decide)).2
    refine ⟨o1, o2, by rw [o3]; decide, by rw [k72]; decide, ?_⟩
    rintro g2 rfl
    have y3 : XS K D N M X Z C Wd A (cpI (sI g 70 2 0) 72 0 (hR (sI g 70 2 0) (rul Z t) 0) 0 5) := by
      obtain ⟨⟨own, y2⟩, e⟩ := y1
      refine ⟨⟨own, y2.t72⟩, ?_⟩
      rw [← e]
      exact mA_mS (fun a h1 h2 => same_cpI (by omega))
    refine k _ y3 ((yq.trans qf_sI).trans qf_cpI) (fun j hj => ?_) ?_ (fun j hj => ?_)
    · rw [hI_cpI, if_neg (by omega), hI_sI, if_neg (by omega)]
      exact hy j hj
    · rw [hI_cpI, if_neg (by omega), hI_sI, if_pos ⟨rfl, rfl⟩]
    · rw [hI_cpI, if_pos ⟨rfl, by omega, by omega⟩]
      rw [show 0 + (j - 0) = j by omega]
      exact (o4 j hj).1
/-- a fly of a text: its expression -/
theorem XS.fly (x : XS K D N M X Z C Wd A h) {t i : Nat} (ht : t < M 4) (hi : (i : Int) < X 4 t 1) : ∃ own, XE own h 70 (vJ2_get (hR h (Z 4 t) 1) i h) (C t (1 + i)) ∧ oJ2_get (hR h (Z 4 t) 1) i h ∧ obX h (vJ2_get (hR h (Z 4 t) 1) i h) := by
  obtain ⟨own, ⟨⟨a1, a2, E, a3, a4⟩, _⟩, _⟩ := x.txt t ht
  have g : vJ2_get (hR h (Z 4 t) 1) i h = E i := a3.1.get (by omega) (by omega)
  rw [g]
  exact ⟨own, a4 i (by omega), a3.1.oget (by omega) (by omega), (a4 i (by omega)).obx⟩
theorem x_mayNot {pl p fr : Nat} {t kk fu fl : Int} {Q : Rs → Hp → Prop} (x : XS K D N M X Z C Wd A h) (r1 : Rl1 (N 1) (X 1) A) (r4 : Rl4 (N 4) (X 4) C A) (r6 : Rl6 (N 6) (X 6) A) (hpl : pl < M 2) (e84 : X 2 pl 3 = A 84 pl) (hp : p < N 1) (hf : fr < N 1) (h0 : 0 ≤ t) (h1 : t ≤ 2000000) (k : ∀ g, XS K D N M X Z C Wd A g → qf h g → Q (rV (vI (mayF A C pl p t kk fr fu fl))) g) : mX1_mayNot (Z 2 pl) (Z 1 p) t kk (Z 1 fr) fu fl h Q := by
  have l1 := x.le 1
  have l4 := x.le 4
  unfold mX1_mayNot
  refine x_rulesAt x r4 ?_
  have tl := tx_lt A kk (A 75 35).toNat
  have t0 : -1 ≤ tN A kk := tl.1
  have t1 : tN A kk < N 4 := by
    have : tN A kk < (A 75 35).toNat := tl.2
    have := r4.1
    omega
  rw [kR_v]
  refine x_asking x r4 t0 t1 (fun g y yq ha hb hc => ?_)
  rw [kR_v]
  refine ⟨rfl, ?_⟩
  obtain ⟨i0, _, _, i3, i5, _⟩ := r1.2.2.1 p hp
  have ed : Int.tdiv t 96 = t / 96 := Int.tdiv_eq_ediv_of_nonneg h0
  rw [ed]
  refine x_wetOf y r6 (by omega) i0 (by omega) ?_
  rw [kI_v]
  rintro g1 rfl
  have y1 : XS K D N M X Z C Wd A (sI g 71 0 (wetF A p (t / 96) kk)) := y.tI
  refine ⟨y1.obj 1 p (by omega), ?_⟩
  rw [y1.int 1 p 3 (by omega), i3.1]
  rintro g2 rfl
  have y2 := y1.tI (a := 71) (i := 1) (v := A 78 p)
  refine ⟨y2.obj 2 pl hpl, ?_⟩
  rw [y2.int 2 pl 3 hpl, e84]
  rintro g3 rfl
  have y3 := y2.tI (a := 71) (i := 2) (v := A 84 pl)
  rw [y3.int 1 p 4 (by omega), i5.1]
  rintro v rfl
  have e4 : b2i (¬ (A 79 p % 2 = 0)) = A 79 p % 2 := by
    unfold b2i
    split <;> omega
  rw [e4]
  rintro g4 rfl
  have y4 := y3.tI (a := 71) (i := 3) (v := A 79 p % 2)
  rintro v rfl
  rw [(night_eq h0 _).1]
  have e5 : b2i (¬ ((if nightB t = true then (1 : Int) else 0) = 0)) = (if nightB t = true then 1 else 0) := by
    cases nightB t <;> rfl
  rw [e5]
  rintro g5 rfl
  have y5 := y4.tI (a := 71) (i := 4) (v := if nightB t = true then 1 else 0)
  obtain ⟨m1, m2⟩ := x_miles y5 r1 l1 hp hf
  refine ⟨m1, ?_⟩
  rw [m2]
  rintro g6 rfl g7 rfl g8 rfl
  have y6 := ((y5.tI (a := 71) (i := 5) (v := mi A p fr)).tI (a := 71) (i := 6) (v := fu)).tI (a := 71) (i := 7) (v := fl)
  have yq2 : qf h (sI (sI (sI (sI (sI (sI (sI (sI g 71 0 (wetF A p (t / 96) kk)) 71 1 (A 78 p)) 71 2 (A 84 pl)) 71 3 (A 79 p % 2)) 71 4 (if nightB t = true then 1 else 0)) 71 5 (mi A p fr)) 71 6 fu) 71 7 fl) := qf.trans yq (qf.trans qf_sI (qf.trans qf_sI (qf.trans qf_sI (qf.trans qf_sI (qf.trans qf_sI (qf.trans qf_sI (qf.trans qf_sI qf_sI)))))))
  generalize hG : sI (sI (sI (sI (sI (sI (sI (sI g 71 0 (wetF A p (t / 96) kk)) 71 1 (A 78 p)) 71 2 (A 84 pl)) 71 3 (A 79 p % 2)) 71 4 (if nightB t = true then 1 else 0)) 71 5 (mi A p fr)) 71 6 fu) 71 7 fl = G at y6 yq2 ⊢
  have v71 : ∀ j, j < 10 → hI G 71 j = vMay A pl p t kk fr fu fl j := by
    intro j hj
    have hz := ha j hj
    have : j = 0 ∨ j = 1 ∨ j = 2 ∨ j = 3 ∨ j = 4 ∨ j = 5 ∨ j = 6 ∨ j = 7 ∨ j = 8 ∨ j = 9 := by omega
    rw [← hG]
    rcases this with rfl | rfl | rfl | rfl | rfl | rfl | rfl | rfl | rfl | rfl <;> simp [hI_sI, hI_sL, hI_sR, hI_nw, hL_sI, hL_sL, hL_sR, hL_nw, hR_sI, hR_sL, hR_sR, hR_nw, hT_sI, hT_sL, hT_sR, hN_sI, hN_sL, hN_sR, hn_sI, hn_sL, hn_sR, hq_sI, hq_sL, hq_sR, Nat.reduceEqDiff, false_and, and_false, true_and, and_true, and_self, if_false, if_true, reduceIte, ite_self, vMay, hz]
  have v72 : ∀ j, j < 5 → hI G 72 j = prm A (tN A kk) j := by
    intro j hj
    rw [← hG]
    simp only [hI_sI, hI_sL, hI_sR, hI_nw, hL_sI, hL_sL, hL_sR, hL_nw, hR_sI, hR_sL, hR_sR, hR_nw, hT_sI, hT_sL, hT_sR, hN_sI, hN_sL, hN_sR, hn_sI, hn_sL, hn_sR, hq_sI, hq_sL, hq_sR, Nat.reduceEqDiff, false_and, and_false, true_and, and_true, and_self, if_false, if_true, reduceIte, ite_self]
    exact hc j hj
  have v70 : hI G 70 2 = 0 := by
    rw [← hG]
    simp only [hI_sI, hI_sL, hI_sR, hI_nw, hL_sI, hL_sL, hL_sR, hL_nw, hR_sI, hR_sL, hR_sR, hR_nw, hT_sI, hT_sL, hT_sR, hN_sI, hN_sL, hN_sR, hn_sI, hn_sL, hn_sR, hq_sI, hq_sL, hq_sR, Nat.reduceEqDiff, false_and, and_false, true_and, and_true, and_self, if_false, if_true, reduceIte, ite_self]
    exact hb
  unfold mayF at k
  obtain ⟨o1, _⟩ := y6.rulF r4 t0 t1
  obtain ⟨⟨u1, u2⟩, _⟩ := y6.rulL r4 t0 t1
  by_cases c : tN A kk = -1
  · rw [if_pos c] at k
    have n0 : nfl A (tN A kk) = 0 := if_pos c
    rw [n0] at u2
    refine fp2r 0 (fun _ => G) (fun R i hi => absurd hi (Nat.not_lt_zero _)) (fun R => ?_)
    refine ⟨o1, u1, u1, ?_⟩
    rw [u2, if_neg (by decide)]
    exact k _ y6 yq2
  · rw [if_neg c] at k
    obtain ⟨q, hq⟩ : ∃ q : Nat, tN A kk = q := ⟨(tN A kk).toNat, by omega⟩
    have lt : q < N 4 := by omega
    have n0 : nfl A (tN A kk) = A 98 q := by
      unfold nfl
      rw [if_neg c, hq, Int.toNat_natCast]
    have er : rul Z (tN A kk) = Z 4 q := by
      unfold rul
      rw [if_neg (by omega), hq, Int.toNat_natCast]
    have p4 := r4.2.2 q lt
    have p98 : 0 ≤ A 98 q ∧ A 98 q ≤ 30 := p4.2.2.1.2
    obtain ⟨n, hn⟩ : ∃ n : Nat, A 98 q = n := ⟨(A 98 q).toNat, by omega⟩
    rw [n0, hn, er] at u2
    rw [er] at u1 o1 ⊢
    have ekk : (tN A kk).toNat = q := by omega
    rw [ekk, hn, Int.toNat_natCast] at k
    refine wh2_of (fun (i : Int) g => g = G ∧ ∃ j : Nat, j ≤ n ∧ i = j ∧ fa (envV (vMay A pl p t kk fr fu fl) (prm A (tN A kk)) 0) (fun i => C q (1 + i)) (n - j) j = fa (envV (vMay A pl p t kk fr fu fl) (prm A (tN A kk)) 0) (fun i => C q (1 + i)) n 0) (fun i _ => n - i.toNat) ?_ ⟨rfl, 0, by omega, rfl, rfl⟩
    rintro R i g9 ⟨rfl, j, hj, rfl, hfa⟩ kk2
    refine ⟨o1, u1, u1, ?_⟩
    rw [u2]
    by_cases z : j < n
    · rw [if_pos (by omega)]
      obtain ⟨own, w1, w2, w3⟩ := y6.fly (t := q) (i := j) (by omega) (by rw [p4.2.2.1.1]; omega)
      refine ⟨w2, w3, w3, ?_⟩
      have he : ∀ k w, 1 ≤ k ∧ k ≤ 4 → (k = 2 → 0 ≤ w ∧ w < 10) ∧ (k = 3 → 0 ≤ w ∧ w < 5) ∧ (k = 4 → 0 ≤ w ∧ w < 16) → envV (vMay A pl p t kk fr fu fl) (prm A (tN A kk)) 0 k w = envX g9 k w := by
        intro k w hk hw
        unfold envV envX
        by_cases d1 : k = 1
        · rw [if_pos d1, if_pos d1]
        rw [if_neg d1, if_neg d1]
        by_cases d2 : k = 2
        · rw [if_pos d2, if_pos d2, v71 _ (by have := hw.1 d2; omega)]
        rw [if_neg d2, if_neg d2]
        by_cases d3 : k = 3
        · rw [if_pos d3, if_pos d3, v72 _ (by have := hw.2.1 d3; omega)]
        rw [if_neg d3, if_neg d3, v70]
      obtain ⟨v, v1, v2⟩ := ev_x he 70 _ _ w1
      refine v2 _ ?_
      obtain ⟨_, v3⟩ := v1.fin (by decide)
      rw [kI_v]
      rintro w rfl
      rw [kI_v]
      have hs : n - j = (n - (j + 1)) + 1 := by omega
      rw [hs] at hfa
      have hfa : (if wF (envV (vMay A pl p t kk fr fu fl) (prm A (tN A kk)) 0) (C q (1 + j)) = 0 then (j : Int) else fa (envV (vMay A pl p t kk fr fu fl) (prm A (tN A kk)) 0) (fun i => C q (1 + i)) (n - (j + 1)) (j + 1)) = _ := hfa
      rw [v3] at hfa
      by_cases d : v = 0
      · rw [if_pos (by rw [b2i_f (fun z => z d)]; exact fun z => z rfl)]
        rw [if_pos d] at hfa
        rw [hfa]
        exact k _ y6 yq2
      · rw [if_neg (by rw [b2i_t d]; exact fun z => z (by decide))]
        rw [if_neg d] at hfa
        refine ⟨⟨by omega, by omega⟩, ?_⟩
        rintro i rfl
        exact kk2 _ _ ⟨rfl, j + 1, z, rfl, hfa⟩ (by omega)
    · have : j = n := by omega
      subst this
      rw [if_neg (by omega)]
      rw [Nat.sub_self] at hfa
      have hfa : (-1 : Int) = _ := hfa
      rw [hfa]
      exact k _ y6 yq2
/-- but for values, the pile and what is said the model's memory is as it was -/
def eqv (A B : Nat → Nat → Int) : Prop := ∀ a i, a ≠ 109 → a ≠ 110 → (a = 75 → i ≠ 59) → B a i = A a i
theorem eqv.sc {A B : Nat → Nat → Int} (e : eqv A B) : scE A B := fun a i h => e a i (fun z => h (by unfold scr; omega)) (fun z => h (by unfold scr; omega)) (fun z w => h (by unfold scr; omega))
theorem eqv.row {A B : Nat → Nat → Int} (e : eqv A B) {a : Nat} (h1 : a ≠ 109) (h2 : a ≠ 110) (h3 : a ≠ 75) : B a = A a := funext fun i => e a i h1 h2 (fun z => absurd z h3)
theorem eqv.trans {A B E : Nat → Nat → Int} (e : eqv A B) (f : eqv B E) : eqv A E := fun a i h1 h2 h3 => (f a i h1 h2 h3).trans (e a i h1 h2 h3)
theorem eqv.u {A B : Nat → Nat → Int} (e : eqv A B) {i : Nat} {v : Int} : eqv A (uA B 109 i v) := fun a j h1 h2 h3 => by
  rw [show uA B 109 i v a j = B a j from congrFun (uA_a h1) j]
  exact e a j h1 h2 h3
theorem eqp.v {A B : Nat → Nat → Int} (e : eqp A B) : eqv A B := fun a i _ h2 _ => congrFun (e a h2) i
theorem m_clears {Q : Rs → Hp → Prop} (x : XS K D N M X Z C Wd A h) (k : ∀ g B, XS K D N M X Z C Wd B g → eqv A B → (∀ j, j < 10 → B 109 j = 0) → B 75 59 = 0 → hL g 158 = hL h 158 → Q rN g) : mX4_clears h Q := by
  unfold mX4_clears
  refine fph 10 (fun j g => ∃ B, XS K D N M X Z C Wd B g ∧ eqv A B ∧ hL g 158 = hL h 158 ∧ ∀ i, i < j → B 109 i = 0) ?_ ?_ ⟨A, x, fun _ _ _ _ _ => rfl, rfl, fun i hi => absurd hi (Nat.not_lt_zero _)⟩
  · rintro R j g hj ⟨B, xb, eb, ol, hB⟩ kk
    rw [if_pos (by omega)]
    refine ⟨by omega, by omega, ?_⟩
    rintro g1 rfl
    refine ⟨⟨by omega, by omega⟩, ?_⟩
    rintro i rfl
    rw [Int.toNat_natCast]
    refine kk _ ⟨_, xb.ma, eb.u, ol, fun i hi => ?_⟩
    by_cases z : i = j
    · rw [z, uA_at]
    · rw [uA_i z]
      exact hB i (by omega)
  · rintro R g ⟨B, xb, eb, ol, hB⟩
    rw [if_neg (by decide)]
    rintro g1 rfl
    refine k _ _ xb.m5 (fun a i h1 h2 h3 => ?_) (fun j hj => ?_) (uA_at _ _ _ _) ol
    · by_cases z : a = 75 ∧ i = 59
      · exact absurd z.2 (h3 z.1)
      · rw [show uA B 75 59 0 a i = B a i from if_neg z]
        exact eb a i h1 h2 h3
    · rw [uA_a (by decide)]
      exact hB j hj
theorem wetF_c {A B : Nat → Nat → Int} (h75 : B 75 60 = A 75 60) (h111 : B 111 = A 111) (h112 : B 112 = A 112) (h113 : B 113 = A 113) (h114 : B 114 = A 114) (p d k : Int) : wetF B p d k = wetF A p d k := by
  have : ∀ d n, rainF B p d k n = rainF A p d k n := by
    intro d n
    induction n with
    | zero => rfl
    | succ n ih =>
      show (if B 111 n = p ∧ B 112 n = d ∧ B 114 n ≤ k then B 113 n else rainF B p d k n) = if A 111 n = p ∧ A 112 n = d ∧ A 114 n ≤ k then A 113 n else rainF A p d k n
      rw [ih, h111, h112, h113, h114]
  unfold wetF rN1
  rw [this, this, this, h75]
theorem Rl6_v {n : Nat} {x : Nat → Nat → Int} {A B : Nat → Nat → Int} (e : eqv A B) (r : Rl6 n x A) : Rl6 n x B := by
  unfold Rl6
  rw [e 75 60 (by decide) (by decide) (by decide), e.row (a := 111) (by decide) (by decide) (by decide), e.row (a := 112) (by decide) (by decide) (by decide), e.row (a := 113) (by decide) (by decide) (by decide), e.row (a := 114) (by decide) (by decide) (by decide)]
  exact r
theorem Rl1_v {n : Nat} {x : Nat → Nat → Int} {A B : Nat → Nat → Int} (e : eqv A B) (r : Rl1 n x A) : Rl1 n x B := by
  unfold Rl1 Pl1
  rw [e 75 2 (by decide) (by decide) (by decide), e.row (a := 76) (by decide) (by decide) (by decide), e.row (a := 77) (by decide) (by decide) (by decide), e.row (a := 78) (by decide) (by decide) (by decide), e.row (a := 79) (by decide) (by decide) (by decide), e.row (a := 80) (by decide) (by decide) (by decide), e.row (a := 115) (by decide) (by decide) (by decide), e.row (a := 116) (by decide) (by decide) (by decide), e.row (a := 154) (by decide) (by decide) (by decide)]
  exact r
theorem m_place2 {n n6 p : Nat} {y y6 : Nat → Nat → Int} {t kk : Int} {Q : Rs → Hp → Prop} (x : XS K D N M X Z C Wd A h) (r1 : Rl1 n y A) (r6 : Rl6 n6 y6 A) (hp : p < n) (h0 : 0 ≤ t) (h1 : t ≤ 2000000) (k : ∀ g B, XS K D N M X Z C Wd B g → eqv A B → (∀ j, j < 10 → B 109 j = (if j = 0 then wetF A p (t / 96) kk else if j = 1 then A 78 p else if j = 3 then A 79 p % 2 else if j = 4 then (if nightB t = true then 1 else 0) else 0)) → B 75 59 = 0 → hL g 158 = hL h 158 → Q rN g) : mX4_place_2 p t kk h Q := by
  have n12 := r1.2.1
  unfold mX4_place_2
  refine m_clears x (fun g B xb eb hz hs ol => ?_)
  rw [kN_v]
  have ed : Int.tdiv t 96 = t / 96 := Int.tdiv_eq_ediv_of_nonneg h0
  rw [ed]
  refine m_wetOf xb (n := n6) (y := y6) (Rl6_v eb r6) (by omega) ?_
  have ew : wetF B p (t / 96) kk = wetF A p (t / 96) kk := wetF_c (A := A) (B := B) (eb 75 60 (by decide) (by decide) (by decide)) (eb.row (by decide) (by decide) (by decide)) (eb.row (by decide) (by decide) (by decide)) (eb.row (by decide) (by decide) (by decide)) (eb.row (by decide) (by decide) (by decide)) _ _ _
  rw [kI_v, ew]
  have e78 : hI g 78 p = A 78 p := by rw [xb.ra 78, eb.row (by decide) (by decide) (by decide)]
  have e79 : hI g 79 p = A 79 p := by rw [xb.ra 79, eb.row (by decide) (by decide) (by decide)]
  simp only [forall_eq, hI_sI, hI_sL, hI_sR, hI_nw, hL_sI, hL_sL, hL_sR, hL_nw, hR_sI, hR_sL, hR_sR, hR_nw, hT_sI, hT_sL, hT_sR, hN_sI, hN_sL, hN_sR, hn_sI, hn_sL, hn_sR, hq_sI, hq_sL, hq_sR, Nat.reduceEqDiff, false_and, and_false, true_and, and_true, and_self, if_false, if_true, reduceIte, ite_self, Int.toNat_natCast, e78, e79]
  rw [iand_1, (night_eq h0 _).2]
  have e5 : b2i (¬ ((if nightB t = true then (1 : Int) else 0) = 0)) = (if nightB t = true then 1 else 0) := by
    cases nightB t <;> rfl
  rw [e5]
  refine ⟨by omega, by omega, ?_⟩
  refine k _ _ xb.ma.ma.ma.ma eb.u.u.u.u (fun j hj => ?_) hs ol
  have hzj := hz j hj
  have : j = 0 ∨ j = 1 ∨ j = 2 ∨ j = 3 ∨ j = 4 ∨ j = 5 ∨ j = 6 ∨ j = 7 ∨ j = 8 ∨ j = 9 := by omega
  rcases this with rfl | rfl | rfl | rfl | rfl | rfl | rfl | rfl | rfl | rfl <;> simp [uA, hzj]
theorem tN_v {A B : Nat → Nat → Int} (h35 : B 75 35 = A 75 35) (h95 : B 95 = A 95) (k : Int) : tN B k = tN A k := by
  have : ∀ n, tx B k n = tx A k n := by
    intro n
    induction n with
    | zero => rfl
    | succ n ih =>
      show (if B 95 n ≤ k then (n : Int) else tx B k n) = if A 95 n ≤ k then (n : Int) else tx A k n
      rw [ih, h95]
  unfold tN
  rw [this, h35]
theorem XS.code (x : XS K D N M X Z C Wd A h) {t i : Nat} (ht : t < M 4) (hi : (i : Int) < X 4 t 1) (e : Int → Int → Int) : run e (C t (1 + i)) [] = some [wF e (C t (1 + i))] := by
  obtain ⟨own, w1, _, _⟩ := x.fly ht hi
  obtain ⟨v, hv⟩ := xe_val e 70 _ _ w1
  obtain ⟨h1, h2⟩ := hv.fin (by decide)
  rw [h2]
  exact h1
theorem m_mayNot {n n6 n4 pl p fr : Nat} {y y6 y4 : Nat → Nat → Int} {t kk fu fl : Int} {Q : Rs → Hp → Prop} (x : XS K D N M X Z C Wd A h) (r1 : Rl1 n y A) (r4 : Rl4 n4 y4 C A) (r6 : Rl6 n6 y6 A) (hM : n4 ≤ M 4) (hX : ∀ t, t < n4 → X 4 t = y4 t) (hpl : pl < 6) (hp : p < n) (hf : fr < n) (h0 : 0 ≤ t) (h1 : t ≤ 2000000) (k : ∀ g B, XS K D N M X Z C Wd B g → eqv A B → hL g 158 = hL h 158 → Q (rV (vI (mayF A C pl p t kk fr fu fl))) g) : mX4_mayNot pl p t kk fr fu fl h Q := by
  have n12 := r1.2.1
  unfold mX4_mayNot
  unfold mayF at k
  refine m_textBy x (n := n4) r4.1 r4.2.1 ?_
  rw [kI_v]
  by_cases c : tN A kk = -1
  · rw [if_pos c] at k
    rw [if_pos (by omega)]
    exact k _ A x (fun _ _ _ _ _ => rfl) rfl
  rw [if_neg c] at k
  rw [if_neg (by omega)]
  have tl := tx_lt A kk (A 75 35).toNat
  have t0 : -1 ≤ tN A kk := tl.1
  have t1 : tN A kk < n4 := by
    have : tN A kk < (A 75 35).toNat := tl.2
    have := r4.1
    omega
  have n412 := r4.2.1
  obtain ⟨q, hq⟩ : ∃ q : Nat, tN A kk = q := ⟨(tN A kk).toNat, by omega⟩
  have lt : q < n4 := by omega
  have p4 := r4.2.2 q lt
  have p98 : 0 ≤ A 98 q ∧ A 98 q ≤ 30 := p4.2.2.1.2
  obtain ⟨m, hm⟩ : ∃ n : Nat, A 98 q = n := ⟨(A 98 q).toNat, by omega⟩
  have ekk : (tN A kk).toNat = q := by omega
  rw [ekk, hm, Int.toNat_natCast] at k
  refine m_place2 x r1 r6 hp h0 h1 (fun g B xb eb hz hs ol => ?_)
  rw [kN_v]
  refine ⟨by omega, by omega, ?_⟩
  rintro g1 rfl
  have e84 : hI g 84 ((pl : Int)).toNat = A 84 pl := by rw [Int.toNat_natCast, xb.ra 84, eb.row (by decide) (by decide) (by decide)]
  rw [e84]
  have xb1 := xb.ma (a := 109) (i := 2) (v := A 84 pl)
  have eb1 := eb.u (i := 2) (v := A 84 pl)
  obtain ⟨m1, m2⟩ := m_miles xb1 (Rl1_v eb1 r1) hf hp
  have em : mi (uA B 109 2 (A 84 pl)) fr p = mi A p fr := by
    rw [mi_sym]
    unfold mi
    rw [eb1.row (a := 76) (by decide) (by decide) (by decide), eb1.row (a := 77) (by decide) (by decide) (by decide)]
  refine ⟨m1, ?_⟩
  rw [m2, em]
  rintro g2 rfl g3 rfl g4 rfl
  have xb2 := ((xb1.ma (a := 109) (i := 5) (v := mi A p fr)).ma (a := 109) (i := 6) (v := fu)).ma (a := 109) (i := 7) (v := fl)
  have eb2 := ((eb1.u (i := 5) (v := mi A p fr)).u (i := 6) (v := fu)).u (i := 7) (v := fl)
  have hv : ∀ j, j < 10 → uA (uA (uA (uA B 109 2 (A 84 pl)) 109 5 (mi A p fr)) 109 6 fu) 109 7 fl 109 j = vMay A pl p t kk fr fu fl j := by
    intro j hj
    have hzj := hz j hj
    have : j = 0 ∨ j = 1 ∨ j = 2 ∨ j = 3 ∨ j = 4 ∨ j = 5 ∨ j = 6 ∨ j = 7 ∨ j = 8 ∨ j = 9 := by omega
    rcases this with rfl | rfl | rfl | rfl | rfl | rfl | rfl | rfl | rfl | rfl <;> simp [uA, vMay] <;> simpa using hzj
  have hs2 : uA (uA (uA (uA B 109 2 (A 84 pl)) 109 5 (mi A p fr)) 109 6 fu) 109 7 fl 75 59 = 0 := hs
  generalize hB0 : uA (uA (uA (uA B 109 2 (A 84 pl)) 109 5 (mi A p fr)) 109 6 fu) 109 7 fl = B0 at xb2 eb2 hv hs2
  refine wh2_of (fun (i : Int) g => ∃ (j : Nat) (B1 : Nat → Nat → Int), i = j ∧ j ≤ m ∧ XS K D N M X Z C Wd B1 g ∧ eqp B0 B1 ∧ hL g 158 = hL h 158 ∧ fa (envV (vMay A pl p t kk fr fu fl) (prm A (tN A kk)) 0) (fun i => C q (1 + i)) (m - j) j = fa (envV (vMay A pl p t kk fr fu fl) (prm A (tN A kk)) 0) (fun i => C q (1 + i)) m 0) (fun i _ => m - i.toNat) ?_ ⟨0, B0, rfl, by omega, xb2, fun _ _ => rfl, ol, rfl⟩
  rintro R i g9 ⟨j, B1, rfl, hj, xj, ej, olj, hfa⟩ kk2
  refine ⟨by omega, by omega, ?_⟩
  have ev1 : eqv A B1 := eb2.trans ej.v
  have e98 : hI g9 98 (tN A kk).toNat = m := by rw [ekk, xj.ra 98, ev1.row (by decide) (by decide) (by decide), hm]
  rw [e98]
  by_cases z : j < m
  · rw [if_pos (by omega)]
    have e99 : hI g9 99 (30 * tN A kk + (j : Int)).toNat = A 99 (30 * q + j) := by
      rw [show (30 * tN A kk + (j : Int)).toNat = 30 * q + j by omega, xj.ra 99, ev1.row (by decide) (by decide) (by decide)]
    rw [e99]
    refine ⟨⟨by omega, by omega⟩, ⟨by omega, by omega⟩, by omega, by omega, ?_⟩
    have hcd := p4.2.2.2.2.2.1 j (by omega)
    have hcd1 : cdAt B1 (A 99 (30 * q + j)) (C q (1 + j) ++ [0]) := by
      unfold cdAt at hcd ⊢
      rw [ev1.row (a := 106) (by decide) (by decide) (by decide)]
      exact hcd
    have he : ∀ k w, 1 ≤ k ∧ k ≤ 4 → (k = 2 → 0 ≤ w ∧ w < 10) ∧ (k = 3 → 0 ≤ w ∧ w < 5) ∧ (k = 4 → 0 ≤ w ∧ w < 16) → envV (vMay A pl p t kk fr fu fl) (prm A (tN A kk)) 0 k w = envM B1 (tN A kk) k w := by
      intro k w hk hw
      unfold envV envM
      by_cases d1 : k = 1
      · rw [if_pos d1, if_pos d1]
      rw [if_neg d1, if_neg d1]
      by_cases d2 : k = 2
      · rw [if_pos d2, if_pos d2, ej 109 (by decide), hv _ (by have := hw.1 d2; omega)]
      rw [if_neg d2, if_neg d2]
      by_cases d3 : k = 3
      · rw [if_pos d3, if_pos d3]
        unfold prm
        rw [ev1.row (a := 96) (by decide) (by decide) (by decide)]
      rw [if_neg d3, if_neg d3, ej 75 (by decide), hs2]
    refine m_worth xj t0 (by omega) he hcd1 (xj.code (by omega) (by rw [hX q lt, p4.2.2.1.1]; omega) _) (fun g10 B2 x2 e2 ol2 => ?_)
    rw [kI_v]
    have hs : m - j = (m - (j + 1)) + 1 := by omega
    rw [hs] at hfa
    have hfa : (if wF (envV (vMay A pl p t kk fr fu fl) (prm A (tN A kk)) 0) (C q (1 + j)) = 0 then (j : Int) else fa (envV (vMay A pl p t kk fr fu fl) (prm A (tN A kk)) 0) (fun i => C q (1 + i)) (m - (j + 1)) (j + 1)) = _ := hfa
    by_cases d : wF (envV (vMay A pl p t kk fr fu fl) (prm A (tN A kk)) 0) (C q (1 + j)) = 0
    · rw [if_pos (fun z => z d)]
      rw [if_pos d] at hfa
      rw [hfa]
      exact k _ B2 x2 (ev1.trans e2.v) (ol2.trans olj)
    · rw [if_neg (fun z => z d)]
      rw [if_neg d] at hfa
      refine ⟨⟨by omega, by omega⟩, ?_⟩
      rintro i rfl
      exact kk2 _ _ ⟨j + 1, B2, rfl, z, x2, fun a ha => (e2 a ha).trans (ej a ha), ol2.trans olj, hfa⟩ (by omega)
  · have : j = m := by omega
    subst this
    rw [if_neg (by omega)]
    rw [Nat.sub_self] at hfa
    have hfa : (-1 : Int) = _ := hfa
    rw [hfa]
    exact k _ B1 xj ev1 olj
end
