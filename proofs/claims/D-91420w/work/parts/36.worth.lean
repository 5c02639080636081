set_option maxRecDepth 100000
set_option maxHeartbeats 1000000
set_option linter.unusedSimpArgs false
set_option linter.unusedVariables false
/-! SPECS, 21: what an expression is worth -/
def opR (c a b : Int) : Int := if c = 6 then b2i (¬ (a = 0) ∧ (¬ (b = 0))) else if c = 7 then b2i ((a ≠ 0) ∨ (¬ (b = 0))) else if c = 8 then b2i (¬ (b ≤ a)) else if c = 9 then b2i (¬ (a ≠ b)) else if c = 10 then wr (a + b) else if c = 11 then wr (a - b) else if c = 12 then wr (a * b) else (if ¬ (b ≠ 0) then 0 else wr (Int.tdiv a b))
def stp (c : Int) (st : List Int) : Option (List Int) := if c = 5 then (match st with | v :: s => some (b2i (¬ (v ≠ 0)) :: s) | [] => none) else if 6 ≤ c then (match st with | b :: a :: s => some (opR c a b :: s) | _ => none) else none
def okW (c w : Int) : Prop := (c = 2 → 0 ≤ w ∧ w < 10) ∧ (c = 3 → 0 ≤ w ∧ w < 5) ∧ (c = 4 → 0 ≤ w ∧ w < 16)
def run (e : Int → Int → Int) : List Int → List Int → Option (List Int)
  | [], st => some st
  | [c], st => if 1 ≤ c ∧ c ≤ 4 then none else stp c st
  | c :: w :: rest, st => if 1 ≤ c ∧ c ≤ 4 then (if st.length < 800 ∧ (c = 2 → 0 ≤ w ∧ w < 10) ∧ (c = 3 → 0 ≤ w ∧ w < 5) ∧ (c = 4 → 0 ≤ w ∧ w < 16) then run e rest (e c w :: st) else none) else (stp c st).bind (fun s => run e (w :: rest) s)
theorem run_op (e : Int → Int → Int) {c : Int} (h : ¬ (1 ≤ c ∧ c ≤ 4)) (rest st : List Int) : run e (c :: rest) st = (stp c st).bind (fun s => run e rest s) := by
  cases rest with
  | nil =>
    show (if 1 ≤ c ∧ c ≤ 4 then none else stp c st) = (stp c st).bind (fun s => some s)
    rw [if_neg h]
    cases stp c st <;> rfl
  | cons w rest =>
    show (if 1 ≤ c ∧ c ≤ 4 then (if st.length < 800 ∧ (c = 2 → 0 ≤ w ∧ w < 10) ∧ (c = 3 → 0 ≤ w ∧ w < 5) ∧ (c = 4 → 0 ≤ w ∧ w < 16) then run e rest (e c w :: st) else none) else (stp c st).bind (fun s => run e (w :: rest) s)) = _
    rw [if_neg h]
theorem run_push (e : Int → Int → Int) {c w : Int} (h : 1 ≤ c ∧ c ≤ 4) (rest st : List Int) : run e (c :: w :: rest) st = if st.length < 800 ∧ (c = 2 → 0 ≤ w ∧ w < 10) ∧ (c = 3 → 0 ≤ w ∧ w < 5) ∧ (c = 4 → 0 ≤ w ∧ w < 16) then run e rest (e c w :: st) else none := by
  show (if 1 ≤ c ∧ c ≤ 4 then (if st.length < 800 ∧ (c = 2 → 0 ≤ w ∧ w < 10) ∧ (c = 3 → 0 ≤ w ∧ w < 5) ∧ (c = 4 → 0 ≤ w ∧ w < 16) then run e rest (e c w :: st) else none) else (stp c st).bind (fun s => run e (w :: rest) s)) = _
  rw [if_pos h]
def Val (e : Int → Int → Int) (m : Nat) (c : List Int) (v : Int) : Prop := ∀ rest st : List Int, st.length + m ≤ 800 → run e (c ++ rest) st = run e rest (v :: st)
theorem Val.leaf {e : Int → Int → Int} {m : Nat} {k w : Int} (hm : 1 ≤ m) (h : 1 ≤ k ∧ k ≤ 4) (hw : (k = 2 → 0 ≤ w ∧ w < 10) ∧ (k = 3 → 0 ≤ w ∧ w < 5) ∧ (k = 4 → 0 ≤ w ∧ w < 16)) : Val e m [k, w] (e k w) := by
  intro rest st hs
  show run e (k :: w :: rest) st = _
  rw [run_push e h, if_pos ⟨by omega, hw⟩]
theorem Val.no {e : Int → Int → Int} {m : Nat} {c : List Int} {v : Int} (x : Val e m c v) : Val e (m + 1) (c ++ [5]) (b2i (¬ (v ≠ 0))) := by
  intro rest st hs
  rw [List.append_assoc, x _ _ (by omega)]
  show run e (5 :: rest) (v :: st) = _
  rw [run_op e (by decide)]
  rfl
theorem Val.op {e : Int → Int → Int} {m : Nat} {c d : List Int} {v w s : Int} (x : Val e (m + 1) c v) (y : Val e m d w) (hs : 6 ≤ s) : Val e (m + 1) (c ++ d ++ [s]) (opR s v w) := by
  intro rest st h
  rw [List.append_assoc, List.append_assoc, x _ _ h, y _ _ (by simp only [List.length_cons]; omega)]
  show run e (s :: rest) (w :: v :: st) = _
  rw [run_op e (by omega)]
  have : stp s (w :: v :: st) = some (opR s v w :: st) := by
    unfold stp
    rw [if_neg (by omega), if_pos hs]
  rw [this]
  rfl
theorem opOf_ge (s : Int) : 6 ≤ opOf s := by
  unfold opOf
  repeat' split
  all_goals decide
theorem two_of {s a b : Int} {h : Hp} {Q : Rs → Hp → Prop} (k : Q (rV (vI (opR (opOf s) a b))) h) : mX11_two s a b h Q := by
  unfold mX11_two
  unfold opOf opR at k
  by_cases c1 : s = 38
  · subst c1; exact fun v hv => by subst hv; exact k
  rw [if_neg c1]
  by_cases c2 : s = 42
  · subst c2; exact k
  rw [if_neg c2]
  by_cases c3 : s = 43
  · subst c3; exact k
  rw [if_neg c3]
  by_cases c4 : s = 45
  · subst c4; exact k
  rw [if_neg c4]
  by_cases c5 : s = 47
  · subst c5
    exact ⟨fun z => fun w => z (fun y => y w), fun v hv => by subst hv; exact k⟩
  rw [if_neg c5]
  by_cases c6 : s = 60
  · subst c6; exact fun v hv => by subst hv; exact k
  rw [if_neg c6]
  by_cases c7 : s = 61
  · subst c7; exact fun v hv => by subst hv; exact k
  rw [if_neg c7]
  simp only [c1, c2, c3, c4, c5, c6, c7, if_false, reduceIte] at k
  exact fun v hv => by subst hv; exact k
theorem i2c_127 : ∀ n : Nat, n < 128 → i2c (iand n 255) = n := by decide +kernel
theorem char_of {own : Ow} {h : Hp} {s m : Nat} {S : Nat → Int} {Q : Rs → Hp → Prop} (x : SbOk own h s m S) {i : Int} (h0 : 0 ≤ i) (h1 : i < m) (k : Q (rV (vI (S i.toNat))) h) : mJ18_charAt s i h Q := by
  obtain ⟨x1, x2, x3, x4, x5, x6, x7, x8, x9⟩ := x
  obtain ⟨y1, y2, y3⟩ := x9 i.toNat (by omega)
  obtain ⟨n, hn⟩ : ∃ n : Nat, S i.toNat = n := ⟨(S i.toNat).toNat, by omega⟩
  have e1 : i2c (iand (hI h (hR h s 0) i.toNat) 255) = n := by
    rw [y1, hn]
    exact i2c_127 n (by omega)
  refine ⟨x1, x1, ?_⟩
  rintro v rfl r rfl
  refine ⟨x5, ⟨by omega, by omega⟩, ?_⟩
  rintro w rfl
  have e2 : vJ4_min (hI h s 3) (ishr (hN h (hR h s 0) : Int) (hI h s 1)) h = m := by
    rw [x3, x4]
    have : ishr (hN h (hR h s 0) : Int) 0 = (hN h (hR h s 0) : Int) := by
      have := ishr_eq (a := (hN h (hR h s 0) : Int)) ⟨by omega, by omega⟩ (k := 0) (by decide)
      simpa using this
    rw [this]
    unfold vJ4_min
    split <;> omega
  rw [e2]
  refine ⟨?_, ?_⟩
  · show ¬ (i < 0) ∧ i < (m : Int)
    omega
  · refine ⟨fun z => z x3, x5, h0, by omega, ?_⟩
    rw [e1]
    rw [hn] at k
    exact ⟨nar_char n (by omega), nar_char n (by omega), k⟩
theorem XE.obx {own : Ow} {h : Hp} {n r : Nat} {c : List Int} (x : XE own h n r c) : obX h r := by
  cases n with
  | zero => exact x.elim
  | succ n =>
    rcases x.2 with y | y | y | y | y | y <;> exact obX_of y.1 (by decide) (by decide)
theorem Val.mono {e : Int → Int → Int} {m : Nat} {c : List Int} {v : Int} (x : Val e m c v) : Val e (m + 1) c v := fun rest st h => x rest st (by omega)
def envX (h : Hp) (k w : Int) : Int := if k = 1 then w else if k = 2 then hI h 71 w.toNat else if k = 3 then hI h 72 w.toNat else iand (ishr (hI h 70 2) w) 1
theorem ev_x {own : Ow} {h : Hp} {e : Int → Int → Int} (he : ∀ k w, 1 ≤ k ∧ k ≤ 4 → (k = 2 → 0 ≤ w ∧ w < 10) ∧ (k = 3 → 0 ≤ w ∧ w < 5) ∧ (k = 4 → 0 ≤ w ∧ w < 16) → e k w = envX h k w) : ∀ (m r : Nat) (c : List Int), XE own h m r c → ∃ v, Val e m c v ∧ ∀ Q : Rs → Hp → Prop, Q (rV (vI v)) h → mEV m r h Q := by
  intro m
  induction m with
  | zero => intro r c x; exact x.elim
  | succ m ih =>
    intro r c x
    rcases x.2 with ⟨o, rfl⟩ | ⟨o, w1, w2, rfl⟩ | ⟨o, w1, w2, rfl⟩ | ⟨o, w1, w2, rfl⟩ | ⟨o, c', y, rfl⟩ | ⟨o, n, E, S, cs, y1, y2, y3, y4, y5, y6, rfl⟩
    · refine ⟨_, Val.leaf (by omega) (by decide) ⟨fun z => absurd z (by decide), fun z => absurd z (by decide), fun z => absurd z (by decide)⟩, fun Q k => ?_⟩
      rw [he _ _ (by decide) ⟨fun z => absurd z (by decide), fun z => absurd z (by decide), fun z => absurd z (by decide)⟩] at k
      unfold mEV
      rw [o.2.2, if_neg (by decide), if_pos rfl]
      exact ⟨o, k⟩
    · refine ⟨_, Val.leaf (by omega) (by decide) ⟨fun z => ⟨w1, w2⟩, fun z => absurd z (by decide), fun z => absurd z (by decide)⟩, fun Q k => ?_⟩
      rw [he _ _ (by decide) ⟨fun z => ⟨w1, w2⟩, fun z => absurd z (by decide), fun z => absurd z (by decide)⟩] at k
      unfold mEV
      rw [o.2.2, if_neg (by decide), if_neg (by decide), if_pos rfl]
      exact ⟨⟨o, w1, w2⟩, k⟩
    · refine ⟨_, Val.leaf (by omega) (by decide) ⟨fun z => absurd z (by decide), fun z => ⟨w1, w2⟩, fun z => absurd z (by decide)⟩, fun Q k => ?_⟩
      rw [he _ _ (by decide) ⟨fun z => absurd z (by decide), fun z => ⟨w1, w2⟩, fun z => absurd z (by decide)⟩] at k
      unfold mEV
      rw [o.2.2, if_neg (by decide), if_neg (by decide), if_neg (by decide), if_pos rfl]
      exact ⟨⟨o, w1, w2⟩, k⟩
    · refine ⟨_, Val.leaf (by omega) (by decide) ⟨fun z => absurd z (by decide), fun z => absurd z (by decide), fun z => ⟨w1, w2⟩⟩, fun Q k => ?_⟩
      rw [he _ _ (by decide) ⟨fun z => absurd z (by decide), fun z => absurd z (by decide), fun z => ⟨w1, w2⟩⟩] at k
      unfold mEV
      rw [o.2.2, if_neg (by decide), if_neg (by decide), if_neg (by decide), if_neg (by decide), if_pos rfl]
      exact ⟨o, k⟩
    · obtain ⟨v, v1, v2⟩ := ih _ _ y
      refine ⟨_, v1.no, fun Q k => ?_⟩
      unfold mEV
      rw [o.2.2, if_neg (by decide), if_neg (by decide), if_neg (by decide), if_neg (by decide), if_neg (by decide)]
      have ox := XE.obx y
      refine ⟨o, ox, ox, v2 _ ?_⟩
      rw [kI_v]
      rintro w rfl
      rw [kI_v]
      rintro w rfl
      have : b2i (¬ ¬ (b2i (¬ v = 0) = 0)) = b2i (¬ (v ≠ 0)) := by
        unfold b2i
        by_cases z : v = 0
        · simp [z]
        · simp [z]
      rw [this]
      exact k
    · have hv : ∀ j, j ≤ n → ∃ v, Val e m (cs j) v ∧ ∀ Q : Rs → Hp → Prop, Q (rV (vI v)) h → mEV m (E j) h Q := fun j hj => ih _ _ (y6 j hj)
      have hf : ∃ vs : Nat → Int, ∀ j, j ≤ n → Val e m (cs j) (vs j) ∧ ∀ Q : Rs → Hp → Prop, Q (rV (vI (vs j))) h → mEV m (E j) h Q := by
        refine ⟨fun j => if hj : j ≤ n then Classical.choose (hv j hj) else 0, fun j hj => ?_⟩
        have := Classical.choose_spec (hv j hj)
        simp only [hj, dite_true]
        exact this
      obtain ⟨vs, hvs⟩ := hf
      have hcur : ∃ cur : Nat → Int, cur 0 = vs 0 ∧ ∀ j, cur (j + 1) = opR (opOf (S j)) (cur j) (vs (j + 1)) := ⟨fun j => Nat.rec (vs 0) (fun j c => opR (opOf (S j)) c (vs (j + 1))) j, rfl, fun _ => rfl⟩
      obtain ⟨cur, c0, cs1⟩ := hcur
      have hval : ∀ j, j ≤ n → Val e (m + 1) (chC cs S j) (cur j) := by
        intro j
        induction j with
        | zero => intro _; rw [c0]; exact (hvs 0 (by omega)).1.mono
        | succ j ij =>
          intro hj
          rw [cs1]
          exact Val.op (ij (by omega)) (hvs (j + 1) hj).1 (opOf_ge _)
      refine ⟨cur n, hval n (Nat.le_refl _), fun Q k => ?_⟩
      unfold mEV
      rw [o.2.2, if_pos rfl]
      have g0 : vJ2_get (hR h r 0) 0 h = E 0 := y1.get (by decide) (by omega)
      refine ⟨o, y1.oget (by decide) (by omega), y1.1, ?_, ?_⟩
      · rw [g0]; exact (y6 0 (by omega)).obx
      rw [g0]
      refine (hvs 0 (by omega)).2 _ ?_
      rw [kI_v, ← c0]
      refine wh3_of (fun (v : Int) (i : Int) g => g = h ∧ ∃ j : Nat, j ≤ n ∧ i = (j : Int) + 1 ∧ v = cur j) (fun _ i _ => (n + 1 - i).toNat) ?_ ⟨rfl, 0, by omega, rfl, rfl⟩
      rintro R v i g ⟨rfl, j, hj, rfl, rfl⟩ kk
      have sz : vJ2_size (hR g r 0) g = (n + 1 : Nat) := y1.size
      refine ⟨o, y1.osize, y1.1, ?_⟩
      rw [sz]
      by_cases z : j < n
      · rw [if_pos (by omega)]
        refine ⟨⟨by omega, by omega⟩, y4.1, ?_⟩
        have ei : ((j : Int) + 1 - 1) = j := by omega
        rw [ei]
        refine char_of y4 (by omega) (by omega) ?_
        rw [kI_v, Int.toNat_natCast]
        have g1 : vJ2_get (hR g r 0) ((j : Int) + 1) g = E (j + 1) := (y1.get (by omega) (by omega)).trans (by congr 1)
        refine ⟨o, y1.oget (by omega) (by omega), y1.1, ?_, ?_⟩
        · rw [g1]; exact (y6 (j + 1) z).obx
        rw [g1]
        refine (hvs (j + 1) z).2 _ ?_
        rw [kI_v]
        refine two_of ?_
        rw [kI_v, ← cs1]
        refine ⟨⟨by omega, by omega⟩, ?_⟩
        rintro i rfl
        exact kk _ _ _ ⟨rfl, j + 1, z, rfl, rfl⟩ (by omega)
      · rw [if_neg (by omega)]
        have : j = n := by omega
        subst this
        exact k
/-- the code of an expression comes out, whatever is asked -/
theorem xe_val {own : Ow} {h : Hp} (e : Int → Int → Int) : ∀ (m r : Nat) (c : List Int), XE own h m r c → ∃ v, Val e m c v := by
  intro m
  induction m with
  | zero => intro r c x; exact x.elim
  | succ m ih =>
    intro r c x
    rcases x.2 with ⟨o, rfl⟩ | ⟨o, w1, w2, rfl⟩ | ⟨o, w1, w2, rfl⟩ | ⟨o, w1, w2, rfl⟩ | ⟨o, c', y, rfl⟩ | ⟨o, n, E, S, cs, y1, y2, y3, y4, y5, y6, rfl⟩
    · exact ⟨_, Val.leaf (by omega) (by decide) ⟨fun z => absurd z (by decide), fun z => absurd z (by decide), fun z => absurd z (by decide)⟩⟩
    · exact ⟨_, Val.leaf (by omega) (by decide) ⟨fun z => ⟨w1, w2⟩, fun z => absurd z (by decide), fun z => absurd z (by decide)⟩⟩
    · exact ⟨_, Val.leaf (by omega) (by decide) ⟨fun z => absurd z (by decide), fun z => ⟨w1, w2⟩, fun z => absurd z (by decide)⟩⟩
    · exact ⟨_, Val.leaf (by omega) (by decide) ⟨fun z => absurd z (by decide), fun z => absurd z (by decide), fun z => ⟨w1, w2⟩⟩⟩
    · obtain ⟨v, hv⟩ := ih _ _ y
      exact ⟨_, hv.no⟩
    · have : ∀ j, j ≤ n → ∃ v, Val e (m + 1) (chC cs S j) v := by
        intro j
        induction j with
        | zero => intro _; obtain ⟨v, hv⟩ := ih _ _ (y6 0 (by omega)); exact ⟨v, hv.mono⟩
        | succ j ij =>
          intro hj
          obtain ⟨v, hv⟩ := ij (by omega)
          obtain ⟨w, hw⟩ := ih _ _ (y6 (j + 1) hj)
          exact ⟨_, Val.op hv hw (opOf_ge _)⟩
      exact this n (Nat.le_refl _)
def wF (e : Int → Int → Int) (c : List Int) : Int := match run e c [] with | some [v] => v | _ => 0
theorem Val.fin {e : Int → Int → Int} {m : Nat} {c : List Int} {v : Int} (x : Val e m c v) (hm : m ≤ 800) : run e c [] = some [v] ∧ wF e c = v := by
  have := x [] [] (by simpa using hm)
  rw [List.append_nil] at this
  have h1 : run e c [] = some [v] := this
  refine ⟨h1, ?_⟩
  unfold wF
  rw [h1]
def envV (vals prms : Nat → Int) (bits : Int) (k w : Int) : Int := if k = 1 then w else if k = 2 then vals w.toNat else if k = 3 then prms w.toNat else iand (ishr bits w) 1
theorem cd_head {A : Nat → Nat → Int} {k c : Int} {l : List Int} (h : cdAt A k (c :: l)) : 0 ≤ k ∧ k < 22000 ∧ A 106 k.toNat = c ∧ cdAt A (k + 1) l := by
  obtain ⟨h1, h2, h3⟩ := h
  simp only [List.length_cons] at h2 h3
  have h0 := h3 0 (by omega)
  refine ⟨h1, by omega, h0, by omega, by omega, fun j hj => ?_⟩
  have := h3 (j + 1) (by omega)
  rw [show (k + 1).toNat + j = k.toNat + (j + 1) by omega, this]
  rfl
/-- but for the pile the model's memory is as it was -/
def eqp (A B : Nat → Nat → Int) : Prop := ∀ a, a ≠ 110 → B a = A a
theorem eqp.sc {A B : Nat → Nat → Int} (e : eqp A B) : scE A B := fun a i h => congrFun (e a (fun z => h (by unfold scr; omega))) i
def stk (B : Nat → Nat → Int) (st : List Int) : Prop := ∀ i, i < st.length → B 110 (st.length - 1 - i) = st.getD i 0
theorem works_of {c a b : Int} {h : Hp} {Q : Rs → Hp → Prop} (hc : 6 ≤ c) (k : Q (rV (vI (opR c a b))) h) : mX4_works c a b h Q := by
  unfold mX4_works
  unfold opR at k
  by_cases c1 : c = 6
  · rw [if_pos c1] at k ⊢; exact fun v hv => by subst hv; exact k
  rw [if_neg c1] at k ⊢
  by_cases c2 : c = 7
  · rw [if_pos c2] at k ⊢; exact fun v hv => by subst hv; exact k
  rw [if_neg c2] at k ⊢
  by_cases c3 : c = 8
  · rw [if_pos c3] at k ⊢; exact fun v hv => by subst hv; exact k
  rw [if_neg c3] at k ⊢
  by_cases c4 : c = 9
  · rw [if_pos c4] at k ⊢; exact fun v hv => by subst hv; exact k
  rw [if_neg c4] at k ⊢
  by_cases c5 : c = 10
  · rw [if_pos c5] at k ⊢; exact k
  rw [if_neg c5] at k ⊢
  by_cases c6 : c = 11
  · rw [if_pos c6] at k ⊢; exact k
  rw [if_neg c6] at k ⊢
  by_cases c7 : c = 12
  · rw [if_pos c7] at k ⊢; exact k
  rw [if_neg c7] at k ⊢
  exact ⟨fun z => fun w => z (fun y => y w), fun v hv => by subst hv; exact k⟩
def envM (A : Nat → Nat → Int) (t k w : Int) : Int := if k = 1 then w else if k = 2 then A 109 w.toNat else if k = 3 then prm A t w.toNat else iand (ishr (A 75 59) w) 1
section
variable {K : Hp} {D : Nat} {N M : Nat → Nat} {X : Nat → Nat → Nat → Int} {Z : Nat → Nat → Nat} {C : Nat → Nat → List Int} {Wd : Nat → List Int} {A : Nat → Nat → Int} {h : Hp}
theorem m_worth {t p v : Int} {c : List Int} {e : Int → Int → Int} {Q : Rs → Hp → Prop} (x : XS K D N M X Z C Wd A h) (t0 : -1 ≤ t) (t1 : t < 12) (he : ∀ k w, 1 ≤ k ∧ k ≤ 4 → (k = 2 → 0 ≤ w ∧ w < 10) ∧ (k = 3 → 0 ≤ w ∧ w < 5) ∧ (k = 4 → 0 ≤ w ∧ w < 16) → e k w = envM A t k w) (hc : cdAt A p (c ++ [0])) (hr : run e c [] = some [v]) (k : ∀ h' B, XS K D N M X Z C Wd B h' → eqp A B → hL h' 158 = hL h 158 → Q (rV (vI v)) h') : mX4_worth t p h Q := by
  unfold mX4_worth
  refine wh3_of (fun (n : Int) (q : Int) g => ∃ (c' st : List Int) (B : Nat → Nat → Int), n = st.length ∧ st.length ≤ 800 ∧ cdAt B q (c' ++ [0]) ∧ XS K D N M X Z C Wd B g ∧ eqp A B ∧ hL g 158 = hL h 158 ∧ stk B st ∧ run e c' st = some [v]) (fun _ q _ => (22000 - q).toNat) ?_ ⟨c, [], A, rfl, by simp, hc, x, fun _ _ => rfl, rfl, fun i hi => absurd hi (Nat.not_lt_zero _), hr⟩
  rintro R n q g ⟨c', st, B, rfl, hst, hcd, xb, eb, ol, hs, hrun⟩ kk
  have ebm : ∀ k w, envM B t k w = envM A t k w := by
    intro k w
    unfold envM prm
    rw [eb 109 (by decide), eb 96 (by decide), eb 75 (by decide)]
  cases c' with
  | nil =>
    obtain ⟨q1, q2, q3, q4⟩ := cd_head hcd
    have hst1 : st = [v] := Option.some.inj hrun
    subst hst1
    rw [xb.ra 106, q3]
    refine ⟨q1, q2, ?_⟩
    rw [if_neg (by decide), xb.ra 110]
    have := hs 0 (by simp)
    have this : B 110 0 = v := this
    rw [this]
    exact k _ B xb eb ol
  | cons a rest =>
    obtain ⟨q1, q2, q3, q4⟩ := cd_head hcd
    rw [xb.ra 106, q3]
    refine ⟨q1, q2, ?_⟩
    by_cases ca : 1 ≤ a ∧ a ≤ 4
    · rw [if_pos (by omega)]
      intro v0 hv0
      have hv0 := hv0.symm
      subst hv0
      refine ⟨⟨by omega, by omega⟩, ?_⟩
      rintro _ rfl
      rw [if_pos (by omega)]
      cases rest with
      | nil =>
        exfalso
        have : run e [a] st = none := by
          show (if 1 ≤ a ∧ a ≤ 4 then none else stp a st) = none
          rw [if_pos ca]
        rw [this] at hrun
        cases hrun
      | cons w rest =>
        obtain ⟨p1, p2, p3, p4⟩ := cd_head q4
        rw [run_push e ca] at hrun
        by_cases cd : st.length < 800 ∧ (a = 2 → 0 ≤ w ∧ w < 10) ∧ (a = 3 → 0 ≤ w ∧ w < 5) ∧ (a = 4 → 0 ≤ w ∧ w < 16)
        case neg =>
          rw [if_neg cd] at hrun
          cases hrun
        rw [if_pos cd] at hrun
        rw [xb.ra 106, p3]
        refine ⟨p1, p2, ?_⟩
        intro v0 hv0
        have hv0 := hv0.symm
        subst hv0
        refine ⟨⟨by omega, by omega⟩, ?_⟩
        rintro _ rfl
        refine ⟨fun z1 => ⟨fun z2 => cd.2.1 (by omega), fun z2 z3 => (m_prm xb t0 t1 (cd.2.2.1 (by omega)).1 (cd.2.2.1 (by omega)).2).1⟩, ?_⟩
        rintro _ rfl
        refine ⟨by omega, by omega, ?_⟩
        rintro _ rfl
        refine ⟨⟨by omega, by omega⟩, ?_⟩
        rintro _ rfl
        have ev : (if ¬ (a ≠ 1) then w else (if ¬ (a ≠ 2) then hI g 109 w.toNat else (if ¬ (a ≠ 3) then vX4_paramOf t w g else iand (ishr (hI g 75 59) w) 1))) = e a w := by
          rw [he a w ca cd.2, ← ebm]
          unfold envM
          rw [xb.ra 109, xb.rd 75 59]
          by_cases d1 : a = 1
          · rw [if_pos (by omega), if_pos d1]
          rw [if_neg (by omega), if_neg d1]
          by_cases d2 : a = 2
          · rw [if_pos (by omega), if_pos d2]
          rw [if_neg (by omega), if_neg d2]
          by_cases d3 : a = 3
          · rw [if_pos (by omega), if_pos d3]
            exact (m_prm xb t0 t1 (cd.2.2.1 d3).1 (cd.2.2.1 d3).2).2
          rw [if_neg (by omega), if_neg d3]
        rw [ev, Int.toNat_natCast]
        refine kk _ _ _ ⟨rest, e a w :: st, _, ?_, ?_, ?_, xb.ma, fun b hb => (uA_a hb).trans (eb b hb), ol, fun i hi => ?_, hrun⟩ (by omega)
        · simp only [List.length_cons]; omega
        · simp only [List.length_cons]; omega
        · obtain ⟨r1, r2, r3⟩ := p4
          exact ⟨r1, r2, fun j hj => by rw [uA_a (by decide)]; exact r3 j hj⟩
        · simp only [List.length_cons] at hi ⊢
          cases i with
          | zero =>
            rw [show st.length + 1 - 1 - 0 = st.length by omega, uA_at]
            rfl
          | succ i =>
            rw [show st.length + 1 - 1 - (i + 1) = st.length - 1 - i by omega, uA_i (by omega), hs i (by omega)]
            rfl
    · rw [run_op e ca] at hrun
      by_cases c5 : a = 5
      · subst c5
        cases st with
        | nil => cases hrun
        | cons u st =>
          have hrun : run e rest (b2i (¬ (u ≠ 0)) :: st) = some [v] := hrun
          have h110 : B 110 st.length = u := by
            have := hs 0 (by simp)
            simpa using this
          rw [if_pos (by decide)]
          rintro _ rfl
          refine ⟨⟨by omega, by omega⟩, ?_⟩
          rintro _ rfl
          rw [if_neg (by decide), if_pos (by decide)]
          have hl : (u :: st).length = st.length + 1 := rfl
          have ei : (((u :: st).length : Int) - 1).toNat = st.length := by omega
          rw [ei, xb.ra 110, h110]
          refine ⟨⟨by omega, by omega⟩, by omega, by omega, ?_⟩
          rintro _ rfl _ rfl
          refine kk _ _ _ ⟨rest, b2i (¬ (u ≠ 0)) :: st, _, ?_, ?_, ?_, xb.ma, fun b hb => (uA_a hb).trans (eb b hb), ol, fun i hi => ?_, hrun⟩ (by omega)
          · simp only [List.length_cons]
          · simp only [List.length_cons] at hst ⊢; omega
          · obtain ⟨r1, r2, r3⟩ := q4
            exact ⟨r1, r2, fun j hj => by rw [uA_a (by decide)]; exact r3 j hj⟩
          · simp only [List.length_cons] at hi ⊢
            cases i with
            | zero =>
              rw [show st.length + 1 - 1 - 0 = st.length by omega, uA_at]
              rfl
            | succ i =>
              rw [show st.length + 1 - 1 - (i + 1) = st.length - 1 - i by omega, uA_i (by omega)]
              have := hs (i + 1) (by simp only [List.length_cons]; omega)
              simp only [List.length_cons] at this
              rw [show st.length + 1 - 1 - (i + 1) = st.length - 1 - i by omega] at this
              rw [this]
              rfl
      · have hst2 : ∃ b a2 s, st = b :: a2 :: s ∧ 6 ≤ a ∧ run e rest (opR a a2 b :: s) = some [v] := by
          unfold stp at hrun
          rw [if_neg c5] at hrun
          by_cases c6 : 6 ≤ a
          · rw [if_pos c6] at hrun
            match st, hrun with
            | [], hrun => cases hrun
            | [b], hrun => cases hrun
            | b :: a2 :: s, hrun => exact ⟨b, a2, s, rfl, c6, hrun⟩
          · rw [if_neg c6] at hrun
            cases hrun
        obtain ⟨b, a2, s, rfl, c6, hrun2⟩ := hst2
        have h1 : B 110 (s.length + 1) = b := by
          have := hs 0 (by simp)
          simpa using this
        have h2 : B 110 s.length = a2 := by
          have := hs 1 (by simp)
          simpa using this
        rw [if_pos (by omega)]
        intro v0 hv0
        have hv0 := hv0.symm
        subst hv0
        refine ⟨⟨by omega, by omega⟩, ?_⟩
        rintro _ rfl
        rw [if_neg (by omega), if_neg (by omega)]
        have hl : (b :: a2 :: s).length = s.length + 1 + 1 := rfl
        refine ⟨⟨by omega, by omega⟩, ?_⟩
        rintro _ rfl
        have e1 : (((b :: a2 :: s).length : Int) + (-1)).toNat = s.length + 1 := by omega
        have e2 : ((((b :: a2 :: s).length : Int) + (-1)) - 1).toNat = s.length := by omega
        rw [e1, e2, xb.ra 110, xb.ra 110, h1, h2]
        refine ⟨⟨by omega, by omega⟩, by omega, by omega, by omega, by omega, ?_⟩
        refine works_of c6 ?_
        rw [kI_v]
        rintro _ rfl
        refine kk _ _ _ ⟨rest, opR a a2 b :: s, _, ?_, ?_, ?_, xb.ma, fun b hb => (uA_a hb).trans (eb b hb), ol, fun i hi => ?_, hrun2⟩ (by omega)
        · simp only [List.length_cons]; omega
        · simp only [List.length_cons] at hst ⊢; omega
        · obtain ⟨r1, r2, r3⟩ := q4
          exact ⟨r1, r2, fun j hj => by rw [uA_a (by decide)]; exact r3 j hj⟩
        · simp only [List.length_cons] at hi ⊢
          cases i with
          | zero =>
            rw [show s.length + 1 - 1 - 0 = s.length by omega, uA_at]
            rfl
          | succ i =>
            rw [show s.length + 1 - 1 - (i + 1) = s.length - 1 - i by omega, uA_i (by omega)]
            have := hs (i + 2) (by simp only [List.length_cons]; omega)
            simp only [List.length_cons] at this
            rw [show s.length + 1 + 1 - 1 - (i + 2) = s.length - 1 - i by omega] at this
            rw [this]
            rfl
end
