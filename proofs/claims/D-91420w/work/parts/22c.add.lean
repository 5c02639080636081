set_option maxRecDepth 100000
set_option maxHeartbeats 1000000
/-! SPECS, 5: new objects, lists of objects -/
def uM (M : Nat → Nat) (c v : Nat) : Nat → Nat := fun c' => if c' = c then v else M c'
def uZ (Z : Nat → Nat → Nat) (c i v : Nat) : Nat → Nat → Nat := fun c' i' => if c' = c ∧ i' = i then v else Z c' i'
def uW (X : Nat → Nat → Nat → Int) (c i : Nat) (row : Nat → Int) : Nat → Nat → Nat → Int := fun c' i' => if c' = c ∧ i' = i then row else X c' i'
theorem uM_at (M : Nat → Nat) (c v : Nat) : uM M c v c = v := if_pos rfl
theorem uM_ne {M : Nat → Nat} {c v c' : Nat} (n : c' ≠ c) : uM M c v c' = M c' := if_neg n
theorem uZ_at (Z : Nat → Nat → Nat) (c i v : Nat) : uZ Z c i v c i = v := if_pos ⟨rfl, rfl⟩
theorem uZ_ne {Z : Nat → Nat → Nat} {c i v c' i' : Nat} (n : ¬ (c' = c ∧ i' = i)) : uZ Z c i v c' i' = Z c' i' := if_neg n
theorem uW_at (X : Nat → Nat → Nat → Int) (c i : Nat) (row : Nat → Int) : uW X c i row c i = row := if_pos ⟨rfl, rfl⟩
theorem uW_ne {X : Nat → Nat → Nat → Int} {c i c' i' : Nat} {row : Nat → Int} (n : ¬ (c' = c ∧ i' = i)) : uW X c i row c' i' = X c' i' := if_neg n
theorem uW_c {X : Nat → Nat → Nat → Int} {c i c' : Nat} {row : Nat → Int} (n : c' ≠ c) : uW X c i row c' = X c' := funext fun _ => if_neg (fun z => n z.1)
/-- what is asked of a new object at r -/
def NewOk (M : Nat → Nat) (Z : Nat → Nat → Nat) (own : Ow) (h : Hp) (c i r : Nat) (row : Nat → Int) : Prop :=
  ob h r (tgC c) ∧ own r = (c, i + 1, 0) ∧
  (∀ f, f ∈ fI c → hI h r f = row f) ∧
  (∀ p, p ∈ fR c → hR h r p.1 = rfZ Z p.2 (row p.1) ∧ row p.1 < M p.2) ∧
  (∀ p, p ∈ fA c → ob h (hR h r p.1) 70 ∧ hN h (hR h r p.1) = p.2 ∧ own (hR h r p.1) = (c, i + 1, p.1 + 1) ∧ ∀ j, j < p.2 → hI h (hR h r p.1) j = row (af p.1 j)) ∧
  (∀ p, p ∈ fP c → ob h (hR h r p.1) 75 ∧ hN h (hR h r p.1) = p.2.1 ∧ own (hR h r p.1) = (c, i + 1, p.1 + 1) ∧ ∀ j, j < p.2.1 → hR h (hR h r p.1) j = rfZ Z p.2.2 (row (af p.1 j)) ∧ row (af p.1 j) < M p.2.2) ∧
  (∀ f, f ∈ fZ c → hR h r f = 50)
section
variable {K : Hp} {own : Ow} {D : Nat} {N M : Nat → Nat} {X : Nat → Nat → Nat → Int} {Z : Nat → Nat → Nat} {C : Nat → Nat → List Int} {Wd : Nat → List Int} {h : Hp}
theorem NewOk.obj {c r : Nat} {row : Nat → Int} (o : NewOk M Z own h c (M c) r row) : ObjOk (uM M c (M c + 1)) (uW X c (M c) row) (uZ Z c (M c) r) own h c (M c) := by
  obtain ⟨x1, x2, x3, x4, x5, x6, x7⟩ := o
  have rz : ∀ q v, v < (M q : Int) → rfZ (uZ Z c (M c) r) q v = rfZ Z q v := by
    intro q v hv
    unfold rfZ
    by_cases z : v < 0
    · rw [if_pos z, if_pos z]
    · rw [if_neg z, if_neg z]
      exact uZ_ne (fun w => by obtain ⟨rfl, w2⟩ := w; omega)
  have hM : ∀ q, M q ≤ uM M c (M c + 1) q := by
    intro q
    unfold uM
    split
    · next z => rw [z]; exact Nat.le_succ _
    · exact Nat.le_refl _
  unfold ObjOk
  rw [uZ_at, uW_at]
  refine ⟨x1, x2, x3, fun p hp => ?_, x5, fun p hp => ?_, x7⟩
  · obtain ⟨y1, y2⟩ := x4 p hp
    have := hM p.2
    exact ⟨by rw [rz _ _ y2]; exact y1, by omega⟩
  · obtain ⟨y1, y2, y3, y4⟩ := x6 p hp
    refine ⟨y1, y2, y3, fun j hj => ?_⟩
    obtain ⟨z1, z2⟩ := y4 j hj
    have := hM p.2.2
    exact ⟨by rw [rz _ _ z2]; exact z1, by omega⟩
/-- an object more -/
theorem XR.born (x : XR K own D N M X Z C Wd h) (c : Nat) (c1 : 1 ≤ c := by decide) {r : Nat} {row : Nat → Int} (o : NewOk M Z own h c (M c) r row) {C' : Nat → Nat → List Int} {Wd' : Nat → List Int} (hC : ∀ t, t < M 4 → C' t = C t) (hW : ∀ t, t < M 5 → Wd' t = Wd t) (t4 : c = 4 → TxOk own h r row (C' (M 4))) (t5 : c = 5 → StOk own h r (Wd' (M 5))) : XR K own D N (uM M c (M c + 1)) (uW X c (M c) row) (uZ Z c (M c) r) C' Wd' h := by
  have B := x.1
  have hM : ∀ q, M q ≤ uM M c (M c + 1) q := by
    intro q
    unfold uM
    split
    · next z => rw [z]; exact Nat.le_succ _
    · exact Nat.le_refl _
  refine x.frame (fun _ => False) ⟨Nat.le_refl _, fun a ha => ⟨rfl, rfl⟩, fun a ha _ => same_rfl _ _⟩ B.2.1 B.2.2.1 B.2.2.2.1 x.kf (fun _ z => z.elim) (fun _ _ => rfl) ?_ hM ?_ ?_ ?_ ?_ ?_ ?_
  · exact fun c _ _ => Or.inl ⟨id, id, rfl, Nat.le_refl _⟩
  · exact fun q i hi => uZ_ne (fun w => by obtain ⟨rfl, w2⟩ := w; omega)
  · intro q i _ _ hi
    by_cases z : q = c ∧ i = M c
    · obtain ⟨rfl, rfl⟩ := z
      exact Or.inr o.obj
    · refine Or.inl ⟨?_, uW_ne z, fun _ => id⟩
      by_cases y : q = c
      · rw [y, uM_at] at hi
        have : i ≠ M c := fun w => z ⟨y, w⟩
        rw [y]
        omega
      · rw [uM_ne y] at hi
        exact hi
  · exact Or.inl ⟨id, id, id, uW_c (by omega)⟩
  · exact fun _ _ _ => id
  · intro t ht
    by_cases z : 4 = c ∧ t = M c
    · obtain ⟨rfl, rfl⟩ := z
      rw [uZ_at, uW_at]
      exact Or.inr (t4 rfl)
    · have lt : t < M 4 := by
        by_cases y : 4 = c
        · rw [← y, uM_at] at ht
          have : t ≠ M c := fun w => z ⟨y, w⟩
          rw [← y] at this
          omega
        · rw [uM_ne y] at ht
          exact ht
      exact Or.inl ⟨lt, uW_ne z, hC t lt, id, fun _ _ => id⟩
  · intro t ht
    by_cases z : 5 = c ∧ t = M c
    · obtain ⟨rfl, rfl⟩ := z
      rw [uZ_at]
      exact Or.inr (t5 rfl)
    · have lt : t < M 5 := by
        by_cases y : 5 = c
        · rw [← y, uM_at] at ht
          have : t ≠ M c := fun w => z ⟨y, w⟩
          rw [← y] at this
          omega
        · rw [uM_ne y] at ht
          exact ht
      exact Or.inl ⟨lt, hW t lt, id, fun _ _ => id⟩
/-- objects that are in no list are forgotten -/
theorem XR.drop (x : XR K own D N M X Z C Wd h) (c m : Nat) (c1 : 4 ≤ c) (h1 : N c ≤ m) (h2 : m ≤ M c) : XR K own D N (uM M c m) X Z C Wd h := by
  obtain ⟨b, xl, xo, xs, xn, xt, xw⟩ := x
  have hle : ∀ q, uM M c m q ≤ M q := by
    intro q
    unfold uM
    split
    · next z => rw [z]; exact h2
    · exact Nat.le_refl _
  refine ⟨b, fun q q1 q2 => ?_, fun q q1 q2 i hi => ?_, xs, xn, fun t ht => xt t (Nat.lt_of_lt_of_le ht (hle 4)), fun t ht => xw t (Nat.lt_of_lt_of_le ht (hle 5))⟩
  · obtain ⟨y1, y2, y3, y4⟩ := xl q q1 q2
    refine ⟨?_, y2, y3, y4⟩
    unfold uM
    split
    · next z => rw [z]; exact h1
    · exact y1
  · obtain ⟨x1, x2, x3, x4, x5, x6, x7⟩ := xo q q1 q2 i (Nat.lt_of_lt_of_le hi (hle q))
    have tr : ∀ c, c < 12 → ∀ p ∈ fR c, p.2 < 4 := by decide
    have tp : ∀ c, c < 12 → ∀ p ∈ fP c, p.2.2 < 4 := by decide
    refine ⟨x1, x2, x3, fun p hp => ?_, x5, fun p hp => ?_, x7⟩
    · have := tr q (by omega) p hp
      rw [uM_ne (by omega)]
      exact x4 p hp
    · have := tp q (by omega) p hp
      rw [uM_ne (by omega)]
      exact x6 p hp
/-- the cells of the model (and the law's array) are as they were -/
def mS (h k : Hp) : Prop := ∀ a, 75 ≤ a → a ≤ 158 → same h k a
theorem mS.trans {h k l : Hp} (p : mS h k) (q : mS k l) : mS h l := fun a h1 h2 => (p a h1 h2).trans (q a h1 h2)
theorem mS_rfl (h : Hp) : mS h h := fun a _ _ => same_rfl h a
theorem mS.of {h k : Hp} (h0 : 159 ≤ hn h) (s : ∀ a, a < hn h → same h k a) : mS h k := fun a _ h2 => s a (by omega)
/-- a list of x gets its next object -/
theorem XR.add (x : XR K own D N M X Z C Wd h) (c : Nat) (c1 : 1 ≤ c := by decide) (c2 : c ≤ 11 := by decide) (h1 : N c < M c) (h2 : N c < 200) (h4 : N 4 ≤ 200) (hD : D + 60 ≤ 800000) {Q : Rs → Hp → Prop} (k : ∀ own' h', XR K own' (D + 60) (uM N c (N c + 1)) M X Z C Wd h' → mS h h' → Q (rV (vI 1)) h') : mJ2_add (53 + c) (Z c (N c)) h Q := by
  obtain ⟨y1, y2, y3, y4⟩ := x.ls c c1 c2
  obtain ⟨b1, b2, b3, b4, b5, b6, b7⟩ := x.1
  have O := x.o c (N c) c1 c2 h1
  have tg : ∀ c, c < 12 → 1 ≤ c → tgC c ∈ cLs := by decide
  have T2 : hT h 2 = 74 := (b6.2 2 (by decide)).2.2.2.1.trans b6.1
  refine y3.add ⟨O.1.1, O.1.2.1, by rw [O.1.2.2]; exact tg c (by omega) c1⟩ (by omega) (by omega) (by omega) T2 (by omega) (by omega) ?_
  intro h' L f1 f2 n1 n2 q1 q2 ar
  have l0 := b7 (53 + c) (by omega)
  have e1 : own (53 + c) = (0, 53 + c, 0) := l0
  have a50 : 159 ≤ hR h' (53 + c) 1 := by
    rcases ar with z | z
    · rcases y4 with w | w
      · omega
      · rw [z.1]
        exact x.big c1 w
    · omega
  refine k (fun a => if a = hn h then (c, 0, 0) else own a) h' ?_ (fun a a1 a2 => f1 a (by omega) (by omega) (by omega))
  refine x.frame (fun w => w = (0, 53 + c, 0) ∨ w = (c, 0, 0)) ⟨n1, f2, fun a ha hw => f1 a ha (fun z => hw (Or.inl (by rw [z]; exact e1))) (fun z => ?_)⟩ (by omega) (by omega) (by omega) ?_ ?_ ?_ ?_ (fun _ => Nat.le_refl _) (fun _ _ _ => rfl) ?_ ?_ ?_ ?_ ?_
  · rcases ar with w | w
    · rcases y4 with v | v
      · omega
      · refine hw (Or.inr ?_)
        rw [z, w.1]
        exact v
    · omega
  · refine ⟨fun q hq => ?_, fun q hq => ?_⟩
    · have : ∀ q ∈ kFld, q.1 = 50 ∨ q.1 = 70 ∨ q.1 = 75 := by decide
      have := this q hq
      rw [(f1 q.1 (by omega) (by omega) (by omega)).2.2.1]
      exact b5.1 q hq
    · obtain ⟨z1, z2⟩ := b5.2 q hq
      have := f2 q.1 z1.2.1
      exact ⟨⟨z1.1, Nat.lt_of_lt_of_le z1.2.1 n1, by rw [this.1]; exact z1.2.2⟩, by rw [this.2]; exact z2⟩
  · intro a z
    rcases z with z | z
    · injection z with _ z2; injection z2 with z3 _; omega
    · injection z with z2 _; omega
  · intro a ha
    exact if_neg (by omega)
  · intro q q1 q2
    by_cases z : q = c
    · subst z
      refine Or.inr ⟨?_, ?_, ?_, ?_⟩
      · rw [uM_at]; omega
      · rw [uM_at]; omega
      · obtain ⟨l1, l2, l3, l4, l5, l6, l7, l8, l9, l10⟩ := L
        rw [uM_at]
        have : N 4 ≤ uM N q (N q + 1) 4 := by
          unfold uM
          split
          · next z => rw [← z]; omega
          · exact Nat.le_refl _
        refine ⟨l1, l2, l3, ⟨l4.1, by omega⟩, l5, l6, l7, l8, fun i hi => ?_, l10⟩
        refine (l9 i hi).trans ?_
        by_cases w : i = N q
        · exact (if_pos w).trans (by rw [w])
        · exact if_neg w
      · rcases ar with w | w
        · right
          have lt := y3.2.2.2.2.2.1.2.1
          refine (if_neg (by omega)).trans ?_
          rw [w.1]
          rcases y4 with v | v
          · omega
          · exact v
        · right
          exact if_pos w
    · refine Or.inl ⟨fun w => ?_, fun w => ?_, uM_ne z, ?_⟩
      · rcases w with w | w
        · injection w with _ w2; injection w2 with w3 _; omega
        · injection w with w1 _; omega
      · rcases w with w | w
        · injection w with w1 _; omega
        · injection w with w1 _; exact z w1
      · unfold uM
        split
        · next z => rw [← z]; omega
        · exact Nat.le_refl _
  · intro q i q1 q2 hi
    refine Or.inl ⟨hi, rfl, fun _ w => ?_⟩
    rcases w with w | w
    · injection w with w1 _; omega
    · injection w with _ w2; injection w2 with w3 _; omega
  · refine Or.inl ⟨fun w => ?_, fun w => ?_, fun w => ?_, rfl⟩ <;>
    (rcases w with w | w
     · injection w with _ w2; injection w2 with w3 _; omega
     · injection w with w1 _; omega)
  · intro a a1 a2 w
    rcases w with w | w
    · injection w with _ w2; injection w2 with w3 _; omega
    · injection w with w1 _; omega
  · intro t ht
    refine Or.inl ⟨ht, rfl, rfl, fun w => ?_, fun i q w => ?_⟩
    · rcases w with w | w
      · injection w with w1 _; omega
      · injection w with _ w2; injection w2 with w3 _; omega
    · rcases w with w | w
      · injection w with w1 _; omega
      · injection w with w1 _; omega
  · intro t ht
    refine Or.inl ⟨ht, rfl, fun w => ?_, fun i q w => ?_⟩
    · rcases w with w | w
      · injection w with w1 _; omega
      · injection w with _ w2; injection w2 with w3 _; omega
    · rcases w with w | w
      · injection w with w1 _; omega
      · injection w with w1 _; omega
end
