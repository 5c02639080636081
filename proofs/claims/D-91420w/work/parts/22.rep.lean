set_option maxRecDepth 100000
set_option maxHeartbeats 1000000
/-! SPECS, 3: how the objects of x stand for its state. Components: 1 places, 2 planes, 3 people, 4 texts, 5 words, 6 rains, 7 finds, 8 calls, 9 flights, 10 clinics, 11 gifts. -/
def tgC (c : Nat) : Nat := match c with | 1 => 5 | 2 => 6 | 3 => 7 | 4 => 2 | 5 => 43 | 6 => 18 | 7 => 18 | 8 => 19 | 9 => 20 | 10 => 21 | 11 => 23 | _ => 0
/-- fields that are numbers -/
def fI (c : Nat) : List Nat := match c with | 1 => [0, 1, 2, 3, 4, 5, 7, 8, 9] | 2 => [0, 1, 2, 3, 6, 7] | 3 => [0, 1, 4, 5] | 4 => [4] | 6 => [0, 1, 2, 3] | 7 => [0, 1, 2, 3] | 8 => [0, 1, 2, 3, 5] | 9 => [2] | 10 => [1, 2] | 11 => [0, 1, 2] | _ => []
/-- fields that are objects of a component -/
def fR (c : Nat) : List (Nat × Nat) := match c with | 2 => [(4, 1), (5, 1)] | 3 => [(2, 1), (3, 1)] | 8 => [(4, 1)] | 9 => [(0, 2), (1, 3), (11, 1)] | 10 => [(0, 1)] | _ => []
/-- fields that are arrays of numbers -/
def fA (c : Nat) : List (Nat × Nat) := match c with | 1 => [(6, 31)] | 4 => [(0, 5)] | 9 => [(4, 7), (5, 7), (6, 7), (7, 7), (8, 7), (9, 7), (10, 7)] | _ => []
/-- fields that are arrays of objects -/
def fP (c : Nat) : List (Nat × Nat × Nat) := match c with | 9 => [(3, 7, 1)] | _ => []
/-- fields that hold the house itself -/
def fZ (c : Nat) : List Nat := match c with | 8 => [6] | 9 => [12] | _ => []
def af (f j : Nat) : Nat := 100 * (f + 1) + j
abbrev Ow : Type := Nat → Nat × Nat × Nat
def rfZ (Z : Nat → Nat → Nat) (c : Nat) (v : Int) : Nat := if v < 0 then 0 else Z c v.toNat
def ObjOk (M : Nat → Nat) (X : Nat → Nat → Nat → Int) (Z : Nat → Nat → Nat) (own : Ow) (h : Hp) (c i : Nat) : Prop :=
  ob h (Z c i) (tgC c) ∧ own (Z c i) = (c, i + 1, 0) ∧
  (∀ f, f ∈ fI c → hI h (Z c i) f = X c i f) ∧
  (∀ p, p ∈ fR c → hR h (Z c i) p.1 = rfZ Z p.2 (X c i p.1) ∧ X c i p.1 < M p.2) ∧
  (∀ p, p ∈ fA c → ob h (hR h (Z c i) p.1) 70 ∧ hN h (hR h (Z c i) p.1) = p.2 ∧ own (hR h (Z c i) p.1) = (c, i + 1, p.1 + 1) ∧ ∀ j, j < p.2 → hI h (hR h (Z c i) p.1) j = X c i (af p.1 j)) ∧
  (∀ p, p ∈ fP c → ob h (hR h (Z c i) p.1) 75 ∧ hN h (hR h (Z c i) p.1) = p.2.1 ∧ own (hR h (Z c i) p.1) = (c, i + 1, p.1 + 1) ∧ ∀ j, j < p.2.1 → hR h (hR h (Z c i) p.1) j = rfZ Z p.2.2 (X c i (af p.1 j)) ∧ X c i (af p.1 j) < M p.2.2) ∧
  (∀ f, f ∈ fZ c → hR h (Z c i) f = 50)
/-- what changes: only addresses with a role of W -/
def Fr (W : Nat × Nat × Nat → Prop) (own : Ow) (h k : Hp) : Prop := hn h ≤ hn k ∧ (∀ a, a < hn h → hT k a = hT h a ∧ hN k a = hN h a) ∧ ∀ a, a < hn h → ¬ W (own a) → same h k a
theorem Fr.ob {W : Nat × Nat × Nat → Prop} {own : Ow} {h k : Hp} (f : Fr W own h k) {a t : Nat} (o : ob h a t) : ob k a t := ⟨o.1, Nat.lt_of_lt_of_le o.2.1 f.1, (f.2.1 a o.2.1).1.trans o.2.2⟩
theorem ObjOk.frame {W : Nat × Nat × Nat → Prop} {M M' : Nat → Nat} {X X' : Nat → Nat → Nat → Int} {Z Z' : Nat → Nat → Nat} {own own' : Ow} {h k : Hp} {c i : Nat} (x : ObjOk M X Z own h c i) (f : Fr W own h k) (hw : ∀ q, ¬ W (c, i + 1, q)) (ho : ∀ a, a < hn h → own' a = own a) (hM : ∀ c, M c ≤ M' c) (hZ : ∀ c i, i < M c → Z' c i = Z c i) (hX : X' c i = X c i) (hi : i < M c) : ObjOk M' X' Z' own' k c i := by
  obtain ⟨x1, x2, x3, x4, x5, x6, x7⟩ := x
  have s0 : same h k (Z c i) := f.2.2 _ x1.2.1 (by rw [x2]; exact hw 0)
  have rz : ∀ q v, v < (M q : Int) → rfZ Z' q v = rfZ Z q v := by
    intro q v hv
    unfold rfZ
    by_cases z : v < 0
    · rw [if_pos z, if_pos z]
    · rw [if_neg z, if_neg z]
      exact hZ q _ (by omega)
  unfold ObjOk
  rw [hZ c i hi, hX]
  refine ⟨f.ob x1, (ho _ x1.2.1).trans x2, fun q hq => ?_, fun p hp => ?_, fun p hp => ?_, fun p hp => ?_, fun q hq => ?_⟩
  · rw [s0.1]
    exact x3 q hq
  · obtain ⟨y1, y2⟩ := x4 p hp
    have := hM p.2
    refine ⟨?_, by omega⟩
    rw [s0.2.2.1, rz _ _ y2]
    exact y1
  · obtain ⟨y1, y2, y3, y4⟩ := x5 p hp
    have s1 : same h k (hR h (Z c i) p.1) := f.2.2 _ y1.2.1 (by rw [y3]; exact hw _)
    rw [s0.2.2.1]
    refine ⟨f.ob y1, by rw [s1.2.2.2.2]; exact y2, (ho _ y1.2.1).trans y3, fun j hj => ?_⟩
    rw [s1.1]
    exact y4 j hj
  · obtain ⟨y1, y2, y3, y4⟩ := x6 p hp
    have s1 : same h k (hR h (Z c i) p.1) := f.2.2 _ y1.2.1 (by rw [y3]; exact hw _)
    rw [s0.2.2.1]
    refine ⟨f.ob y1, by rw [s1.2.2.2.2]; exact y2, (ho _ y1.2.1).trans y3, fun j hj => ?_⟩
    obtain ⟨z1, z2⟩ := y4 j hj
    have := hM p.2.2
    refine ⟨?_, by omega⟩
    rw [s1.2.2.1, rz _ _ z2]
    exact z1
  · rw [s0.2.2.1]
    exact x7 q hq
/-- a builder of signs -/
def SbOk (own : Ow) (h : Hp) (s m : Nat) (S : Nat → Int) : Prop := ob h s 48 ∧ (own s).1 = 24 ∧ hI h s 1 = 0 ∧ hI h s 3 = m ∧ ob h (hR h s 0) 71 ∧ 50 ≤ hR h s 0 ∧ (own (hR h s 0)).1 = 24 ∧ (m ≤ hN h (hR h s 0) ∧ hN h (hR h s 0) ≤ 100000) ∧ ∀ j, j < m → hI h (hR h s 0) j = S j ∧ 0 ≤ S j ∧ S j ≤ 127
def opOf (s : Int) : Int := if s = 43 then 10 else if s = 45 then 11 else if s = 42 then 12 else if s = 47 then 13 else if s = 60 then 8 else if s = 61 then 9 else if s = 38 then 6 else 7
def chC (cs : Nat → List Int) (S : Nat → Int) : Nat → List Int
  | 0 => cs 0
  | k + 1 => chC cs S k ++ cs (k + 1) ++ [opOf (S k)]
/-- the expression at r is of this code -/
def XE (own : Ow) (h : Hp) : Nat → Nat → List Int → Prop
  | 0, _, _ => False
  | n + 1, r, c => (own r).1 = 24 ∧ ((ob h r 12 ∧ c = [1, hI h r 0]) ∨ (ob h r 13 ∧ 0 ≤ hI h r 0 ∧ hI h r 0 < 10 ∧ c = [2, hI h r 0]) ∨ (ob h r 14 ∧ 0 ≤ hI h r 0 ∧ hI h r 0 < 5 ∧ c = [3, hI h r 0]) ∨ (ob h r 15 ∧ 0 ≤ hI h r 0 ∧ hI h r 0 < 16 ∧ c = [4, hI h r 0]) ∨
    (ob h r 16 ∧ ∃ c', XE own h n (hR h r 0) c' ∧ c = c' ++ [5]) ∨
    (ob h r 11 ∧ ∃ (m : Nat) (E : Nat → Nat) (S : Nat → Int) (cs : Nat → List Int), LOk h (hR h r 0) (m + 1) E 1000 ∧ (own (hR h r 0)).1 = 24 ∧ (own (hR h (hR h r 0) 1)).1 = 24 ∧ SbOk own h (hR h r 1) m S ∧ m ≤ 1000 ∧ (∀ j, j ≤ m → XE own h n (E j) (cs j)) ∧ c = chC cs S m))
theorem SbOk.frame {own own' : Ow} {h k : Hp} {s m : Nat} {S : Nat → Int} (x : SbOk own h s m S) (h1 : hn h ≤ hn k) (f : ∀ a, a < hn h → (own a).1 = 24 → same h k a) (ho : ∀ a, a < hn h → own' a = own a) : SbOk own' k s m S := by
  obtain ⟨x1, x2, x3, x4, x5, x6, x7, x8, x9⟩ := x
  have s0 := f _ x1.2.1 x2
  have s1 := f _ x5.2.1 x7
  unfold SbOk
  rw [s0.2.2.1, s0.1, s1.1, s1.2.2.2.2, ho _ x1.2.1, ho _ x5.2.1]
  exact ⟨s0.ob h1 x1, x2, x3, x4, s1.ob h1 x5, x6, x7, x8, x9⟩
theorem XE.own24 {own : Ow} {h : Hp} {n r : Nat} {c : List Int} (x : XE own h n r c) : (own r).1 = 24 ∧ r < hn h := by
  cases n with
  | zero => exact x.elim
  | succ n =>
    refine ⟨x.1, ?_⟩
    rcases x.2 with y | y | y | y | y | y
    · exact y.1.2.1
    · exact y.1.2.1
    · exact y.1.2.1
    · exact y.1.2.1
    · exact y.1.2.1
    · exact y.1.2.1
theorem XE.frame {own own' : Ow} {h k : Hp} (h1 : hn h ≤ hn k) (ht : ∀ a, a < hn h → hT k a = hT h a) (f : ∀ a, a < hn h → (own a).1 = 24 → same h k a) (ho : ∀ a, a < hn h → own' a = own a) : ∀ (n r : Nat) (c : List Int), XE own h n r c → XE own' k n r c := by
  intro n
  induction n with
  | zero => intro r c x; exact x.elim
  | succ n ih =>
    intro r c x
    obtain ⟨o, lt⟩ := x.own24
    have s0 := f r lt o
    have x := x.2
    unfold XE
    rw [ho r lt, s0.1, s0.2.2.1]
    refine ⟨o, ?_⟩
    rcases x with y | y | y | y | y | y
    · exact Or.inl ⟨s0.ob h1 y.1, y.2⟩
    · exact Or.inr (Or.inl ⟨s0.ob h1 y.1, y.2⟩)
    · exact Or.inr (Or.inr (Or.inl ⟨s0.ob h1 y.1, y.2⟩))
    · exact Or.inr (Or.inr (Or.inr (Or.inl ⟨s0.ob h1 y.1, y.2⟩)))
    · obtain ⟨y1, c', y2, y3⟩ := y
      exact Or.inr (Or.inr (Or.inr (Or.inr (Or.inl ⟨s0.ob h1 y1, c', ih _ _ y2, y3⟩))))
    · obtain ⟨y1, m, E, S, cs, y2, y3, y4, y5, y6, y7, y8⟩ := y
      have sl := f _ y2.1.2.1 y3
      have sa := f _ y2.2.2.2.2.2.1.2.1 y4
      refine Or.inr (Or.inr (Or.inr (Or.inr (Or.inr ⟨s0.ob h1 y1, m, E, S, cs, y2.frame h1 ht sl sa, ?_, ?_, y5.frame h1 f ho, y6, fun j hj => ih _ _ (y7 j hj), y8⟩))))
      · rw [ho _ y2.1.2.1]; exact y3
      · rw [sl.2.2.1, ho _ y2.2.2.2.2.2.1.2.1]; exact y4
/-- a list of a text: its roles -/
def TlOk (own : Ow) (h : Hp) (l n : Nat) (E : Nat → Nat) : Prop := LOk h l n E 1000 ∧ (own l).1 = 24 ∧ (hR h l 1 = 2 ∨ (own (hR h l 1)).1 = 24)
theorem TlOk.frame {own own' : Ow} {h k : Hp} {l n : Nat} {E : Nat → Nat} (x : TlOk own h l n E) (h1 : hn h ≤ hn k) (ht : ∀ a, a < hn h → hT k a = hT h a) (s2 : same h k 2) (f : ∀ a, a < hn h → (own a).1 = 24 → same h k a) (ho : ∀ a, a < hn h → own' a = own a) : TlOk own' k l n E := by
  obtain ⟨x1, x2, x3⟩ := x
  have sl := f _ x1.1.2.1 x2
  have al : hR h l 1 < hn h := x1.2.2.2.2.2.1.2.1
  have sa : same h k (hR h l 1) := by
    rcases x3 with z | z
    · rw [z]; exact s2
    · exact f _ al z
  refine ⟨x1.frame h1 ht sl sa, by rw [ho _ x1.1.2.1]; exact x2, ?_⟩
  rw [sl.2.2.1, ho _ al]
  exact x3
def DoOk (own : Ow) (h : Hp) (r : Nat) (n w : Int) (c : List Int) : Prop := ob h r 17 ∧ (own r).1 = 24 ∧ hI h r 0 = n ∧ hI h r 1 = w ∧ ((hR h r 2 = 0 ∧ c = []) ∨ XE own h 70 (hR h r 2) c)
/-- the text at r: how many flies and chests (x 1, x 2), a chest's number and who (x (500 + j), x (600 + j)), codes: 0 first, 1 + j flies, 100 + j chests -/
def TxOk (own : Ow) (h : Hp) (r : Nat) (x : Nat → Int) (C : Nat → List Int) : Prop :=
  (0 ≤ x 1 ∧ x 1 ≤ 30 ∧ ∃ E, TlOk own h (hR h r 1) (x 1).toNat E ∧ ∀ j, j < (x 1).toNat → XE own h 70 (E j) (C (1 + j))) ∧
  (0 ≤ x 2 ∧ x 2 ≤ 30 ∧ ∃ E, TlOk own h (hR h r 2) (x 2).toNat E ∧ ∀ j, j < (x 2).toNat → DoOk own h (E j) (x (500 + j)) (x (600 + j)) (C (100 + j))) ∧
  ((hR h r 3 = 0 ∧ C 0 = []) ∨ XE own h 70 (hR h r 3) (C 0))
theorem TxOk.frame {own own' : Ow} {h k : Hp} {r : Nat} {x : Nat → Int} {C : Nat → List Int} (t : TxOk own h r x C) (s0 : same h k r) (h1 : hn h ≤ hn k) (ht : ∀ a, a < hn h → hT k a = hT h a) (s2 : same h k 2) (f : ∀ a, a < hn h → (own a).1 = 24 → same h k a) (ho : ∀ a, a < hn h → own' a = own a) : TxOk own' k r x C := by
  obtain ⟨⟨a1, a2, E, a3, a4⟩, ⟨b1, b2, F, b3, b4⟩, c⟩ := t
  unfold TxOk
  rw [s0.2.2.1]
  refine ⟨⟨a1, a2, E, a3.frame h1 ht s2 f ho, fun j hj => XE.frame h1 ht f ho _ _ _ (a4 j hj)⟩, ⟨b1, b2, F, b3.frame h1 ht s2 f ho, fun j hj => ?_⟩, ?_⟩
  · obtain ⟨d1, d2, d3, d4, d5⟩ := b4 j hj
    have sd := f _ d1.2.1 d2
    unfold DoOk
    rw [sd.1, sd.2.2.1, ho _ d1.2.1]
    refine ⟨sd.ob h1 d1, d2, d3, d4, ?_⟩
    rcases d5 with d5 | d5
    · exact Or.inl d5
    · exact Or.inr (XE.frame h1 ht f ho _ _ _ d5)
  · rcases c with c | c
    · exact Or.inl c
    · exact Or.inr (XE.frame h1 ht f ho _ _ _ c)
/-- the text (a string) at r has these bytes -/
def StOk (own : Ow) (h : Hp) (r : Nat) (w : List Int) : Prop := ob h r 43 ∧ 50 ≤ r ∧ hI h r 1 = 0 ∧ ob h (hR h r 0) 71 ∧ 50 ≤ hR h r 0 ∧ (own (hR h r 0)).1 = 25 ∧ hN h (hR h r 0) = w.length ∧ ∀ j, j < w.length → hI h (hR h r 0) j = w.getD j 0
theorem StOk.frame {own own' : Ow} {h k : Hp} {r : Nat} {w : List Int} (x : StOk own h r w) (s0 : same h k r) (h1 : hn h ≤ hn k) (f : ∀ a, a < hn h → (own a).1 = 25 → same h k a) (ho : ∀ a, a < hn h → own' a = own a) : StOk own' k r w := by
  obtain ⟨x1, x2, x3, x4, x5, x6, x7, x8⟩ := x
  have s1 := f _ x4.2.1 x6
  unfold StOk
  rw [s0.2.2.1, s0.1, s1.1, s1.2.2.2.2, ho _ x4.2.1]
  exact ⟨s0.ob h1 x1, x2, x3, s1.ob h1 x4, x5, x6, x7, x8⟩
def XB (K : Hp) (own : Ow) (D : Nat) (h : Hp) : Prop := 159 ≤ hn h ∧ hn h ≤ D ∧ hq h ≤ 8 * D + 36000 ∧ D ≤ 800000 ∧ KF h ∧ (hT K 2 = 74 ∧ ∀ a, a < 50 → same K h a) ∧ ∀ a, a ≤ 158 → own a = (0, a, 0)
def XLs (N M : Nat → Nat) (Z : Nat → Nat → Nat) (own : Ow) (h : Hp) (c : Nat) : Prop := N c ≤ M c ∧ N c ≤ 200 ∧ LOk h (53 + c) (N c) (Z c) (N c + N 4) ∧ (hR h (53 + c) 1 = 2 ∨ own (hR h (53 + c) 1) = (c, 0, 0))
def XSc (X : Nat → Nat → Nat → Int) (h : Hp) : Prop := (∀ f, 20 ≤ f → f ≤ 27 → hI h 50 f = X 0 0 f) ∧ (∀ j, j < 800 → hI h 65 j = X 0 1 j) ∧ ∀ j, j < 8 → hI h 73 j = X 0 2 j
def XNn (h : Hp) : Prop := hI h 67 0 = 32 ∧ hI h 67 1 = 40 ∧ hI h 67 2 = 4 ∧ hI h 67 3 = 2 ∧ hI h 67 4 = 14 ∧ (LOk h 68 0 (fun _ => 0) 0 ∧ hR h 68 1 = 2) ∧ (LOk h 69 0 (fun _ => 0) 0 ∧ hR h 69 1 = 2) ∧ hR h 66 0 = 67 ∧ hR h 66 1 = 68 ∧ hR h 66 2 = 69 ∧ hR h 66 3 = 0
/-- all of x's state -/
def XR (K : Hp) (own : Ow) (D : Nat) (N M : Nat → Nat) (X : Nat → Nat → Nat → Int) (Z : Nat → Nat → Nat) (C : Nat → Nat → List Int) (Wd : Nat → List Int) (h : Hp) : Prop :=
  XB K own D h ∧ (∀ c, 1 ≤ c → c ≤ 11 → XLs N M Z own h c) ∧ (∀ c, 1 ≤ c → c ≤ 11 → ∀ i, i < M c → ObjOk M X Z own h c i) ∧ XSc X h ∧ XNn h ∧ (∀ t, t < M 4 → TxOk own h (Z 4 t) (X 4 t) (C t)) ∧ ∀ i, i < M 5 → StOk own h (Z 5 i) (Wd i)
theorem XR.frame {K : Hp} {own own' : Ow} {D D' : Nat} {N N' M M' : Nat → Nat} {X X' : Nat → Nat → Nat → Int} {Z Z' : Nat → Nat → Nat} {C C' : Nat → Nat → List Int} {Wd Wd' : Nat → List Int} {h k : Hp} (x : XR K own D N M X Z C Wd h) (W : Nat × Nat × Nat → Prop) (f : Fr W own h k) (d1 : hn k ≤ D') (d2 : hq k ≤ 8 * D' + 36000) (d3 : D' ≤ 800000) (kf : KF k) (hw : ∀ a, W (0, a, 0) → 50 ≤ a) (ho : ∀ a, a < hn h → own' a = own a)
    (hL : ∀ c, 1 ≤ c → c ≤ 11 → (¬ W (0, 53 + c, 0) ∧ ¬ W (c, 0, 0) ∧ N' c = N c ∧ N 4 ≤ N' 4) ∨ XLs N' M' Z' own' k c) (hM : ∀ c, M c ≤ M' c) (hZ : ∀ c i, i < M c → Z' c i = Z c i)
    (hO : ∀ c i, 1 ≤ c → c ≤ 11 → i < M' c → (i < M c ∧ X' c i = X c i ∧ ∀ q, ¬ W (c, i + 1, q)) ∨ ObjOk M' X' Z' own' k c i) (hS : (¬ W (0, 50, 0) ∧ ¬ W (0, 65, 0) ∧ ¬ W (0, 73, 0) ∧ X' 0 = X 0) ∨ XSc X' k) (hn0 : ∀ a, 66 ≤ a → a ≤ 69 → ¬ W (0, a, 0))
    (hT0 : ∀ t, t < M' 4 → (t < M 4 ∧ X' 4 t = X 4 t ∧ C' t = C t ∧ ¬ W (4, t + 1, 0) ∧ ∀ i q, ¬ W (24, i, q)) ∨ TxOk own' k (Z' 4 t) (X' 4 t) (C' t)) (hW0 : ∀ i, i < M' 5 → (i < M 5 ∧ Wd' i = Wd i ∧ ¬ W (5, i + 1, 0) ∧ ∀ i q, ¬ W (25, i, q)) ∨ StOk own' k (Z' 5 i) (Wd' i)) : XR K own' D' N' M' X' Z' C' Wd' k := by
  obtain ⟨⟨b1, b2, b3, b4, b5, b6, b7⟩, xl, xo, xs, xn, xt, xw⟩ := x
  have f1 := f.1
  have ht : ∀ a, a < hn h → hT k a = hT h a := fun a ha => (f.2.1 a ha).1
  have lit : ∀ a, a ≤ 158 → ¬ W (0, a, 0) → same h k a := fun a ha hwa => f.2.2 a (by omega) (by rw [b7 a ha]; exact hwa)
  have s2 : same h k 2 := lit 2 (by decide) (fun z => absurd (hw 2 z) (by decide))
  refine ⟨⟨by omega, d1, d2, d3, kf, ⟨b6.1, fun a ha => (b6.2 a ha).trans (lit a (by omega) (fun z => by have := hw a z; omega))⟩, fun a ha => (ho a (by omega)).trans (b7 a ha)⟩, fun c c1 c2 => ?_, fun c c1 c2 i hi => ?_, ?_, ?_, fun t ht0 => ?_, fun i hi => ?_⟩
  · rcases hL c c1 c2 with ⟨y1, y2, y3, y4⟩ | y
    · obtain ⟨z1, z2, z3, z4⟩ := xl c c1 c2
      have hMc := hM c
      have sl := lit (53 + c) (by omega) y1
      have al : hR h (53 + c) 1 < hn h := z3.2.2.2.2.2.1.2.1
      have sa : same h k (hR h (53 + c) 1) := by
        rcases z4 with z | z
        · rw [z]; exact s2
        · exact f.2.2 _ al (by rw [z]; exact y2)
      have L1 := z3.frame f1 ht sl sa
      refine ⟨by omega, by omega, ?_, ?_⟩
      · rw [y3]
        obtain ⟨l1, l2, l3, l4, l5, l6, l7, l8, l9, l10⟩ := L1
        exact ⟨l1, l2, l3, ⟨l4.1, by omega⟩, l5, l6, l7, l8, fun j hj => (l9 j hj).trans (hZ c j (by omega)).symm, l10⟩
      · rw [sl.2.2.1, ho _ al]
        exact z4
    · exact y
  · rcases hO c i c1 c2 hi with ⟨y1, y2, y3⟩ | y
    · exact (xo c c1 c2 i y1).frame f y3 ho hM hZ y2 y1
    · exact y
  · rcases hS with ⟨y1, y2, y3, y4⟩ | y
    · unfold XSc
      rw [y4, (lit 50 (by decide) y1).1, (lit 65 (by decide) y2).1, (lit 73 (by decide) y3).1]
      exact xs
    · exact y
  · obtain ⟨n1, n2, n3, n4, n5, n6, n7, n8, n9, n10, n11⟩ := xn
    have s66 := lit 66 (by decide) (hn0 66 (by decide) (by decide))
    have s67 := lit 67 (by decide) (hn0 67 (by decide) (by decide))
    have s68 := lit 68 (by decide) (hn0 68 (by decide) (by decide))
    have s69 := lit 69 (by decide) (hn0 69 (by decide) (by decide))
    unfold XNn
    rw [s67.1, s66.2.2.1, s68.2.2.1, s69.2.2.1]
    exact ⟨n1, n2, n3, n4, n5, ⟨n6.1.frame f1 ht s68 (by rw [n6.2]; exact s2), n6.2⟩, ⟨n7.1.frame f1 ht s69 (by rw [n7.2]; exact s2), n7.2⟩, n8, n9, n10, n11⟩
  · rcases hT0 t ht0 with ⟨y1, y2, y3, y4, y5⟩ | y
    · obtain ⟨o1, o2, _⟩ := xo 4 (by decide) (by decide) t y1
      rw [y2, y3, hZ 4 t y1]
      refine (xt t y1).frame (f.2.2 _ o1.2.1 (by rw [o2]; exact y4)) f1 ht s2 (fun a ha hc => f.2.2 a ha ?_) ho
      have e : own a = (24, (own a).2.1, (own a).2.2) := by rw [← hc]
      rw [e]
      exact y5 _ _
    · exact y
  · rcases hW0 i hi with ⟨y1, y2, y3, y4⟩ | y
    · obtain ⟨o1, o2, _⟩ := xo 5 (by decide) (by decide) i y1
      rw [y2, hZ 5 i y1]
      refine (xw i y1).frame (f.2.2 _ o1.2.1 (by rw [o2]; exact y3)) f1 (fun a ha hc => f.2.2 a ha ?_) ho
      have e : own a = (25, (own a).2.1, (own a).2.2) := by rw [← hc]
      rw [e]
      exact y4 _ _
    · exact y
