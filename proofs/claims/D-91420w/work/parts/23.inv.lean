set_option maxRecDepth 100000
set_option maxHeartbeats 1000000
/-! SPECS, 6: the model's memory, and what ties it to x's state -/
def mA (h : Hp) : Nat → Nat → Int := fun a i => if a < 75 ∨ 157 < a then 0 else if a = 94 ∨ a = 104 ∨ (a = 75 ∧ i = 33) then hL h a i else hI h a i
def uA (A : Nat → Nat → Int) (a i : Nat) (v : Int) : Nat → Nat → Int := fun b j => if b = a ∧ j = i then v else A b j
theorem uA_at (A : Nat → Nat → Int) (a i : Nat) (v : Int) : uA A a i v a i = v := if_pos ⟨rfl, rfl⟩
theorem uA_i {A : Nat → Nat → Int} {a i j : Nat} {v : Int} (n : j ≠ i) : uA A a i v a j = A a j := if_neg (fun z => n z.2)
theorem uA_a {A : Nat → Nat → Int} {a i b : Nat} {v : Int} (n : b ≠ a) : uA A a i v b = A b := funext fun _ => if_neg (fun z => n z.1)
theorem mA_mS {h k : Hp} (s : mS h k) : mA k = mA h := by
  funext a i
  unfold mA
  by_cases z : a < 75 ∨ 157 < a
  · rw [if_pos z, if_pos z]
  · have := s a (by omega) (by omega)
    rw [if_neg z, if_neg z, this.1, this.2.1]
theorem mA_sI {h : Hp} {a i : Nat} {v : Int} (h1 : 75 ≤ a ∧ a ≤ 157) (h2 : a ≠ 94 ∧ a ≠ 104 ∧ ¬ (a = 75 ∧ i = 33)) : mA (sI h a i v) = uA (mA h) a i v := by
  funext b j
  unfold mA uA
  rw [hI_sI, hL_sI]
  by_cases z : b = a ∧ j = i
  · obtain ⟨rfl, rfl⟩ := z
    rw [if_neg (by omega), if_neg (by omega), if_pos ⟨rfl, rfl⟩, if_pos ⟨rfl, rfl⟩]
  · rw [if_neg z, if_neg z]
theorem mA_sL {h : Hp} {a i : Nat} {v : Int} (h1 : 75 ≤ a ∧ a ≤ 157) (h2 : a = 94 ∨ a = 104 ∨ (a = 75 ∧ i = 33)) : mA (sL h a i v) = uA (mA h) a i v := by
  funext b j
  unfold mA uA
  rw [hI_sL, hL_sL]
  by_cases z : b = a ∧ j = i
  · obtain ⟨rfl, rfl⟩ := z
    rw [if_neg (by omega), if_pos h2, if_pos ⟨rfl, rfl⟩, if_pos ⟨rfl, rfl⟩]
  · rw [if_neg z, if_neg z]
/-- x's state and the model's memory, roles hidden -/
def XS (K : Hp) (D : Nat) (N M : Nat → Nat) (X : Nat → Nat → Nat → Int) (Z : Nat → Nat → Nat) (C : Nat → Nat → List Int) (Wd : Nat → List Int) (A : Nat → Nat → Int) (h : Hp) : Prop := (∃ own, XR K own D N M X Z C Wd h) ∧ mA h = A
section
variable {K : Hp} {D : Nat} {N M : Nat → Nat} {X : Nat → Nat → Nat → Int} {Z : Nat → Nat → Nat} {C : Nat → Nat → List Int} {Wd : Nat → List Int} {A : Nat → Nat → Int} {h : Hp}
theorem XS.rd (x : XS K D N M X Z C Wd A h) (a i : Nat) (h1 : 75 ≤ a ∧ a ≤ 157 := by decide) (h2 : a ≠ 94 ∧ a ≠ 104 ∧ (a = 75 → i ≠ 33) := by decide) : hI h a i = A a i := by
  rw [← x.2]
  unfold mA
  rw [if_neg (by omega), if_neg (by omega)]
theorem XS.ra (x : XS K D N M X Z C Wd A h) (a i : Nat) (h1 : 76 ≤ a ∧ a ≤ 157 ∧ a ≠ 94 ∧ a ≠ 104 := by decide) : hI h a i = A a i := by
  rw [← x.2]
  unfold mA
  rw [if_neg (by omega), if_neg (by omega)]
theorem XS.rl (x : XS K D N M X Z C Wd A h) (a i : Nat) (h1 : 75 ≤ a ∧ a ≤ 157 := by decide) (h2 : a = 94 ∨ a = 104 ∨ (a = 75 ∧ i = 33) := by decide) : hL h a i = A a i := by
  rw [← x.2]
  unfold mA
  rw [if_neg (by omega), if_pos h2]
theorem XS.mI (x : XS K D N M X Z C Wd A h) {a i : Nat} {v : Int} (h1 : 75 ≤ a ∧ a ≤ 157) (h2 : a ≠ 94 ∧ a ≠ 104 ∧ ¬ (a = 75 ∧ i = 33)) : XS K D N M X Z C Wd (uA A a i v) (sI h a i v) := by
  obtain ⟨⟨own, x1⟩, x2⟩ := x
  exact ⟨⟨own, x1.mI h1.1 (by omega)⟩, by rw [mA_sI h1 h2, x2]⟩
theorem XS.ma (x : XS K D N M X Z C Wd A h) {a i : Nat} {v : Int} (h1 : 76 ≤ a ∧ a ≤ 157 ∧ a ≠ 94 ∧ a ≠ 104 := by decide) : XS K D N M X Z C Wd (uA A a i v) (sI h a i v) := x.mI (by omega) (by omega)
theorem XS.m5 (x : XS K D N M X Z C Wd A h) {i : Nat} {v : Int} (h1 : i ≠ 33 := by decide) : XS K D N M X Z C Wd (uA A 75 i v) (sI h 75 i v) := x.mI (by decide) (by omega)
theorem XS.mL (x : XS K D N M X Z C Wd A h) {a i : Nat} {v : Int} (h1 : 75 ≤ a ∧ a ≤ 157) (h2 : a = 94 ∨ a = 104 ∨ (a = 75 ∧ i = 33)) : XS K D N M X Z C Wd (uA A a i v) (sL h a i v) := by
  obtain ⟨⟨own, x1⟩, x2⟩ := x
  exact ⟨⟨own, x1.mL h1.1 (by omega)⟩, by rw [mA_sL h1 h2, x2]⟩
theorem XS.out (x : XS K D N M X Z C Wd A h) {i : Nat} {v : Int} : XS K D N M X Z C Wd A (sL h 158 i v) := by
  obtain ⟨⟨own, x1⟩, x2⟩ := x
  refine ⟨⟨own, x1.mL⟩, ?_⟩
  rw [← x2]
  funext a j
  unfold mA
  by_cases z : a < 75 ∨ 157 < a
  · rw [if_pos z, if_pos z]
  · have e : hL (sL h 158 i v) a j = hL h a j := by rw [hL_sL, if_neg (by omega)]
    rw [if_neg z, if_neg z, e, hI_sL]
theorem XS.of {own : Ow} (x : XR K own D N M X Z C Wd h) (e : mA h = A) : XS K D N M X Z C Wd A h := ⟨⟨own, x⟩, e⟩
theorem XS.more (x : XS K D N M X Z C Wd A h) {D' : Nat} (h1 : D ≤ D') (h2 : D' ≤ 800000) : XS K D' N M X Z C Wd A h := by
  obtain ⟨⟨own, ⟨b1, b2, b3, b4, b5, b6, b7⟩, x⟩, e⟩ := x
  exact ⟨⟨own, ⟨b1, by omega, by omega, h2, b5, b6, b7⟩, x⟩, e⟩
/-- a thing is thrown -/
theorem XS.thr (x : XS K D N M X Z C Wd A h) {D' t m q : Nat} (h1 : D + 1 ≤ D') (h2 : q ≤ 8 * (D' - D)) (h3 : D' ≤ 800000) : XS K D' N M X Z C Wd A (nw h t m q) := by
  obtain ⟨⟨own, x1⟩, e⟩ := x
  have b := x1.1
  have b1 := b.1
  have b2 := b.2.1
  have b3 := b.2.2.1
  have s : ∀ a, a < hn h → same h (nw h t m q) a := fun a ha => same_nw (by omega)
  exact ⟨⟨own, x1.fresh s (by rw [hn_nw]; omega) (by rw [hn_nw]; omega) (by rw [hq_nw]; omega) h3 (fun _ _ => rfl)⟩, by rw [mA_mS (mS.of b1 s), e]⟩
end
/-- x's own numbers -/
def Rl0 (T : Nat) (x : Nat → Nat → Int) (A : Nat → Nat → Int) : Prop := (x 0 20 = A 75 1 ∧ 0 ≤ A 75 1 ∧ A 75 1 ≤ 2687) ∧ (x 0 21 = A 75 23 ∧ 0 ≤ A 75 23 ∧ A 75 23 ≤ 800) ∧ x 0 22 = A 75 25 ∧ x 0 24 = A 75 81 ∧ ((x 0 25 = -1 ∧ A 75 99 = 0) ∨ (x 0 25 = A 75 99 ∧ 1 ≤ A 75 99 ∧ A 75 99 ≤ 8 ∧ x 0 26 = A 75 100 ∧ ∀ j : Nat, (j : Int) < A 75 99 → x 2 j = A 147 j)) ∧ (x 0 27 = A 75 111 ∧ -(1000 * (T : Int)) ≤ A 75 111 ∧ A 75 111 ≤ 1000 * T) ∧ ∀ j : Nat, (j : Int) < A 75 23 → -128 ≤ x 1 j ∧ x 1 j ≤ 127 ∧ A 93 j = x 1 j % 256
def Pl1 (x : Nat → Int) (A : Nat → Nat → Int) (i : Nat) : Prop := x 0 = i ∧ (x 1 = A 76 i ∧ 0 ≤ A 76 i ∧ A 76 i ≤ 99) ∧ (x 2 = A 77 i ∧ 0 ≤ A 77 i ∧ A 77 i ≤ 99) ∧ (x 3 = A 78 i ∧ 0 ≤ A 78 i ∧ A 78 i ≤ 2000) ∧ (x 4 = A 79 i % 2 ∧ x 5 = A 79 i / 2 ∧ 0 ≤ A 79 i ∧ A 79 i ≤ 3) ∧ (x 7 = A 80 i ∧ 0 ≤ A 80 i ∧ A 80 i ≤ 9999) ∧ (x 8 = A 115 i ∧ 0 ≤ A 115 i ∧ A 115 i ≤ 16777215) ∧ (x 9 = A 116 i ∧ 0 ≤ A 116 i ∧ A 116 i ≤ 999) ∧ ∀ j, j < 31 → x (af 6 j) = A 154 (31 * i + j) ∧ 0 ≤ A 154 (31 * i + j) ∧ A 154 (31 * i + j) ≤ 999
def Rl1 (n : Nat) (x : Nat → Nat → Int) (A : Nat → Nat → Int) : Prop := A 75 2 = n ∧ n ≤ 12 ∧ (∀ i, i < n → Pl1 (x i) A i) ∧ ∀ i, n ≤ i → i < 12 → A 80 i = 0 ∧ A 115 i = 0 ∧ A 116 i = 0 ∧ ∀ j, j < 31 → A 154 (31 * i + j) = 0
def Pl2 (n1 : Nat) (x : Nat → Int) (A : Nat → Nat → Int) (i : Nat) : Prop := (x 0 = A 81 i ∧ 10 ≤ A 81 i ∧ A 81 i ≤ 60) ∧ (x 1 = A 82 i ∧ 10 ≤ A 82 i ∧ A 82 i ≤ 400) ∧ (x 2 = A 83 i ∧ 1 ≤ A 83 i ∧ A 83 i ≤ 9) ∧ (x 3 = A 84 i ∧ 100 ≤ A 84 i ∧ A 84 i ≤ 2000) ∧ (x 5 = A 85 i ∧ 0 ≤ A 85 i ∧ A 85 i < n1) ∧ (x 6 = A 86 i ∧ 0 ≤ A 86 i ∧ A 86 i ≤ A 82 i) ∧ (x 7 = A 87 i ∧ 0 ≤ A 87 i ∧ A 87 i ≤ 1000000) ∧ (0 ≤ x 4 ∧ x 4 < n1 ∧ 2 ≤ A 79 (x 4).toNat)
def Rl2 (n n1 : Nat) (x : Nat → Nat → Int) (A : Nat → Nat → Int) : Prop := A 75 3 = n ∧ n ≤ 6 ∧ (∀ i, i < n → Pl2 n1 (x i) A i) ∧ ∀ i, n ≤ i → i < 6 → A 87 i = 0
def Pl3 (n1 : Nat) (x : Nat → Int) (A : Nat → Nat → Int) (i : Nat) : Prop := x 0 = i ∧ (x 1 = A 88 i ∧ 0 ≤ A 88 i ∧ A 88 i ≤ 2) ∧ (x 2 = A 89 i ∧ 0 ≤ A 89 i ∧ A 89 i < n1) ∧ (x 3 = A 90 i ∧ 0 ≤ A 90 i ∧ A 90 i < n1) ∧ (x 4 = A 91 i ∧ 0 ≤ A 91 i ∧ A 91 i ≤ 1000000) ∧ ((A 92 i = -1 ∧ x 5 = 0) ∨ (A 92 i = A 91 i ∧ x 5 = 1))
def Rl3 (n n1 : Nat) (x : Nat → Nat → Int) (d : Int) (A : Nat → Nat → Int) : Prop := A 75 4 = n ∧ n ≤ 12 ∧ (∀ i, i < n → Pl3 n1 (x i) A i) ∧ (∀ i, n ≤ i → i < 12 → A 91 i = 0) ∧ ∃ m : Nat, d = m ∧ m < 2 ^ n ∧ ∀ i, i < n → (m.testBit i = true ↔ A 88 i = 1)
/-- the model's code from k on -/
def cdAt (A : Nat → Nat → Int) (k : Int) (l : List Int) : Prop := 0 ≤ k ∧ k + l.length ≤ 22000 ∧ ∀ j, j < l.length → A 106 (k.toNat + j) = l.getD j 0
def Pl4 (x : Nat → Int) (C : Nat → List Int) (A : Nat → Nat → Int) (t : Nat) : Prop := (x 4 = A 95 t ∧ 0 ≤ A 95 t ∧ A 95 t ≤ 2687) ∧ (∀ j, j < 5 → x (af 0 j) = A 96 (5 * t + j) ∧ 0 ≤ A 96 (5 * t + j) ∧ A 96 (5 * t + j) ≤ 99999) ∧ (x 1 = A 98 t ∧ 0 ≤ A 98 t ∧ A 98 t ≤ 30) ∧ (x 2 = A 100 t ∧ 0 ≤ A 100 t ∧ A 100 t ≤ 30) ∧ ((A 97 t = -1 ∧ C 0 = []) ∨ (C 0 ≠ [] ∧ cdAt A (A 97 t) (C 0 ++ [0]))) ∧ (∀ j : Nat, (j : Int) < A 98 t → cdAt A (A 99 (30 * t + j)) (C (1 + j) ++ [0])) ∧ ∀ j : Nat, (j : Int) < A 100 t → x (500 + j) = A 101 (30 * t + j) ∧ (x (600 + j) = if A 102 (30 * t + j) = 2 then -1 else A 102 (30 * t + j)) ∧ (A 102 (30 * t + j) = 0 ∨ A 102 (30 * t + j) = 1 ∨ A 102 (30 * t + j) = 2) ∧ ((A 103 (30 * t + j) = -1 ∧ C (100 + j) = []) ∨ (C (100 + j) ≠ [] ∧ cdAt A (A 103 (30 * t + j)) (C (100 + j) ++ [0])))
def Rl4 (n : Nat) (x : Nat → Nat → Int) (C : Nat → Nat → List Int) (A : Nat → Nat → Int) : Prop := A 75 35 = n ∧ n ≤ 12 ∧ ∀ t, t < n → Pl4 (x t) (C t) A t
/-- a word's letters, five bits each -/
def enc (w : List Int) : Int := w.foldl (fun v c => 32 * v + (c - 96)) 0
def Rl5 (n : Nat) (Wd : Nat → List Int) (A : Nat → Nat → Int) : Prop := A 75 36 = n ∧ n ≤ 16 ∧ (∀ i, i < n → 1 ≤ (Wd i).length ∧ (Wd i).length ≤ 8 ∧ (∀ c ∈ Wd i, 97 ≤ c ∧ c ≤ 122) ∧ A 104 i = enc (Wd i)) ∧ (∀ i j, i < n → j < n → Wd i = Wd j → i = j) ∧
  A 94 0 = enc [119, 111, 114, 100] ∧ A 94 1 = enc [102, 105, 114, 115, 116] ∧ A 94 2 = enc [102, 108, 121] ∧ A 94 3 = enc [99, 104, 101, 115, 116] ∧ A 94 4 = enc [100, 111, 99, 116, 111, 114] ∧ A 94 5 = enc [110, 117, 114, 115, 101] ∧ A 94 6 = enc [97, 110, 121] ∧ A 94 7 = enc [105, 102] ∧ A 94 8 = enc [115, 101, 116] ∧ A 94 9 = enc [97, 110, 100] ∧ A 94 10 = enc [111, 114] ∧ A 94 11 = enc [110, 111, 116] ∧ A 94 12 = enc [114, 101, 115, 116] ∧ A 94 13 = enc [100, 117, 116, 121] ∧ A 94 14 = enc [114, 101, 115, 101, 114, 118, 101] ∧ A 94 15 = enc [103, 114, 111, 117, 110, 100] ∧ A 94 16 = enc [102, 101, 116, 99, 104] ∧ A 94 17 = enc [119, 101, 116] ∧ A 94 18 = enc [115, 116, 114, 105, 112] ∧ A 94 19 = enc [110, 101, 101, 100, 115] ∧ A 94 20 = enc [108, 97, 109, 112, 115] ∧ A 94 21 = enc [110, 105, 103, 104, 116] ∧ A 94 22 = enc [109, 105, 108, 101, 115] ∧ A 94 23 = enc [102, 117, 101, 108] ∧ A 94 24 = enc [102, 108, 111, 119, 110] ∧ A 94 25 = enc [119, 97, 105, 116, 115] ∧ A 94 26 = enc [108, 101, 102, 116]
def Rl6 (n : Nat) (x : Nat → Nat → Int) (A : Nat → Nat → Int) : Prop := A 75 60 = n ∧ n ≤ 150 ∧ ∀ i, i < n → x i 0 = A 111 i ∧ x i 1 = A 112 i ∧ (x i 2 = A 113 i ∧ 0 ≤ A 113 i ∧ A 113 i ≤ 99) ∧ x i 3 = A 114 i
def Rl7 (n : Nat) (x : Nat → Nat → Int) (A : Nat → Nat → Int) : Prop := A 75 76 = n ∧ n ≤ 150 ∧ ∀ i, i < n → x i 0 = A 125 i ∧ x i 1 = 0 ∧ (x i 2 = A 127 i ∧ (A 127 i = 0 ∨ A 127 i = 1)) ∧ x i 3 = A 126 i
def Rl8 (n n1 : Nat) (x : Nat → Nat → Int) (A : Nat → Nat → Int) : Prop := A 75 69 = n ∧ n ≤ 60 ∧ ∀ i, i < n → x i 0 = i ∧ (x i 1 = A 120 i ∧ 0 ≤ A 120 i ∧ A 120 i < 65536) ∧ x i 2 = A 121 i ∧ (x i 3 = A 122 i ∧ -1 ≤ A 122 i ∧ A 122 i ≤ 3360) ∧ (x i 4 = A 119 i ∧ 0 ≤ A 119 i ∧ A 119 i < n1) ∧ (0 ≤ A 122 i → ∃ b : Nat, b < n1 ∧ 2 ≤ A 79 b)
def Pl9 (n1 n2 n3 : Nat) (x : Nat → Int) (A : Nat → Nat → Int) (f : Nat) : Prop := (x 2 = A 130 f ∧ 1 ≤ A 130 f ∧ A 130 f ≤ 7) ∧ (x 0 = A 128 f ∧ 0 ≤ A 128 f ∧ A 128 f < n2) ∧ (x 1 = A 129 f ∧ 0 ≤ A 129 f ∧ A 129 f < n3) ∧ (x 11 = A 131 f ∧ 0 ≤ A 131 f ∧ A 131 f < n1) ∧ ∀ j : Nat, (j : Int) < A 130 f → (x (af 3 j) = A 136 (7 * f + j) ∧ 0 ≤ A 136 (7 * f + j) ∧ A 136 (7 * f + j) < n1) ∧ (x (af 4 j) = A 137 (7 * f + j) ∧ 0 ≤ A 137 (7 * f + j)) ∧ (x (af 5 j) = A 138 (7 * f + j) ∧ A 137 (7 * f + j) ≤ A 138 (7 * f + j) ∧ A 138 (7 * f + j) ≤ 1000000) ∧ (x (af 6 j) = A 139 (7 * f + j) ∧ 0 ≤ A 139 (7 * f + j) ∧ A 139 (7 * f + j) ≤ 400) ∧ x (af 7 j) = A 140 (7 * f + j) ∧ x (af 8 j) = A 141 (7 * f + j) ∧ (x (af 9 j) = A 142 (7 * f + j) ∧ 0 ≤ A 142 (7 * f + j) ∧ A 142 (7 * f + j) < 4096) ∧ ((j : Int) + 1 < A 130 f → A 138 (7 * f + j) ≤ A 137 (7 * f + (j + 1)))
def Rl9 (n n1 n2 n3 : Nat) (x : Nat → Nat → Int) (A : Nat → Nat → Int) : Prop := A 75 80 = n ∧ n ≤ 60 ∧ ∀ f, f < n → Pl9 n1 n2 n3 (x f) A f
def Rl10 (n n1 : Nat) (x : Nat → Nat → Int) (A : Nat → Nat → Int) : Prop := A 75 98 = n ∧ n ≤ 8 ∧ ∀ i, i < n → (x i 0 = A 144 i ∧ 0 ≤ A 144 i ∧ A 144 i < n1) ∧ (x i 1 = A 145 i ∧ 0 ≤ A 145 i ∧ A 145 i ≤ 5) ∧ (x i 2 = A 146 i ∧ 1 ≤ A 146 i ∧ A 146 i ≤ 16)
def Rl11 (n : Nat) (x : Nat → Nat → Int) (A : Nat → Nat → Int) : Prop := A 75 113 = n ∧ n ≤ 12 ∧ ∀ i, i < n → (x i 0 = A 156 i ∧ 0 ≤ A 156 i ∧ A 156 i ≤ 3) ∧ (x i 1 = A 157 i ∧ 0 ≤ A 157 i ∧ A 157 i ≤ 30) ∧ (x i 2 = A 155 i ∧ 0 ≤ A 155 i ∧ A 155 i ≤ 99999)
/-- where a leg begins -/
def frL (A : Nat → Nat → Int) (f j : Nat) : Nat := if j = 0 then (A 131 f).toNat else (A 136 (7 * f + (j - 1))).toNat
/-- whether one is on board of a leg; and behind it -/
def abB (A : Nat → Nat → Int) (f j w : Nat) : Bool := (A 142 (7 * f + j)).toNat.testBit w
def atB (A : Nat → Nat → Int) (f j w : Nat) : Bool := if A 134 f = j ∧ A 135 f = w then true else if A 132 f = j ∧ A 133 f = w then false else abB A f j w
/-- the flights' history: n2 planes, n3 people, n9 flights -/
def Wf (n2 n3 n9 : Nat) (x2 x9 : Nat → Nat → Int) (A : Nat → Nat → Int) : Prop :=
  (∀ f, f < n9 → (∀ g, g < f → A 128 g ≠ A 128 f) → A 131 f = x2 (A 128 f).toNat 4) ∧
  (∀ p : Nat, p < n2 → (∀ f, f < n9 → A 128 f ≠ p) → A 85 p = x2 p 4) ∧
  (∀ f j w : Nat, f < n9 → (j : Int) < A 130 f → w < n3 → abB A f j w = true → (∀ g i : Nat, g < n9 → (i : Int) < A 130 g → (g < f ∨ (g = f ∧ i < j)) → abB A g i w = false) → (frL A f j : Int) = A 89 w) ∧
  (∀ w, w < n3 → (∀ f j : Nat, f < n9 → (j : Int) < A 130 f → abB A f j w = false) → A 90 w = A 89 w) ∧
  (∀ f j : Nat, f < n9 → (j : Int) + 1 < A 130 f → ∀ w, w < 12 → abB A f (j + 1) w = atB A f j w) ∧
  (∀ f, f < n9 → (A 132 f = -1 ∨ (0 ≤ A 132 f ∧ A 132 f < A 130 f ∧ 0 ≤ A 133 f ∧ A 133 f < n3 ∧ abB A f (A 132 f).toNat (A 133 f).toNat = true)) ∧ (A 134 f = -1 ∨ (0 ≤ A 134 f ∧ A 134 f < A 130 f ∧ 0 ≤ A 135 f ∧ A 135 f < n3 ∧ abB A f (A 134 f).toNat (A 135 f).toNat = false))) ∧
  (∀ f j w : Nat, f < n9 → (j : Int) < A 130 f → w < n3 → (abB A f j w = true ∨ atB A f j w = true) → A 138 (7 * f + j) ≤ A 91 w) ∧
  (∀ f j g i w : Nat, f < g → g < n9 → (j : Int) < A 130 f → (i : Int) < A 130 g → w < n3 → (abB A f j w = true ∨ atB A f j w = true) → (abB A g i w = true → A 138 (7 * f + j) ≤ A 137 (7 * g + i)) ∧ (atB A g i w = true → A 138 (7 * f + j) ≤ A 138 (7 * g + i))) ∧
  (∀ f j : Nat, f < n9 → (j : Int) < A 130 f → A 142 (7 * f + j) < (2 ^ n3 : Nat)) ∧
  (∀ f j : Nat, f < n9 → (j : Int) < A 130 f → ∃ m : Nat, x9 f (af 10 j) = m ∧ m < 4096 ∧ ∀ w, w < 12 → m.testBit w = atB A f j w)
def Rel (T : Nat) (N : Nat → Nat) (X : Nat → Nat → Nat → Int) (C : Nat → Nat → List Int) (Wd : Nat → List Int) (A : Nat → Nat → Int) : Prop :=
  Rl0 T (X 0) A ∧ Rl1 (N 1) (X 1) A ∧ Rl2 (N 2) (N 1) (X 2) A ∧ Rl3 (N 3) (N 1) (X 3) (X 0 0 23) A ∧ Rl4 (N 4) (X 4) C A ∧ Rl5 (N 5) Wd A ∧ Rl6 (N 6) (X 6) A ∧ Rl7 (N 7) (X 7) A ∧ Rl8 (N 8) (N 1) (X 8) A ∧ Rl9 (N 9) (N 1) (N 2) (N 3) (X 9) A ∧ Rl10 (N 10) (N 1) (X 10) A ∧ Rl11 (N 11) (X 11) A ∧ Wf (N 2) (N 3) (N 9) (X 2) (X 9) A
def Inv (K : Hp) (T : Nat) (h : Hp) : Prop := ∃ (N : Nat → Nat) (X : Nat → Nat → Nat → Int) (Z : Nat → Nat → Nat) (C : Nat → Nat → List Int) (Wd : Nat → List Int) (A : Nat → Nat → Int), XS K (2000 + 12000 * T) N N X Z C Wd A h ∧ Rel T N X C Wd A
theorem Rl0.up {T : Nat} {x : Nat → Nat → Int} {A : Nat → Nat → Int} (r : Rl0 T x A) : Rl0 (T + 1) x A := by
  obtain ⟨r1, r2, r3, r4, r5, r6, r7⟩ := r
  exact ⟨r1, r2, r3, r4, r5, ⟨r6.1, by omega, by omega⟩, r7⟩
