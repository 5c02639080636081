set_option maxRecDepth 100000
set_option maxHeartbeats 1000000
set_option linter.unusedSimpArgs false
set_option linter.unusedVariables false
/-! SPECS, 9: helpers for the acts -/
section
variable {K : Hp} {D : Nat} {N M : Nat → Nat} {X : Nat → Nat → Nat → Int} {Z : Nat → Nat → Nat} {C : Nat → Nat → List Int} {Wd : Nat → List Int} {A : Nat → Nat → Int} {h : Hp}
theorem uA_uA (A : Nat → Nat → Int) (a i : Nat) (v w : Int) : uA (uA A a i v) a i w = uA A a i w := by
  funext b j
  unfold uA
  split <;> rfl
theorem XS.ex (x : XS K D N M X Z C Wd A h) : ∃ own, XR K own D N M X Z C Wd h := x.1
theorem XS.hb (x : XS K D N M X Z C Wd A h) : 159 ≤ hn h ∧ hn h ≤ D ∧ hq h ≤ 8 * D + 36000 ∧ D ≤ 800000 := by
  obtain ⟨⟨own, x⟩, _⟩ := x
  exact ⟨x.1.1, x.1.2.1, x.1.2.2.1, x.1.2.2.2.1⟩
theorem XS.get (x : XS K D N M X Z C Wd A h) (c : Nat) {i : Int} (h0 : 0 ≤ i) (h1 : i < N c) (c1 : 1 ≤ c := by decide) (c2 : c ≤ 11 := by decide) : vJ2_get (53 + c) i h = Z c i.toNat := by
  obtain ⟨⟨own, x⟩, _⟩ := x
  exact x.get c c1 c2 h0 h1
theorem XS.oget (x : XS K D N M X Z C Wd A h) (c : Nat) {i : Int} (h0 : 0 ≤ i) (h1 : i < N c) (c1 : 1 ≤ c := by decide) (c2 : c ≤ 11 := by decide) : oJ2_get (53 + c) i h := by
  obtain ⟨⟨own, x⟩, _⟩ := x
  exact x.oget c c1 c2 h0 h1
theorem XS.le (x : XS K D N M X Z C Wd A h) (c : Nat) (c1 : 1 ≤ c := by decide) (c2 : c ≤ 11 := by decide) : N c ≤ M c := by
  obtain ⟨⟨own, x⟩, _⟩ := x
  exact x.le c c1 c2
theorem XS.obj (x : XS K D N M X Z C Wd A h) (c i : Nat) (hi : i < M c) (c1 : 1 ≤ c := by decide) (c2 : c ≤ 11 := by decide) : ob h (Z c i) (tgC c) := by
  obtain ⟨⟨own, x⟩, _⟩ := x
  exact x.obj c i c1 c2 hi
theorem XS.int (x : XS K D N M X Z C Wd A h) (c i f : Nat) (hi : i < M c) (c1 : 1 ≤ c := by decide) (c2 : c ≤ 11 := by decide) (hf : f ∈ fI c := by decide) : hI h (Z c i) f = X c i f := by
  obtain ⟨⟨own, x⟩, _⟩ := x
  exact x.int c i f c1 c2 hi hf
theorem XS.ref (x : XS K D N M X Z C Wd A h) (c i f t : Nat) (hi : i < M c) (h0 : 0 ≤ X c i f) (c1 : 1 ≤ c := by decide) (c2 : c ≤ 11 := by decide) (hf : (f, t) ∈ fR c := by decide) : hR h (Z c i) f = Z t (X c i f).toNat ∧ X c i f < M t := by
  obtain ⟨⟨own, x⟩, _⟩ := x
  obtain ⟨y1, y2⟩ := x.ref c i f t c1 c2 hi hf
  refine ⟨?_, y2⟩
  rw [y1]
  unfold rfZ
  rw [if_neg (by omega)]
theorem XS.arr (x : XS K D N M X Z C Wd A h) (c i f n : Nat) (hi : i < M c) (c1 : 1 ≤ c := by decide) (c2 : c ≤ 11 := by decide) (hf : (f, n) ∈ fA c := by decide) : ob h (hR h (Z c i) f) 70 ∧ hN h (hR h (Z c i) f) = n ∧ 50 ≤ hR h (Z c i) f ∧ ∀ j, j < n → hI h (hR h (Z c i) f) j = X c i (af f j) := by
  obtain ⟨⟨own, x⟩, _⟩ := x
  obtain ⟨y1, y2, y3, y4⟩ := x.arr c i f n c1 c2 hi hf
  have := x.big c1 y3
  exact ⟨y1, y2, by omega, y4⟩
theorem XS.par (x : XS K D N M X Z C Wd A h) (c i f n t : Nat) (hi : i < M c) (c1 : 1 ≤ c := by decide) (c2 : c ≤ 11 := by decide) (hf : (f, n, t) ∈ fP c := by decide) : ob h (hR h (Z c i) f) 75 ∧ hN h (hR h (Z c i) f) = n ∧ 50 ≤ hR h (Z c i) f ∧ ∀ j, j < n → hR h (hR h (Z c i) f) j = rfZ Z t (X c i (af f j)) ∧ X c i (af f j) < M t := by
  obtain ⟨⟨own, x⟩, _⟩ := x
  obtain ⟨y1, y2, y3, y4⟩ := x.par c i f n t c1 c2 hi hf
  have := x.big c1 y3
  exact ⟨y1, y2, by omega, y4⟩
theorem XS.big (x : XS K D N M X Z C Wd A h) (c i : Nat) (hi : i < M c) (c1 : 1 ≤ c := by decide) (c2 : c ≤ 11 := by decide) : 159 ≤ Z c i := by
  obtain ⟨⟨own, x⟩, _⟩ := x
  exact x.big c1 (x.ow c i c1 c2 hi)
theorem XS.sc (x : XS K D N M X Z C Wd A h) (f : Nat) (h1 : 20 ≤ f := by decide) (h2 : f ≤ 27 := by decide) : hI h 50 f = X 0 0 f := by
  obtain ⟨⟨own, x⟩, _⟩ := x
  exact x.sc f h1 h2
theorem XS.tape (x : XS K D N M X Z C Wd A h) (j : Nat) (h1 : j < 800) : hI h 65 j = X 0 1 j := by
  obtain ⟨⟨own, x⟩, _⟩ := x
  exact x.2.2.2.1.2.1 j h1
theorem XS.week (x : XS K D N M X Z C Wd A h) (j : Nat) (h1 : j < 8) : hI h 73 j = X 0 2 j := by
  obtain ⟨⟨own, x⟩, _⟩ := x
  exact x.2.2.2.1.2.2 j h1
theorem mA_sI' {h : Hp} {a i : Nat} {v : Int} (h1 : a < 75 ∨ 157 < a) : mA (sI h a i v) = mA h := by
  funext b j
  unfold mA
  by_cases z : b < 75 ∨ 157 < b
  · rw [if_pos z, if_pos z]
  · have e : hI (sI h a i v) b j = hI h b j := by rw [hI_sI, if_neg (by omega)]
    rw [if_neg z, if_neg z, e, hL_sI]
theorem XS.setI (x : XS K D N M X Z C Wd A h) (c i f : Nat) (v : Int) (hi : i < M c) (c1 : 1 ≤ c := by decide) (c2 : c ≤ 11 := by decide) (hf : f ∈ fI c := by decide) (n4 : c ≠ 4 := by decide) (n5 : c ≠ 5 := by decide) : XS K D N M (uX X c i f v) Z C Wd A (sI h (Z c i) f v) := by
  have b := x.big c i hi c1 c2
  obtain ⟨⟨own, x⟩, e⟩ := x
  exact ⟨⟨own, x.setI c i f v c1 c2 hi hf n4 n5⟩, by rw [mA_sI' (by omega)]; exact e⟩
theorem XS.setR (x : XS K D N M X Z C Wd A h) (c i f t : Nat) (v : Int) (hi : i < M c) (h0 : 0 ≤ v) (hv : v < M t) (c1 : 1 ≤ c := by decide) (c2 : c ≤ 11 := by decide) (hf : (f, t) ∈ fR c := by decide) (n4 : c ≠ 4 := by decide) (n5 : c ≠ 5 := by decide) : XS K D N M (uX X c i f v) Z C Wd A (sR h (Z c i) f (Z t v.toNat)) := by
  obtain ⟨⟨own, x⟩, e⟩ := x
  have := x.setR c i f t v c1 c2 hi hf n4 n5 hv
  unfold rfZ at this
  rw [if_neg (by omega)] at this
  exact ⟨⟨own, this⟩, e⟩
theorem XS.setA (x : XS K D N M X Z C Wd A h) (c i f n j : Nat) (v : Int) (hi : i < M c) (hj : j < n) (c1 : 1 ≤ c := by decide) (c2 : c ≤ 11 := by decide) (hf : (f, n) ∈ fA c := by decide) (n4 : c ≠ 4 := by decide) (n5 : c ≠ 5 := by decide) : XS K D N M (uX X c i (af f j) v) Z C Wd A (sI h (hR h (Z c i) f) j v) := by
  obtain ⟨⟨own, x⟩, e⟩ := x
  have b := x.big c1 (x.arr c i f n c1 c2 hi hf).2.2.1
  exact ⟨⟨own, x.setA c i f n j v c1 c2 hi hf n4 n5 hj⟩, by rw [mA_sI' (by omega)]; exact e⟩
theorem XS.setS (x : XS K D N M X Z C Wd A h) (f : Nat) (v : Int) : XS K D N M (uX X 0 0 f v) Z C Wd A (sI h 50 f v) := by
  obtain ⟨⟨own, x⟩, e⟩ := x
  exact ⟨⟨own, x.setS f v⟩, by rw [mA_sI' (by omega)]; exact e⟩
theorem XS.setTape (x : XS K D N M X Z C Wd A h) (j : Nat) (v : Int) : XS K D N M (uX X 0 1 j v) Z C Wd A (sI h 65 j v) := by
  obtain ⟨⟨own, x⟩, e⟩ := x
  exact ⟨⟨own, x.setTape j v⟩, by rw [mA_sI' (by omega)]; exact e⟩
theorem XS.setWeek (x : XS K D N M X Z C Wd A h) (j : Nat) (v : Int) : XS K D N M (uX X 0 2 j v) Z C Wd A (sI h 73 j v) := by
  obtain ⟨⟨own, x⟩, e⟩ := x
  exact ⟨⟨own, x.setWeek j v⟩, by rw [mA_sI' (by omega)]; exact e⟩
theorem XS.tI (x : XS K D N M X Z C Wd A h) {a i : Nat} {v : Int} (h1 : a = 51 ∨ a = 52 ∨ a = 70 ∨ a = 71 ∨ a = 72 := by decide) : XS K D N M X Z C Wd A (sI h a i v) := by
  obtain ⟨⟨own, x⟩, e⟩ := x
  exact ⟨⟨own, x.tI h1⟩, by rw [mA_sI' (by omega)]; exact e⟩
theorem XS.set3 (x : XS K D N M X Z C Wd A h) (v : Int) : XS K D N M X Z C Wd A (sI h 50 3 v) := by
  obtain ⟨⟨own, x⟩, e⟩ := x
  exact ⟨⟨own, x.set3 v⟩, by rw [mA_sI' (by omega)]; exact e⟩
theorem thr_ob {h : Hp} (b : 159 ≤ hn h) (t : Nat) : ob (nw h t 0 6) (hn h) t := ⟨by omega, by rw [hn_nw]; omega, by rw [hT_nw, if_pos rfl]⟩
theorem thr_tg (h : Hp) (t : Nat) : hT (nw h t 0 6) (hn h) = t := by rw [hT_nw, if_pos rfl]
theorem x_found {c : Int} {Q : Rs → Hp → Prop} (x : XS K D N M X Z C Wd A h) (hD : D ≤ 799000) (k1 : c ≠ 0 → Q rN h) (k2 : c = 0 → XS K (D + 2) N M X Z C Wd A (nw h 41 0 6) → ob (nw h 41 0 6) (hn h) 41 → hT (nw h 41 0 6) (hn h) = 41 → Q (rX (hn h)) (nw h 41 0 6)) : mX1_found c h Q := by
  obtain ⟨b1, b2, b3, b4⟩ := x.hb
  unfold mX1_found
  by_cases z : c = 0
  · rw [if_pos (fun w => w z)]
    exact ⟨by omega, by omega, k2 z (x.thr (by omega) (by omega) (by omega)) (thr_ob b1 41) (thr_tg h 41)⟩
  · rw [if_neg (fun w => w z)]
    exact k1 z
theorem x_right {c : Int} {Q : Rs → Hp → Prop} (x : XS K D N M X Z C Wd A h) (hD : D ≤ 799000) (k1 : c ≠ 0 → Q rN h) (k2 : c = 0 → XS K (D + 2) N M X Z C Wd A (nw h 42 0 6) → ob (nw h 42 0 6) (hn h) 42 → hT (nw h 42 0 6) (hn h) = 42 → Q (rX (hn h)) (nw h 42 0 6)) : mX1_right c h Q := by
  obtain ⟨b1, b2, b3, b4⟩ := x.hb
  unfold mX1_right
  by_cases z : c = 0
  · rw [if_pos (fun w => w z)]
    exact ⟨by omega, by omega, k2 z (x.thr (by omega) (by omega) (by omega)) (thr_ob b1 42) (thr_tg h 42)⟩
  · rw [if_neg (fun w => w z)]
    exact k1 z
theorem x_placeAt {p : Int} {Q : Rs → Hp → Prop} (x : XS K D N M X Z C Wd A h) (hD : D ≤ 799000) (k1 : 0 ≤ p → p < N 1 → p.toNat < M 1 → Q (rV (vR (Z 1 p.toNat))) h) (k2 : (p < 0 ∨ N 1 ≤ p) → XS K (D + 2) N M X Z C Wd A (nw h 41 0 6) → ob (nw h 41 0 6) (hn h) 41 → hT (nw h 41 0 6) (hn h) = 41 → Q (rX (hn h)) (nw h 41 0 6)) : mX1_placeAt p h Q := by
  have e : vJ2_size 54 h = N 1 := x.size 1
  have l := x.le 1
  have l2 : N 1 ≤ 200 := by
    obtain ⟨⟨own, y⟩, _⟩ := x
    exact (y.ls 1).2.1
  unfold mX1_placeAt
  refine ⟨x.osize 1, ?_⟩
  rw [e]
  refine ⟨⟨by omega, by omega⟩, ?_⟩
  refine x_found x hD (fun z => ?_) (fun z => ?_)
  · have z := (in_1 _ _ _ _).1 z
    have g : vJ2_get 54 p h = Z 1 p.toNat := x.get 1 z.1 (by omega)
    show oJ2_get 54 p h ∧ ob h (vJ2_get 54 p h) 5 ∧ _
    rw [g]
    exact ⟨x.oget 1 z.1 (by omega), x.obj 1 _ (by omega), k1 z.1 (by omega) (by omega)⟩
  · have z := (in_0 _ _ _ _).1 z
    intro y o t
    exact k2 (by omega) y o t
theorem x_planeAt {p : Int} {Q : Rs → Hp → Prop} (x : XS K D N M X Z C Wd A h) (hD : D ≤ 799000) (k1 : 0 ≤ p → p < N 2 → p.toNat < M 2 → Q (rV (vR (Z 2 p.toNat))) h) (k2 : (p < 0 ∨ N 2 ≤ p) → XS K (D + 2) N M X Z C Wd A (nw h 41 0 6) → ob (nw h 41 0 6) (hn h) 41 → hT (nw h 41 0 6) (hn h) = 41 → Q (rX (hn h)) (nw h 41 0 6)) : mX1_planeAt p h Q := by
  have e : vJ2_size 55 h = N 2 := x.size 2
  have l := x.le 2
  have l2 : N 2 ≤ 200 := by
    obtain ⟨⟨own, y⟩, _⟩ := x
    exact (y.ls 2).2.1
  unfold mX1_planeAt
  refine ⟨x.osize 2, ?_⟩
  rw [e]
  refine ⟨⟨by omega, by omega⟩, ?_⟩
  refine x_found x hD (fun z => ?_) (fun z => ?_)
  · have z := (in_1 _ _ _ _).1 z
    have g : vJ2_get 55 p h = Z 2 p.toNat := x.get 2 z.1 (by omega)
    show oJ2_get 55 p h ∧ ob h (vJ2_get 55 p h) 6 ∧ _
    rw [g]
    exact ⟨x.oget 2 z.1 (by omega), x.obj 2 _ (by omega), k1 z.1 (by omega) (by omega)⟩
  · have z := (in_0 _ _ _ _).1 z
    intro y o t
    exact k2 (by omega) y o t
theorem x_personAt {p : Int} {Q : Rs → Hp → Prop} (x : XS K D N M X Z C Wd A h) (hD : D ≤ 799000) (k1 : 0 ≤ p → p < N 3 → p.toNat < M 3 → Q (rV (vR (Z 3 p.toNat))) h) (k2 : (p < 0 ∨ N 3 ≤ p) → XS K (D + 2) N M X Z C Wd A (nw h 41 0 6) → ob (nw h 41 0 6) (hn h) 41 → hT (nw h 41 0 6) (hn h) = 41 → Q (rX (hn h)) (nw h 41 0 6)) : mX1_personAt p h Q := by
  have e : vJ2_size 56 h = N 3 := x.size 3
  have l := x.le 3
  have l2 : N 3 ≤ 200 := by
    obtain ⟨⟨own, y⟩, _⟩ := x
    exact (y.ls 3).2.1
  unfold mX1_personAt
  refine ⟨x.osize 3, ?_⟩
  rw [e]
  refine ⟨⟨by omega, by omega⟩, ?_⟩
  refine x_found x hD (fun z => ?_) (fun z => ?_)
  · have z := (in_1 _ _ _ _).1 z
    have g : vJ2_get 56 p h = Z 3 p.toNat := x.get 3 z.1 (by omega)
    show oJ2_get 56 p h ∧ ob h (vJ2_get 56 p h) 7 ∧ _
    rw [g]
    exact ⟨x.oget 3 z.1 (by omega), x.obj 3 _ (by omega), k1 z.1 (by omega) (by omega)⟩
  · have z := (in_0 _ _ _ _).1 z
    intro y o t
    exact k2 (by omega) y o t
theorem x_callAt {p : Int} {Q : Rs → Hp → Prop} (x : XS K D N M X Z C Wd A h) (hD : D ≤ 799000) (k1 : 0 ≤ p → p < N 8 → p.toNat < M 8 → Q (rV (vR (Z 8 p.toNat))) h) (k2 : (p < 0 ∨ N 8 ≤ p) → XS K (D + 2) N M X Z C Wd A (nw h 41 0 6) → ob (nw h 41 0 6) (hn h) 41 → hT (nw h 41 0 6) (hn h) = 41 → Q (rX (hn h)) (nw h 41 0 6)) : mX1_callAt p h Q := by
  have e : vJ2_size 61 h = N 8 := x.size 8
  have l := x.le 8
  have l2 : N 8 ≤ 200 := by
    obtain ⟨⟨own, y⟩, _⟩ := x
    exact (y.ls 8).2.1
  unfold mX1_callAt
  refine ⟨x.osize 8, ?_⟩
  rw [e]
  refine ⟨⟨by omega, by omega⟩, ?_⟩
  refine x_found x hD (fun z => ?_) (fun z => ?_)
  · have z := (in_1 _ _ _ _).1 z
    have g : vJ2_get 61 p h = Z 8 p.toNat := x.get 8 z.1 (by omega)
    show oJ2_get 61 p h ∧ ob h (vJ2_get 61 p h) 19 ∧ _
    rw [g]
    exact ⟨x.oget 8 z.1 (by omega), x.obj 8 _ (by omega), k1 z.1 (by omega) (by omega)⟩
  · have z := (in_0 _ _ _ _).1 z
    intro y o t
    exact k2 (by omega) y o t
theorem x_flightAt {p : Int} {Q : Rs → Hp → Prop} (x : XS K D N M X Z C Wd A h) (hD : D ≤ 799000) (k1 : 0 ≤ p → p < N 9 → p.toNat < M 9 → Q (rV (vR (Z 9 p.toNat))) h) (k2 : (p < 0 ∨ N 9 ≤ p) → XS K (D + 2) N M X Z C Wd A (nw h 41 0 6) → ob (nw h 41 0 6) (hn h) 41 → hT (nw h 41 0 6) (hn h) = 41 → Q (rX (hn h)) (nw h 41 0 6)) : mX1_flightAt p h Q := by
  have e : vJ2_size 62 h = N 9 := x.size 9
  have l := x.le 9
  have l2 : N 9 ≤ 200 := by
    obtain ⟨⟨own, y⟩, _⟩ := x
    exact (y.ls 9).2.1
  unfold mX1_flightAt
  refine ⟨x.osize 9, ?_⟩
  rw [e]
  refine ⟨⟨by omega, by omega⟩, ?_⟩
  refine x_found x hD (fun z => ?_) (fun z => ?_)
  · have z := (in_1 _ _ _ _).1 z
    have g : vJ2_get 62 p h = Z 9 p.toNat := x.get 9 z.1 (by omega)
    show oJ2_get 62 p h ∧ ob h (vJ2_get 62 p h) 20 ∧ _
    rw [g]
    exact ⟨x.oget 9 z.1 (by omega), x.obj 9 _ (by omega), k1 z.1 (by omega) (by omega)⟩
  · have z := (in_0 _ _ _ _).1 z
    intro y o t
    exact k2 (by omega) y o t
/-- what the model's test does -/
theorem m_right {c w : Int} {Q : Rs → Hp → Prop} (h0 : hI h 75 0 = 0) (hw : w ≠ 0) (k1 : c ≠ 0 → Q (rV (vI 1)) h) (k2 : c = 0 → Q (rV (vI 0)) (sI h 75 0 w)) : mX4_right c w h Q := by
  unfold mX4_right
  simp only [jn]
  by_cases z : c = 0
  · rw [if_pos ⟨fun y => y h0, fun y => y z⟩]
    rintro g rfl v rfl
    rw [hI_sI, if_pos ⟨rfl, rfl⟩, b2i_f (fun y => y hw)]
    exact k2 z
  · rw [if_neg (fun y => y.2 z)]
    rintro v rfl
    rw [h0, b2i_t (by decide)]
    exact k1 z
theorem m_isPlace {p : Int} {Q : Rs → Hp → Prop} (x : XS K D N M X Z C Wd A h) (k1 : 0 ≤ p → p < A 75 2 → XS K D N M X Z C Wd (uA A 75 0 0) (sI h 75 0 0) → Q (rV (vI 1)) (sI h 75 0 0)) (k2 : (p < 0 ∨ A 75 2 ≤ p) → XS K D N M X Z C Wd (uA A 75 0 1) (sI (sI h 75 0 0) 75 0 1) → Q (rV (vI 0)) (sI (sI h 75 0 0) 75 0 1)) : mX4_isPlace p h Q := by
  unfold mX4_isPlace
  rintro g rfl v rfl
  have x1 : XS K D N M X Z C Wd (uA A 75 0 0) (sI h 75 0 0) := x.mI (by decide) (by decide)
  have x2 : XS K D N M X Z C Wd (uA A 75 0 1) (sI (sI h 75 0 0) 75 0 1) := by
    have := x1.mI (a := 75) (i := 0) (v := 1) (by decide) (by decide)
    rw [uA_uA] at this
    exact this
  have e : hI (sI h 75 0 0) 75 2 = A 75 2 := x.rd 75 2
  rw [e]
  unfold b2i
  refine m_right rfl (by decide) (fun z => ?_) (fun z => ?_)
  · have : 0 ≤ p ∧ p < A 75 2 := by
      split at z
      · omega
      · exact absurd rfl z
    exact ⟨Or.inr rfl, k1 this.1 this.2 x1⟩
  · have : p < 0 ∨ A 75 2 ≤ p := by
      split at z
      · exact absurd z (by decide)
      · omega
    exact ⟨Or.inl rfl, k2 this x2⟩
theorem m_isPlane {p : Int} {Q : Rs → Hp → Prop} (x : XS K D N M X Z C Wd A h) (h0 : A 75 0 = 0) (k1 : 0 ≤ p → p < A 75 3 → Q (rV (vI 1)) h) (k2 : (p < 0 ∨ A 75 3 ≤ p) → XS K D N M X Z C Wd (uA A 75 0 1) (sI h 75 0 1) → Q (rV (vI 0)) (sI h 75 0 1)) : mX4_isPlane p h Q := by
  unfold mX4_isPlane
  rintro v rfl
  rw [x.rd 75 3]
  unfold b2i
  refine m_right (by rw [x.rd 75 0]; exact h0) (by decide) (fun z => ?_) (fun z => ?_)
  · have : 0 ≤ p ∧ p < A 75 3 := by
      split at z
      · omega
      · exact absurd rfl z
    exact ⟨Or.inr rfl, k1 this.1 this.2⟩
  · have : p < 0 ∨ A 75 3 ≤ p := by
      split at z
      · exact absurd z (by decide)
      · omega
    exact ⟨Or.inl rfl, k2 this (x.mI (by decide) (by decide))⟩
end
theorem Rel.thr {T : Nat} {N : Nat → Nat} {X : Nat → Nat → Nat → Int} {C : Nat → Nat → List Int} {Wd : Nat → List Int} {A : Nat → Nat → Int} (r : Rel T N X C Wd A) (k : Int) : Rel (T + 1) N X C Wd (uA A 75 0 k) := by
  obtain ⟨r0, r1, r2, r3, r4, r5, r6, r7, r8, r9, r10, r11, rw⟩ := r
  exact ⟨r0.up, r1, r2, r3, r4, r5, r6, r7, r8, r9, r10, r11, rw⟩
/-- behind x's half of an act that may throw: k is what it threw, v its answer, B what the model's memory is to be -/
def OpT (K : Hp) (T D : Nat) (A : Nat → Nat → Int) (g : Int × Int × (Nat → Nat → Int)) (h : Hp) : Prop := ∃ (N : Nat → Nat) (X : Nat → Nat → Nat → Int) (Z : Nat → Nat → Nat) (C : Nat → Nat → List Int) (Wd : Nat → List Int), XS K D N N X Z C Wd A h ∧ Rel (T + 1) N X C Wd g.2.2 ∧ (g.1 = 0 → hL h 158 0 = g.2.1)
theorem ne10 : (1 : Int) ≠ 0 := by decide
theorem ne20 : (2 : Int) ≠ 0 := by decide
theorem af_eq {f j n : Nat} (h : n < 100) : (af f j = n) = False := eq_false (by unfold af; omega)
theorem af_eq' {f j n : Nat} (h : n < 100) : (n = af f j) = False := eq_false (by unfold af; omega)
theorem kIx_v (E : Nat → Hp → Prop) (k : Int → Hp → Prop) (x : Int) (h : Hp) : kIx E k (rV (vI x)) h = k x h := rfl
theorem kIx_x (E : Nat → Hp → Prop) (k : Int → Hp → Prop) (a : Nat) (h : Hp) : kIx E k (rX a) h = E a h := rfl
