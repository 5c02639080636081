set_option maxRecDepth 100000
set_option maxHeartbeats 1000000
set_option linter.unusedSimpArgs false
set_option linter.unusedVariables false
/-! SPECS, 28: ways to draw -/
def chs : Nat → Nat → Nat
  | _, 0 => 1
  | 0, _ + 1 => 0
  | n + 1, k + 1 => chs n k + chs n (k + 1)
def prw : Nat → List Nat
  | 0 => [1]
  | n + 1 => List.zipWith (· + ·) (0 :: prw n) (prw n ++ [0])
theorem chs_0 (n : Nat) : chs n 0 = 1 := by cases n <;> rfl
theorem chs_gt : ∀ n k, n < k → chs n k = 0
  | 0, 0, h => absurd h (Nat.lt_irrefl _)
  | 0, k + 1, _ => rfl
  | n + 1, 0, h => absurd h (Nat.not_lt_zero _)
  | n + 1, k + 1, h => by
    show chs n k + chs n (k + 1) = 0
    rw [chs_gt n k (by omega), chs_gt n (k + 1) (by omega)]
theorem prw_len : ∀ n, (prw n).length = n + 1
  | 0 => rfl
  | n + 1 => by
    show (List.zipWith (· + ·) (0 :: prw n) (prw n ++ [0])).length = n + 1 + 1
    simp [List.length_zipWith, prw_len n]
theorem prw_get : ∀ n k, (prw n).getD k 0 = chs n k
  | 0, 0 => rfl
  | 0, k + 1 => rfl
  | n + 1, k => by
    have hl := prw_len n
    by_cases hk : k < n + 2
    · have e : (prw (n + 1)).getD k 0 = (0 :: prw n).getD k 0 + (prw n ++ [0]).getD k 0 := by
        show (List.zipWith (· + ·) (0 :: prw n) (prw n ++ [0])).getD k 0 = _
        have h1 : k < (0 :: prw n).length := by simp only [List.length_cons]; omega
        have h2 : k < (prw n ++ [0]).length := by rw [List.length_append, hl]; simp only [List.length_cons, List.length_nil]; omega
        rw [List.getD_eq_getElem?_getD, List.getElem?_zipWith, List.getElem?_eq_getElem h1, List.getElem?_eq_getElem h2, List.getD_eq_getElem?_getD, List.getElem?_eq_getElem h1, List.getD_eq_getElem?_getD, List.getElem?_eq_getElem h2]
        rfl
      rw [e]
      have e2 : (prw n ++ [0]).getD k 0 = chs n k := by
        rw [getD_snoc _ _ _ (by omega)]
        by_cases z : k = (prw n).length
        · rw [if_pos z, chs_gt n k (by omega)]
        · rw [if_neg z]
          exact prw_get n k
      rw [e2]
      cases k with
      | zero =>
        rw [chs_0, chs_0]
        rfl
      | succ k =>
        show (prw n).getD k 0 + chs n (k + 1) = chs n k + chs n (k + 1)
        rw [prw_get n k]
    · have : (prw (n + 1)).length ≤ k := by rw [prw_len]; omega
      rw [chs_gt (n + 1) k (by omega), List.getD_eq_getElem?_getD, List.getElem?_eq_none this]
      rfl
theorem chs_le (n k : Nat) (h : n ≤ 60) : chs n k ≤ 118264581564861424 := by
  have : ∀ n, n < 61 → ∀ v ∈ prw n, v ≤ 118264581564861424 := by decide +kernel
  rw [← prw_get]
  by_cases z : k < (prw n).length
  · rw [List.getD_eq_getElem?_getD, List.getElem?_eq_getElem z]
    exact this n (by omega) _ (List.getElem_mem z)
  · rw [List.getD_eq_getElem?_getD, List.getElem?_eq_none (by omega)]
    exact Nat.zero_le _
theorem chs_self : ∀ n, chs n n = 1
  | 0 => rfl
  | n + 1 => by
    show chs n n + chs n (n + 1) = 1
    rw [chs_self n, chs_gt n (n + 1) (by omega)]
/-- (k + 1) C(n, k + 1) = (n - k) C(n, k) -/
theorem chs_up : ∀ n k, (k + 1) * chs n (k + 1) = (n - k) * chs n k
  | 0, 0 => rfl
  | 0, k + 1 => by
    rw [show chs 0 (k + 1 + 1) = 0 from rfl, show chs 0 (k + 1) = 0 from rfl]
    rfl
  | n + 1, 0 => by
    have i := chs_up n 0
    show (0 + 1) * (chs n 0 + chs n (0 + 1)) = (n + 1 - 0) * 1
    rw [chs_0] at i ⊢
    omega
  | n + 1, k + 1 => by
    have i1 := chs_up n k
    have i2 := chs_up n (k + 1)
    show (k + 1 + 1) * (chs n (k + 1) + chs n (k + 1 + 1)) = (n + 1 - (k + 1)) * (chs n k + chs n (k + 1))
    by_cases h : k < n
    · obtain ⟨d, rfl⟩ : ∃ d, n = k + 1 + d := ⟨n - k - 1, by omega⟩
      rw [show k + 1 + d - k = d + 1 by omega] at i1
      rw [show k + 1 + d - (k + 1) = d by omega] at i2
      rw [show k + 1 + d + 1 - (k + 1) = d + 1 by omega, Nat.mul_add, Nat.mul_add, i2, ← i1]
      have : (k + 1 + 1) * chs (k + 1 + d) (k + 1) = (k + 1) * chs (k + 1 + d) (k + 1) + chs (k + 1 + d) (k + 1) := by rw [Nat.add_mul, Nat.one_mul]
      have h2 : (d + 1) * chs (k + 1 + d) (k + 1) = d * chs (k + 1 + d) (k + 1) + chs (k + 1 + d) (k + 1) := by rw [Nat.add_mul, Nat.one_mul]
      omega
    · rw [chs_gt n (k + 1) (by omega), chs_gt n (k + 1 + 1) (by omega), show n + 1 - (k + 1) = 0 ∨ n = k by omega |> fun h => (rfl : n + 1 - (k + 1) = n + 1 - (k + 1))]
      have : n + 1 - (k + 1) = 0 := by omega
      rw [this]
      simp
theorem chs_sym : ∀ n k, k ≤ n → chs n k = chs n (n - k)
  | n, 0, _ => by rw [chs_0, Nat.sub_zero, chs_self]
  | 0, k + 1, h => absurd h (by omega)
  | n + 1, k + 1, h => by
    by_cases z : k = n
    · subst z
      rw [chs_self, Nat.sub_self, chs_0]
    · have a := chs_sym n k (by omega)
      have b := chs_sym n (k + 1) (by omega)
      show chs n k + chs n (k + 1) = chs (n + 1) (n + 1 - (k + 1))
      rw [a, b, show n + 1 - (k + 1) = (n - (k + 1)) + 1 by omega]
      show _ = chs n (n - (k + 1)) + chs n (n - (k + 1) + 1)
      rw [show n - (k + 1) + 1 = n - k by omega]
      omega
/-- Σ over i < x of C(g, i) C(m, s - i) -/
def vnd (g m s : Nat) : Nat → Nat
  | 0 => 0
  | x + 1 => vnd g m s x + (if x ≤ s then chs g x * chs m (s - x) else 0)
theorem vnd_0 (m s : Nat) : ∀ x, vnd 0 m s (x + 1) = chs m s
  | 0 => by
    show 0 + (if 0 ≤ s then chs 0 0 * chs m (s - 0) else 0) = chs m s
    rw [if_pos (Nat.zero_le _), Nat.sub_zero, chs_0]
    omega
  | x + 1 => by
    show vnd 0 m s (x + 1) + (if x + 1 ≤ s then chs 0 (x + 1) * chs m (s - (x + 1)) else 0) = chs m s
    rw [vnd_0 m s x, chs_gt 0 (x + 1) (by omega)]
    simp
theorem vnd_s (g m s : Nat) : ∀ x, vnd (g + 1) m (s + 1) (x + 1) = vnd g m (s + 1) (x + 1) + vnd g m s x
  | 0 => by
    show 0 + (if 0 ≤ s + 1 then chs (g + 1) 0 * chs m (s + 1 - 0) else 0) = 0 + (if 0 ≤ s + 1 then chs g 0 * chs m (s + 1 - 0) else 0) + 0
    rw [chs_0, chs_0]
    rfl
  | x + 1 => by
    have i := vnd_s g m s x
    show vnd (g + 1) m (s + 1) (x + 1) + (if x + 1 ≤ s + 1 then chs (g + 1) (x + 1) * chs m (s + 1 - (x + 1)) else 0) = vnd g m (s + 1) (x + 1) + (if x + 1 ≤ s + 1 then chs g (x + 1) * chs m (s + 1 - (x + 1)) else 0) + (vnd g m s x + (if x ≤ s then chs g x * chs m (s - x) else 0))
    rw [i]
    by_cases h : x ≤ s
    · rw [if_pos (by omega), if_pos (by omega), if_pos h, show s + 1 - (x + 1) = s - x by omega]
      show _ + (chs g x + chs g (x + 1)) * chs m (s - x) = _
      rw [Nat.add_mul]
      omega
    · rw [if_neg (by omega), if_neg (by omega), if_neg h]
      omega
theorem vnd_le : ∀ (g m s x : Nat), vnd g m s x ≤ chs (g + m) s
  | g, m, s, 0 => Nat.zero_le _
  | 0, m, s, x + 1 => by
    rw [vnd_0, Nat.zero_add]
    exact Nat.le_refl _
  | g + 1, m, 0, x + 1 => by
    have : ∀ x, vnd (g + 1) m 0 (x + 1) = 1 := by
      intro x
      induction x with
      | zero =>
        show 0 + (if 0 ≤ 0 then chs (g + 1) 0 * chs m (0 - 0) else 0) = 1
        rw [if_pos (Nat.le_refl _), chs_0, Nat.sub_zero, chs_0]
      | succ x ih =>
        show vnd (g + 1) m 0 (x + 1) + (if x + 1 ≤ 0 then _ else 0) = 1
        rw [ih, if_neg (by omega)]
    rw [this, chs_0]
    exact Nat.le_refl _
  | g + 1, m, s + 1, x + 1 => by
    have a := vnd_le g m (s + 1) (x + 1)
    have b := vnd_le g m s x
    rw [vnd_s, show g + 1 + m = (g + m) + 1 by omega]
    show _ ≤ chs (g + m) s + chs (g + m) (s + 1)
    omega
def wysF (n k : Int) : Int := if k < 0 ∨ n < k then 0 else (chs n.toNat k.toNat : Nat)
theorem chs_pos : ∀ n k, k ≤ n → 0 < chs n k
  | n, 0, _ => by rw [chs_0]; decide
  | 0, k + 1, h => absurd h (by omega)
  | n + 1, k + 1, h => by
    have := chs_pos n k (by omega)
    show 0 < chs n k + chs n (k + 1)
    omega
theorem div_eq {a b c : Nat} (hc : 0 < c) (h : c * b = a) : Int.tdiv (a : Int) (c : Int) = (b : Int) := by
  rw [Int.tdiv_eq_ediv_of_nonneg (by omega), ← h]
  rw [Int.natCast_mul, Int.mul_ediv_cancel_left _ (by omega)]
theorem x_ways {n k : Int} {h : Hp} {Q : Rs → Hp → Prop} (h1 : 0 ≤ n) (h2 : n ≤ 60) (h3 : -1000 ≤ k) (h4 : k ≤ 1000) (kk : Q (rV (vL (wysF n k))) h) : mX1_ways n k h Q := by
  unfold mX1_ways
  unfold wysF at kk
  by_cases c : k < 0 ∨ n < k
  · rw [if_pos c] at kk
    rw [if_pos (by omega)]
    exact kk
  rw [if_neg c] at kk
  rw [if_neg (by omega)]
  obtain ⟨n, rfl⟩ : ∃ m : Nat, n = m := ⟨n.toNat, by omega⟩
  obtain ⟨k, rfl⟩ : ∃ m : Nat, k = m := ⟨k.toNat, by omega⟩
  rw [Int.toNat_natCast, Int.toNat_natCast] at kk
  obtain ⟨m, hm, hm2⟩ : ∃ m : Nat, vJ4_min (k : Int) ((n : Int) - (k : Int)) h = m ∧ (m = k ∨ m = n - k) ∧ m ≤ k ∧ m ≤ n - k := by
    unfold vJ4_min
    by_cases z : k ≤ n - k
    · exact ⟨k, by rw [if_pos (by omega)], Or.inl rfl, by omega, by omega⟩
    · exact ⟨n - k, by rw [if_neg (by omega)]; omega, Or.inr rfl, by omega, by omega⟩
  rw [hm]
  have hc : chs n k = chs n m := by
    rcases hm2.1 with e | e
    · rw [e]
    · rw [e]
      exact chs_sym n k (by omega)
  rw [hc] at kk
  refine wh2_of (fun (v : Int) (i : Int) => ∃ j : Nat, i = (j : Int) + 1 ∧ j ≤ m ∧ v = (chs n j : Nat)) (fun _ i => (m + 1 - i).toNat) ?_ ⟨0, rfl, by omega, by rw [chs_0]; rfl⟩
  rintro R v i ⟨j, rfl, hj, rfl⟩ k2
  refine ⟨⟨by omega, by omega⟩, ?_⟩
  by_cases z : j < m
  · rw [if_pos (by omega)]
    have up := chs_up n j
    have b := chs_le n (j + 1) (by omega)
    have ev : ((chs n j : Nat) : Int) * ((n : Int) - ((j : Int) + 1) + 1) = ((chs n j * (n - j) : Nat) : Int) := by
      rw [Int.natCast_mul]
      congr 1
      omega
    have eu : chs n j * (n - j) = (j + 1) * chs n (j + 1) := by rw [up, Nat.mul_comm]
    have bu : (j + 1) * chs n (j + 1) ≤ 60 * 118264581564861424 := Nat.mul_le_mul (by omega) b
    rw [ev]
    refine ⟨⟨by omega, by omega⟩, ⟨by omega, by omega⟩, ⟨by omega, by omega⟩, by omega, ?_⟩
    rintro v rfl
    refine ⟨⟨by omega, by omega⟩, ?_⟩
    rintro i rfl
    have ed : Int.tdiv ((chs n j * (n - j) : Nat) : Int) ((j : Int) + 1) = (chs n (j + 1) : Nat) := div_eq (c := j + 1) (by omega) eu.symm
    rw [ed]
    exact k2 _ _ ⟨j + 1, rfl, z, rfl⟩ (by omega)
  · rw [if_neg (by omega)]
    have : j = m := by omega
    rw [this]
    exact kk
theorem m_ways {n k : Int} {h : Hp} {Q : Rs → Hp → Prop} (h1 : 0 ≤ n) (h2 : n ≤ 60) (kk : Q (rV (vL (wysF n k))) h) : mX4_ways n k h Q := by
  unfold mX4_ways
  unfold wysF at kk
  by_cases c : k < 0 ∨ n < k
  · rw [if_pos c] at kk
    rw [if_pos (by omega)]
    exact kk
  rw [if_neg c] at kk
  rw [if_neg (by omega)]
  obtain ⟨n, rfl⟩ : ∃ m : Nat, n = m := ⟨n.toNat, by omega⟩
  obtain ⟨k, rfl⟩ : ∃ m : Nat, k = m := ⟨k.toNat, by omega⟩
  rw [Int.toNat_natCast, Int.toNat_natCast] at kk
  obtain ⟨d, rfl⟩ : ∃ d, n = d + k := ⟨n - k, by omega⟩
  refine wh2_of (fun (v : Int) (i : Int) => ∃ j : Nat, i = (j : Int) + 1 ∧ j ≤ k ∧ v = (chs (d + j) j : Nat)) (fun _ i => (k + 1 - i).toNat) ?_ ⟨0, rfl, by omega, by rw [chs_0]; rfl⟩
  rintro R v i ⟨j, rfl, hj, rfl⟩ k2
  by_cases z : j < k
  · rw [if_pos (by omega)]
    have up := chs_up (d + j) j
    have b := chs_le (d + (j + 1)) (j + 1) (by omega)
    have ev : ((chs (d + j) j : Nat) : Int) * (((d + k : Nat) : Int) - (k : Int) + ((j : Int) + 1)) = ((chs (d + j) j * (d + j + 1) : Nat) : Int) := by
      rw [Int.natCast_mul]
      congr 1
      omega
    have eu : chs (d + j) j * (d + j + 1) = (j + 1) * chs (d + (j + 1)) (j + 1) := by
      show _ = (j + 1) * (chs (d + j) j + chs (d + j) (j + 1))
      have t1 : (j + 1) * (chs (d + j) j + chs (d + j) (j + 1)) = (j + 1) * chs (d + j) j + (j + 1) * chs (d + j) (j + 1) := Nat.mul_add _ _ _
      rw [t1, up, show d + j - j = d by omega, ← Nat.add_mul, Nat.mul_comm]
      congr 1
      omega
    have bu : (j + 1) * chs (d + (j + 1)) (j + 1) ≤ 60 * 118264581564861424 := Nat.mul_le_mul (by omega) b
    rw [ev]
    refine ⟨⟨by omega, by omega⟩, ⟨by omega, by omega⟩, ⟨by omega, by omega⟩, by omega, ?_⟩
    rintro v rfl
    refine ⟨⟨by omega, by omega⟩, ?_⟩
    rintro i rfl
    have ed : Int.tdiv ((chs (d + j) j * (d + j + 1) : Nat) : Int) ((j : Int) + 1) = (chs (d + (j + 1)) (j + 1) : Nat) := div_eq (c := j + 1) (by omega) eu.symm
    rw [ed]
    exact k2 _ _ ⟨j + 1, rfl, z, rfl⟩ (by omega)
  · rw [if_neg (by omega)]
    have : j = k := by omega
    rw [this]
    exact kk
/-- the last find of a call told by a time -/
def lsF (A : Nat → Nat → Int) (c k : Int) : Nat → Int
  | 0 => -1
  | n + 1 => if A 125 n = c ∧ A 126 n ≤ k then n else lsF A c k n
theorem ls_rng (A : Nat → Nat → Int) (c k : Int) : ∀ n, -1 ≤ lsF A c k n ∧ lsF A c k n < n
  | 0 => ⟨by show (-1 : Int) ≤ -1; decide, by show (-1 : Int) < 0; decide⟩
  | n + 1 => by
    have := ls_rng A c k n
    show -1 ≤ (if A 125 n = c ∧ A 126 n ≤ k then (n : Int) else lsF A c k n) ∧ (if A 125 n = c ∧ A 126 n ≤ k then (n : Int) else lsF A c k n) < (n + 1 : Nat)
    split <;> omega
def lsN (A : Nat → Nat → Int) (c k : Int) : Int := lsF A c k (A 75 76).toNat
/-- numbers of calls found, grave, said, both -/
def mc (A : Nat → Nat → Int) (w k : Int) : Nat → Int × Int × Int × Int
  | 0 => (0, 0, 0, 0)
  | c + 1 => if lsN A c k = -1 then mc A w k c else ((mc A w k c).1 + 1, (mc A w k c).2.1 + A 127 (lsN A c k).toNat, (mc A w k c).2.2.1 + iand (ishr (A 120 c) w) 1, (mc A w k c).2.2.2 + A 127 (lsN A c k).toNat * iand (ishr (A 120 c) w) 1)
def smV (n g s : Int) : Nat → Int
  | 0 => 0
  | x + 1 => smV n g s x + wysF g x * wysF (n - g) (s - x)
def dgF (all : Int) : Nat → Int × Int → Int × Int
  | 0, p => p
  | d + 1, p => dgF all d (p.1 * 10 + (p.2 * 10) / all, (p.2 * 10) % all)
def misF (A : Nat → Nat → Int) (w k : Int) : Int := if (mc A w k (A 75 69).toNat).1 = 0 then -1 else (if smV (mc A w k (A 75 69).toNat).1 (mc A w k (A 75 69).toNat).2.1 (mc A w k (A 75 69).toNat).2.2.1 ((mc A w k (A 75 69).toNat).2.2.2.toNat + 1) = wysF (mc A w k (A 75 69).toNat).1 (mc A w k (A 75 69).toNat).2.2.1 then 1000000 else (dgF (wysF (mc A w k (A 75 69).toNat).1 (mc A w k (A 75 69).toNat).2.2.1) 6 (0, smV (mc A w k (A 75 69).toNat).1 (mc A w k (A 75 69).toNat).2.1 (mc A w k (A 75 69).toNat).2.2.1 ((mc A w k (A 75 69).toNat).2.2.2.toNat + 1))).1)
def gMis (A : Nat → Nat → Int) (p1 p2 : Int) : Int × Int × (Nat → Nat → Int) := if p1 < 0 ∨ A 75 36 ≤ p1 then (1, 0, uA A 75 0 1) else if p2 < 0 ∨ A 75 1 < p2 then (2, 0, uA A 75 0 2) else (0, misF A p1 p2, uA A 75 0 0)
theorem mc_rng {A : Nat → Nat → Int} {n7 : Nat} {x7 : Nat → Nat → Int} (r7 : Rl7 n7 x7 A) (w k : Int) : ∀ c, 0 ≤ (mc A w k c).1 ∧ (mc A w k c).1 ≤ c ∧ 0 ≤ (mc A w k c).2.1 ∧ (mc A w k c).2.1 ≤ (mc A w k c).1 ∧ 0 ≤ (mc A w k c).2.2.1 ∧ (mc A w k c).2.2.1 ≤ (mc A w k c).1 ∧ 0 ≤ (mc A w k c).2.2.2 ∧ (mc A w k c).2.2.2 ≤ (mc A w k c).2.1 ∧ (mc A w k c).2.2.2 ≤ (mc A w k c).2.2.1 := by
  intro c
  induction c with
  | zero =>
    rw [show mc A w k 0 = (0, 0, 0, 0) from rfl]
    decide
  | succ c ih =>
    have e : mc A w k (c + 1) = if lsN A c k = -1 then mc A w k c else ((mc A w k c).1 + 1, (mc A w k c).2.1 + A 127 (lsN A c k).toNat, (mc A w k c).2.2.1 + iand (ishr (A 120 c) w) 1, (mc A w k c).2.2.2 + A 127 (lsN A c k).toNat * iand (ishr (A 120 c) w) 1) := rfl
    rw [e]
    by_cases z : lsN A c k = -1
    · rw [if_pos z]
      omega
    · rw [if_neg z]
      have b : iand (ishr (A 120 c) w) 1 = 0 ∨ iand (ishr (A 120 c) w) 1 = 1 := by
        rw [iand_1]
        omega
      have l := ls_rng A c k (A 75 76).toNat
      have l0 : -1 ≤ lsN A c k := l.1
      have l1 : lsN A c k < (A 75 76).toNat := l.2
      have q := (r7.2.2 (lsN A c k).toNat (by have := r7.1; omega)).2.2.1.2
      simp only
      rcases b with b | b <;> rcases q with q | q <;> rw [b, q] <;> omega
theorem wys_nn (n k : Int) : 0 ≤ wysF n k := by
  unfold wysF
  split
  · decide
  · omega
theorem smV_vnd {n g s : Int} (hg0 : 0 ≤ g) (hg : g ≤ n) (hs0 : 0 ≤ s) (hs : s ≤ n) : ∀ x : Nat, (x : Int) ≤ s + 1 → (x : Int) ≤ g + 1 → smV n g s x = (vnd g.toNat (n - g).toNat s.toNat x : Nat)
  | 0, _, _ => rfl
  | x + 1, h1, h2 => by
    show smV n g s x + wysF g x * wysF (n - g) (s - x) = ((vnd g.toNat (n - g).toNat s.toNat x + (if x ≤ s.toNat then chs g.toNat x * chs (n - g).toNat (s.toNat - x) else 0) : Nat) : Int)
    rw [smV_vnd hg0 hg hs0 hs x (by omega) (by omega), if_pos (by omega)]
    unfold wysF
    rw [if_neg (by omega), Int.toNat_natCast]
    by_cases z : s - x < 0 ∨ n - g < s - x
    · rw [if_pos z, chs_gt (n - g).toNat (s.toNat - x) (by omega)]
      omega
    · rw [if_neg z, show (s - (x : Int)).toNat = s.toNat - x by omega, Int.natCast_add, Int.natCast_mul]
theorem dg_rng {all : Int} (ha : 0 < all) : ∀ d (p : Int × Int), 0 ≤ p.1 → 0 ≤ p.2 → p.2 < all → 0 ≤ (dgF all d p).1 ∧ (dgF all d p).1 < (p.1 + 1) * 10 ^ d
  | 0, p, h1, _, _ => ⟨h1, by show p.1 < (p.1 + 1) * 1; omega⟩
  | d + 1, p, h1, h2, h3 => by
    have q0 : 0 ≤ p.2 * 10 / all := Int.ediv_nonneg (by omega) (by omega)
    have q1 : p.2 * 10 / all < 10 := Int.ediv_lt_of_lt_mul ha (by omega)
    have i := dg_rng ha d (p.1 * 10 + (p.2 * 10) / all, (p.2 * 10) % all) (by show 0 ≤ p.1 * 10 + _; omega) (Int.emod_nonneg _ (by omega)) (Int.emod_lt_of_pos _ ha)
    refine ⟨i.1, Int.lt_of_lt_of_le i.2 ?_⟩
    show (p.1 * 10 + p.2 * 10 / all + 1) * 10 ^ d ≤ (p.1 + 1) * 10 ^ (d + 1)
    rw [Int.pow_succ, Int.mul_comm (10 ^ d : Int) 10, ← Int.mul_assoc]
    exact Int.mul_le_mul_of_nonneg_right (by omega) (Int.pow_nonneg (by decide))
theorem dg_one {all : Int} : ∀ d (c : Int), dgF all d (c, 0) = (c * 10 ^ d, 0)
  | 0, c => by
    show (c, (0 : Int)) = (c * 1, 0)
    rw [Int.mul_one]
  | d + 1, c => by
    show dgF all d (c * 10 + (0 * 10) / all, (0 * 10) % all) = (c * 10 ^ (d + 1), 0)
    rw [show (0 : Int) * 10 = 0 from rfl, Int.zero_ediv, Int.zero_emod, Int.add_zero, dg_one d, Int.pow_succ, Int.mul_assoc, Int.mul_comm (10 : Int) (10 ^ d)]
theorem l2i_val {a : Int} (h0 : 0 ≤ a) (h1 : a ≤ 2147483647) : l2i a = a := by
  unfold l2i
  rw [Int64.toInt_toInt32, Int64.toInt_ofInt_of_le (by omega) (by omega)]
  exact Int.bmod_eq_of_le (by omega) (by omega)
section
variable {K : Hp} {D : Nat} {N M : Nat → Nat} {X : Nat → Nat → Nat → Int} {Z : Nat → Nat → Nat} {C : Nat → Nat → List Int} {Wd : Nat → List Int} {A : Nat → Nat → Int} {h : Hp}
theorem x_latest7 {c t : Int} {Q : Rs → Hp → Prop} (x : XS K D N M X Z C Wd A h) (r : Rl7 (N 7) (X 7) A) (k : Q (rV (vI (if lsN A c t = -1 then -1 else A 127 (lsN A c t).toNat))) h) : mX1_latest 60 c 0 t h Q := by
  unfold mX1_latest
  unfold lsN at k
  obtain ⟨r1, r2, r3⟩ := r
  have e : vJ2_size 60 h = N 7 := x.size 7
  have l := x.le 7
  have o : ob h 60 32 := x.osize 7
  rw [e]
  rw [r1, Int.toNat_natCast] at k
  refine fp2 (N 7) (fun n => if lsF A c t n = -1 then -1 else A 127 (lsF A c t n).toNat) (fun R i hi hR => ?_) (fun R => ?_)
  · refine ⟨x.osize 7, o, ?_⟩
    rw [if_pos (by omega)]
    have g : vJ2_get 60 (i : Int) h = Z 7 i := x.get 7 (by omega) (by omega)
    rw [g]
    refine ⟨x.oget 7 (by omega) (by omega), x.obj 7 i (by omega), ?_⟩
    rintro r0 rfl
    refine ⟨x.obj 7 i (by omega), ?_⟩
    obtain ⟨y1, y2, y3, y4⟩ := r3 i hi
    rw [x.int 7 i 0 (by omega), x.int 7 i 1 (by omega), x.int 7 i 2 (by omega), x.int 7 i 3 (by omega), y1, y2, y3.1, y4]
    rintro v rfl
    refine ⟨⟨by omega, by omega⟩, ?_⟩
    rintro j rfl
    have hR : R (if (if A 125 i = c ∧ A 126 i ≤ t then (i : Int) else lsF A c t i) = -1 then -1 else A 127 (if A 125 i = c ∧ A 126 i ≤ t then (i : Int) else lsF A c t i).toNat) ((i : Int) + 1) := hR
    by_cases d : A 125 i = c ∧ A 126 i ≤ t
    · rw [if_pos d, Int.toNat_natCast] at hR
      have hni : ¬ ((i : Int) = -1) := by omega
      rw [if_neg hni] at hR
      rw [if_pos ⟨fun z => z d.1, fun z => z rfl, by omega⟩]
      exact hR
    · rw [if_neg d] at hR
      rw [if_neg (fun z => d ⟨Classical.byContradiction z.1, by have := z.2.2; omega⟩)]
      exact hR
  · refine ⟨x.osize 7, o, ?_⟩
    rw [if_neg (by omega)]
    exact k
theorem bits01 (a w : Int) : iand (ishr a w) 1 = 0 ∨ iand (ishr a w) 1 = 1 := by
  rw [iand_1]
  omega
theorem x_misleads {T : Nat} {Q : Rs → Hp → Prop} (x : XS K D N N X Z C Wd A h) (r : Rel T N X C Wd A) (hD : D ≤ 780000) {p1 p2 : Int} (k : ∀ h', OpT K T (D + 12000) A (gMis A p1 p2) h' → Q (rV (vI (gMis A p1 p2).1)) h') : mX0_misleads p1 p2 h Q := by
  obtain ⟨r0, r1, r2, r3, r4, r5, r6, r7, r8, r9, r10, r11, rw0⟩ := id r
  have now := r0.1
  have n5 := r5.2.1
  have s5 := r5.1
  have n60 := r8.2.1
  have e5 : vJ2_size 58 h = N 5 := x.size 5
  have en0 : hI h 50 20 = A 75 1 := (x.sc 20).trans now.1
  unfold mX0_misleads mX1_misleads
  unfold gMis at k
  rw [e5]
  refine ⟨x.osize 5, ⟨by omega, by omega⟩, ?_⟩
  refine x_found x (by omega) (fun z => ?_) (fun z y o t => ?_)
  · have z := (in_1 _ _ _ _).1 z
    rw [if_neg (by omega)] at k
    rw [kN_v, en0]
    refine x_right x (by omega) (fun z2 => ?_) (fun z2 y o t => ?_)
    · have z2 := (in_1 _ _ _ _).1 z2
      rw [if_neg (by omega)] at k
      rw [kN_v]
      unfold misF at k
      rw [r8.1, Int.toNat_natCast] at k
      have e8 : vJ2_size 61 h = N 8 := x.size 8
      have done : ∀ v, OpT K T (D + 12000) A (0, v, uA A 75 0 0) (sL h 158 0 v) := fun v => ⟨N, X, Z, C, Wd, (x.out).more (by omega) (by omega), r.thr 0, fun _ => (by rw [hL_sL, if_pos ⟨rfl, rfl⟩]; try rfl)⟩
      refine wh6_of (fun (n g s b : Int) (i : Int) g0 => g0 = h ∧ ∃ c : Nat, i = c ∧ c ≤ N 8 ∧ n = (mc A p1 p2 c).1 ∧ g = (mc A p1 p2 c).2.1 ∧ s = (mc A p1 p2 c).2.2.1 ∧ b = (mc A p1 p2 c).2.2.2) (fun _ _ _ _ i _ => (N 8 - i).toNat) ?_ ⟨rfl, 0, rfl, by omega, rfl, rfl, rfl, rfl⟩
      rintro R n g s b i g0 ⟨rfl, c, rfl, hc, rfl, rfl, rfl, rfl⟩ kk
      rw [e8]
      refine ⟨x.osize 8, ?_⟩
      have mr := mc_rng r7 p1 p2 c
      by_cases cc : c < N 8
      · rw [if_pos (by omega)]
        refine x_latest7 x r7 ?_
        rw [kI_v]
        have e : mc A p1 p2 (c + 1) = if lsN A c p2 = -1 then mc A p1 p2 c else ((mc A p1 p2 c).1 + 1, (mc A p1 p2 c).2.1 + A 127 (lsN A c p2).toNat, (mc A p1 p2 c).2.2.1 + iand (ishr (A 120 c) p1) 1, (mc A p1 p2 c).2.2.2 + A 127 (lsN A c p2).toNat * iand (ishr (A 120 c) p1) 1) := rfl
        have g1 : vJ2_get 61 (c : Int) g0 = Z 8 c := x.get 8 (by omega) (by omega)
        rw [g1, x.int 8 c 1 cc, (r8.2.2 c cc).2.1.1]
        have b01 := bits01 (A 120 c) p1
        have l := ls_rng A c p2 (A 75 76).toNat
        have l0 : -1 ≤ lsN A c p2 := l.1
        have l1 : lsN A c p2 < (A 75 76).toNat := l.2
        by_cases d : lsN A c p2 = -1
        · rw [if_pos d] at e
          simp only [d, if_true]
          refine ⟨fun w => absurd (fun v => v rfl) w, ?_⟩
          rintro _ rfl _ rfl _ rfl _ rfl
          refine ⟨⟨by omega, by omega⟩, ?_⟩
          rintro i rfl
          rw [if_pos (fun w => w rfl), if_pos (fun w => w rfl), if_pos (fun w => w rfl), if_pos (fun w => w rfl)]
          exact kk _ _ _ _ _ _ ⟨rfl, c + 1, rfl, cc, by rw [e], by rw [e], by rw [e], by rw [e]⟩ (by omega)
        · rw [if_neg d] at e
          have q := (r7.2.2 (lsN A c p2).toNat (by have := r7.1; omega)).2.2.1.2
          simp only [d, if_false]
          have nq : A 127 (lsN A c p2).toNat ≠ -1 := by omega
          have pr : A 127 (lsN A c p2).toNat * iand (ishr (A 120 c) p1) 1 = 0 ∨ A 127 (lsN A c p2).toNat * iand (ishr (A 120 c) p1) 1 = 1 := by
            rcases q with q | q <;> rcases b01 with b | b <;> rw [q, b] <;> decide
          refine ⟨fun w => ⟨x.oget 8 (by omega) (by omega), x.obj 8 c cc, ⟨by omega, by omega⟩, ⟨by omega, by omega⟩, ⟨by omega, by omega⟩, ⟨by omega, by omega⟩, ⟨by omega, by omega⟩⟩, ?_⟩
          rintro _ rfl _ rfl _ rfl _ rfl
          refine ⟨⟨by omega, by omega⟩, ?_⟩
          rintro i rfl
          rw [if_neg (fun w => w nq), if_neg (fun w => w nq), if_neg (fun w => w nq), if_neg (fun w => w nq)]
          exact kk _ _ _ _ _ _ ⟨rfl, c + 1, rfl, cc, by rw [e], by rw [e], by rw [e], by rw [e]⟩ (by omega)
      · have : c = N 8 := by omega
        subst this
        rw [if_neg (by omega)]
        generalize hm : mc A p1 p2 (N 8) = M0 at mr k ⊢
        obtain ⟨n, g, s, b⟩ := M0
        simp only at mr k ⊢
        by_cases c0 : n = 0
        · rw [if_pos c0] at k
          rw [if_pos (fun w => w c0), kIx_v]
          rintro g2 rfl
          exact k _ (done _)
        rw [if_neg c0] at k
        rw [if_neg (fun w => w c0)]
        have tot : ∀ j : Nat, (j : Int) ≤ b + 1 → 0 ≤ smV n g s j ∧ smV n g s j ≤ wysF n s ∧ smV n g s j ≤ 118264581564861424 := by
          intro j hj
          rw [smV_vnd (by omega) (by omega) (by omega) (by omega) j (by omega) (by omega)]
          have v := vnd_le g.toNat (n - g).toNat s.toNat j
          rw [show g.toNat + (n - g).toNat = n.toNat by omega] at v
          have w := chs_le n.toNat s.toNat (by omega)
          refine ⟨by omega, ?_, by omega⟩
          unfold wysF
          rw [if_neg (by omega)]
          omega
        have ap : 0 < wysF n s := by
          unfold wysF
          rw [if_neg (by omega)]
          have := chs_pos n.toNat s.toNat (by omega)
          omega
        have al : wysF n s ≤ 118264581564861424 := by
          unfold wysF
          rw [if_neg (by omega)]
          have := chs_le n.toNat s.toNat (by omega)
          omega
        refine wh3_of (fun (l : Int) (i : Int) g1 => g1 = g0 ∧ ∃ j : Nat, i = j ∧ (j : Int) ≤ b + 1 ∧ l = smV n g s j) (fun _ i _ => (b + 1 - i).toNat) ?_ ⟨rfl, 0, rfl, by omega, rfl⟩
        rintro R2 l i g1 ⟨rfl, j, rfl, hj, rfl⟩ kk2
        by_cases cj : (j : Int) ≤ b
        · rw [if_pos (by omega)]
          refine x_ways (by omega) (by omega) (by omega) (by omega) ?_
          show nm (n - g) ∧ _
          refine ⟨⟨by omega, by omega⟩, ⟨by omega, by omega⟩, ?_⟩
          refine x_ways (by omega) (by omega) (by omega) (by omega) ?_
          have t1 := tot j (by omega)
          have t2 := tot (j + 1) (by omega)
          have t3 : smV n g s (j + 1) = smV n g s j + wysF g j * wysF (n - g) (s - j) := rfl
          have t4 : 0 ≤ wysF g j * wysF (n - g) (s - j) := Int.mul_nonneg (wys_nn _ _) (wys_nn _ _)
          show nl (wysF g j * wysF (n - g) (s - j)) ∧ _
          refine ⟨⟨by omega, by omega⟩, ⟨by omega, by omega⟩, ?_⟩
          rintro _ rfl
          refine ⟨⟨by omega, by omega⟩, ?_⟩
          rintro i rfl
          exact kk2 _ _ _ ⟨rfl, j + 1, rfl, by omega, t3.symm⟩ (by omega)
        · have ej : j = b.toNat + 1 := by omega
          subst ej
          rw [if_neg (by omega)]
          refine x_ways (by omega) (by omega) (by omega) (by omega) ?_
          have t1 := tot (b.toNat + 1) hj
          generalize hS : smV n g s (b.toNat + 1) = S at t1 k ⊢
          generalize hA : wysF n s = al0 at t1 k ap al ⊢
          show 0 < al0 ∧ _
          refine ⟨ap, ?_⟩
          have fl : ∀ v0 r0, 0 ≤ v0 → v0 ≤ 1 → 0 ≤ r0 → r0 < al0 → (∀ v, v = (dgF al0 6 (v0, r0)).1 → Q (rV (vI 0)) (sL g1 158 0 v)) → wh3 (fun (C174 : Int → Int → Int → Prop) (x171 : Int) (l172 : Int) (x173 : Int) => if ¬ (6 ≤ x173) then nm (x171 * 10) ∧ nl (l172 * 10) ∧ nm ((x171 * 10) + (l2i (Int.tdiv (l172 * 10) al0))) ∧ ∀ v180 : Int, v180 = ((x171 * 10) + (l2i (Int.tdiv (l172 * 10) al0))) → ∀ l181 : Int, l181 = (Int.tmod (l172 * 10) al0) → nm (x173 + 1) ∧ ∀ i183 : Int, i183 = (x173 + 1) → C174 v180 l181 i183 else kIx (fun a103 h104 => if hT h104 a103 = 41 then ob h104 a103 41 ∧ (Q (rV (vI 1)) h104) else ob h104 a103 42 ∧ (Q (rV (vI 2)) h104)) (fun x102 h101 => ∀ h108 : Hp, h108 = sL h101 158 0 x102 → Q (rV (vI 0)) h108) (rV (vI x171)) g1) v0 r0 0 := by
            intro v0 r0 hv0 hv1 hr0 hr1 kf
            refine wh3_of (fun (v r : Int) (i : Int) => ∃ d : Nat, i = d ∧ d ≤ 6 ∧ 0 ≤ v ∧ v < 2 * 10 ^ d ∧ 0 ≤ r ∧ r < al0 ∧ dgF al0 (6 - d) (v, r) = dgF al0 6 (v0, r0)) (fun _ _ i => (6 - i).toNat) ?_ ⟨0, rfl, by omega, hv0, by show v0 < 2 * 1; omega, hr0, hr1, rfl⟩
            rintro R3 v r i ⟨d, rfl, hd, hv, hv2, hr, hr2, hdg⟩ kk3
            by_cases cd : d < 6
            · rw [if_pos (by omega)]
              have pw : (10 : Int) ^ d ≤ 100000 := by
                have : d = 0 ∨ d = 1 ∨ d = 2 ∨ d = 3 ∨ d = 4 ∨ d = 5 := by omega
                rcases this with rfl | rfl | rfl | rfl | rfl | rfl <;> decide
              have q0 : 0 ≤ r * 10 / al0 := Int.ediv_nonneg (by omega) (by omega)
              have q1 : r * 10 / al0 < 10 := Int.ediv_lt_of_lt_mul ap (by omega)
              rw [Int.tdiv_eq_ediv_of_nonneg (by omega), l2i_val q0 (by omega), Int.tmod_eq_emod_of_nonneg (by omega)]
              refine ⟨⟨by omega, by omega⟩, ⟨by omega, by omega⟩, ⟨by omega, by omega⟩, ?_⟩
              rintro _ rfl _ rfl
              refine ⟨⟨by omega, by omega⟩, ?_⟩
              rintro _ rfl
              have hs : 6 - d = (6 - (d + 1)) + 1 := by omega
              rw [hs] at hdg
              refine kk3 _ _ _ ⟨d + 1, rfl, cd, by omega, ?_, Int.emod_nonneg _ (by omega), Int.emod_lt_of_pos _ ap, hdg⟩ (by omega)
              rw [Int.pow_succ]
              omega
            · have : d = 6 := by omega
              subst this
              rw [if_neg (by decide), kIx_v]
              rintro g2 rfl
              refine kf _ ?_
              rw [← hdg]
              rfl
          have sd : Int.tdiv S al0 = S / al0 := Int.tdiv_eq_ediv_of_nonneg (by omega)
          have sm : Int.tmod S al0 = S % al0 := Int.tmod_eq_emod_of_nonneg (by omega)
          rw [sd, sm]
          by_cases cS : S = al0
          · rw [if_pos cS] at k
            subst cS
            rw [Int.ediv_self (by omega), Int.emod_self]
            rintro _ rfl
            refine ⟨by omega, ?_⟩
            rintro _ rfl
            have : l2i 1 = 1 := l2i_val (by decide) (by decide)
            rw [this]
            refine fl 1 0 (by decide) (by decide) (by decide) ap (fun v hv => ?_)
            rw [dg_one] at hv
            rw [hv]
            exact k _ (done _)
          · rw [if_neg cS] at k
            rw [Int.ediv_eq_zero_of_lt (by omega) (by omega), Int.emod_eq_of_lt (by omega) (by omega)]
            rintro _ rfl
            refine ⟨by omega, ?_⟩
            intro l0 hl0
            have hl0 := hl0.symm
            subst hl0
            have : l2i 0 = 0 := l2i_val (by decide) (by decide)
            rw [this]
            refine fl 0 S (by decide) (by decide) (by omega) (by omega) (fun v hv => ?_)
            rw [hv]
            exact k _ (done _)
    · have z2 := (in_0 _ _ _ _).1 z2
      rw [if_pos (by omega)] at k
      show if hT (nw h 42 0 6) (hn h) = 41 then _ else _
      rw [t, if_neg (by decide)]
      exact ⟨o, k _ ⟨N, X, Z, C, Wd, y.more (by omega) (by omega), r.thr 2, fun z => absurd z ne20⟩⟩
  · have z := (in_0 _ _ _ _).1 z
    rw [if_pos (by omega)] at k
    show if hT (nw h 41 0 6) (hn h) = 41 then _ else _
    rw [if_pos t]
    exact ⟨o, k _ ⟨N, X, Z, C, Wd, y.more (by omega) (by omega), r.thr 1, fun z => absurd z ne10⟩⟩
end
section
variable {K : Hp} {D : Nat} {N M : Nat → Nat} {X : Nat → Nat → Nat → Int} {Z : Nat → Nat → Nat} {C : Nat → Nat → List Int} {Wd : Nat → List Int} {A : Nat → Nat → Int} {h : Hp}
theorem lsF_u0 (A : Nat → Nat → Int) (v c k : Int) : ∀ n, lsF (uA A 75 0 v) c k n = lsF A c k n
  | 0 => rfl
  | n + 1 => by
    show (if A 125 n = c ∧ A 126 n ≤ k then (n : Int) else lsF (uA A 75 0 v) c k n) = if A 125 n = c ∧ A 126 n ≤ k then (n : Int) else lsF A c k n
    rw [lsF_u0 A v c k n]
theorem m_misleads {T : Nat} {N0 : Nat → Nat} {X0 : Nat → Nat → Nat → Int} {C0 : Nat → Nat → List Int} {Wd0 : Nat → List Int} {Q : Rs → Hp → Prop} (x : XS K D N M X Z C Wd A h) (r : Rel T N0 X0 C0 Wd0 A) {p1 p2 : Int} (k : ∀ h', XS K D N M X Z C Wd (gMis A p1 p2).2.2 h' → hL h' 158 = hL h 158 → Q (rV (vI (gMis A p1 p2).2.1)) h') : mX4_misleads p1 p2 h Q := by
  obtain ⟨r0, r1, r2, r3, r4, r5, r6, r7, r8, r9, r10, r11, rw0⟩ := id r
  have now := r0.1
  have s5 := r5.1
  have n60 := r8.2.1
  have s7 := r7.1
  have n7 := r7.2.1
  unfold mX4_misleads
  unfold gMis at k
  rintro g0 rfl
  have y : XS K D N M X Z C Wd (uA A 75 0 0) (sI h 75 0 0) := x.m5
  have e36 : hI (sI h 75 0 0) 75 36 = A 75 36 := x.rd 75 36
  have e1 : hI (sI h 75 0 0) 75 1 = A 75 1 := x.rd 75 1
  have e69 : hI (sI h 75 0 0) 75 69 = N0 8 := (x.rd 75 69).trans r8.1
  have e76 : hI (sI h 75 0 0) 75 76 = N0 7 := (x.rd 75 76).trans r7.1
  rw [e36]
  rintro v rfl
  refine m_right rfl (by decide) (fun z => ?_) (fun z => ?_)
  · have z := b2i_1 z
    rw [if_neg (by omega)] at k
    rw [kI_v, if_pos (by decide)]
    have et : vX4_isTime p2 (sI h 75 0 0) = 0 ↔ (p2 < 0 ∨ A 75 1 < p2) := by
      unfold vX4_isTime b2i
      rw [e1]
      split <;> omega
    refine m_right rfl (by decide) (fun z2 => ?_) (fun z2 => ?_)
    · have z2 : ¬ (p2 < 0 ∨ A 75 1 < p2) := fun w => z2 (et.2 w)
      rw [if_neg z2] at k
      rw [kI_v, if_neg (by decide), e69, e76]
      unfold misF at k
      rw [r8.1, Int.toNat_natCast] at k
      have k := k _ y rfl
      refine wh5_of (fun (n g s b : Int) (i : Int) => ∃ c : Nat, i = c ∧ c ≤ N0 8 ∧ n = (mc A p1 p2 c).1 ∧ g = (mc A p1 p2 c).2.1 ∧ s = (mc A p1 p2 c).2.2.1 ∧ b = (mc A p1 p2 c).2.2.2) (fun _ _ _ _ i => (N0 8 - i).toNat) ?_ ⟨0, rfl, by omega, rfl, rfl, rfl, rfl⟩
      rintro R n g s b i ⟨c, rfl, hc, rfl, rfl, rfl, rfl⟩ kk
      have mr := mc_rng r7 p1 p2 c
      by_cases cc : c < N0 8
      · rw [if_pos (by omega)]
        have e : mc A p1 p2 (c + 1) = if lsN A c p2 = -1 then mc A p1 p2 c else ((mc A p1 p2 c).1 + 1, (mc A p1 p2 c).2.1 + A 127 (lsN A c p2).toNat, (mc A p1 p2 c).2.2.1 + iand (ishr (A 120 c) p1) 1, (mc A p1 p2 c).2.2.2 + A 127 (lsN A c p2).toNat * iand (ishr (A 120 c) p1) 1) := rfl
        refine fp2 (N0 7) (lsF A c p2) (fun R2 i hi hR => ?_) (fun R2 => ?_)
        · rw [if_pos (by omega)]
          refine ⟨by omega, by omega, ?_⟩
          have a125 : hI (sI h 75 0 0) 125 ((i : Int)).toNat = A 125 i := by rw [Int.toNat_natCast]; exact y.ra 125 i
          have a126 : hI (sI h 75 0 0) 126 ((i : Int)).toNat = A 126 i := by rw [Int.toNat_natCast]; exact y.ra 126 i
          rw [a125, a126]
          rintro v rfl
          refine ⟨⟨by omega, by omega⟩, ?_⟩
          rintro j rfl
          have hR : R2 (if A 125 i = c ∧ A 126 i ≤ p2 then (i : Int) else lsF A c p2 i) ((i : Int) + 1) := hR
          by_cases d : A 125 i = c ∧ A 126 i ≤ p2
          · rw [if_pos d] at hR
            rw [if_pos (by omega)]
            exact hR
          · rw [if_neg d] at hR
            rw [if_neg (by omega)]
            exact hR
        · rw [if_neg (by omega)]
          have l := ls_rng A c p2 (N0 7)
          have el : lsN A c p2 = lsF A c p2 (N0 7) := by
            unfold lsN
            rw [s7, Int.toNat_natCast]
          rw [← el] at l ⊢
          by_cases d : lsN A c p2 = -1
          · rw [if_pos d] at e
            rw [if_pos (fun w => w d)]
            refine ⟨⟨by omega, by omega⟩, ?_⟩
            rintro i rfl
            exact kk _ _ _ _ _ ⟨c + 1, rfl, cc, by rw [e], by rw [e], by rw [e], by rw [e]⟩ (by omega)
          · rw [if_neg d] at e
            rw [if_neg (fun w => w d)]
            refine ⟨⟨by omega, by omega⟩, ?_⟩
            rintro _ rfl
            have a120 : hI (sI h 75 0 0) 120 ((c : Int)).toNat = A 120 c := by rw [Int.toNat_natCast]; exact y.ra 120 c
            have a127 : hI (sI h 75 0 0) 127 (lsN A c p2).toNat = A 127 (lsN A c p2).toNat := y.ra 127 _
            rw [a120, a127]
            have b01 := bits01 (A 120 c) p1
            have q := (r7.2.2 (lsN A c p2).toNat (by omega)).2.2.1.2
            refine ⟨by omega, by omega, ?_⟩
            rintro _ rfl
            refine ⟨by omega, by omega, fun _ => ⟨by omega, by omega⟩, ?_⟩
            rintro _ rfl
            refine ⟨fun _ => ⟨by omega, by omega⟩, ?_⟩
            rintro _ rfl
            refine ⟨fun _ => ⟨by omega, by omega⟩, ?_⟩
            rintro _ rfl
            refine ⟨⟨by omega, by omega⟩, ?_⟩
            rintro _ rfl
            refine kk _ _ _ _ _ ⟨c + 1, rfl, cc, by rw [e], ?_, ?_, ?_⟩ (by omega)
            · rw [e]
              show _ = (mc A p1 p2 c).2.1 + A 127 (lsN A c p2).toNat
              split <;> omega
            · rw [e]
              show _ = (mc A p1 p2 c).2.2.1 + iand (ishr (A 120 c) p1) 1
              rcases b01 with b | b <;> rw [b] <;> simp [b2i]
            · rw [e]
              show _ = (mc A p1 p2 c).2.2.2 + A 127 (lsN A c p2).toNat * iand (ishr (A 120 c) p1) 1
              rcases b01 with b | b <;> rcases q with q | q <;> rw [b, q] <;> simp [b2i]
      · have : c = N0 8 := by omega
        subst this
        rw [if_neg (by omega)]
        generalize hm : mc A p1 p2 (N0 8) = M0 at mr k ⊢
        obtain ⟨n, g, s, b⟩ := M0
        simp only at mr k ⊢
        by_cases c0 : n = 0
        · rw [if_pos c0] at k
          rw [if_pos (fun w => w c0)]
          exact k
        rw [if_neg c0] at k
        rw [if_neg (fun w => w c0)]
        have tot : ∀ j : Nat, (j : Int) ≤ b + 1 → 0 ≤ smV n g s j ∧ smV n g s j ≤ wysF n s ∧ smV n g s j ≤ 118264581564861424 := by
          intro j hj
          rw [smV_vnd (by omega) (by omega) (by omega) (by omega) j (by omega) (by omega)]
          have v := vnd_le g.toNat (n - g).toNat s.toNat j
          rw [show g.toNat + (n - g).toNat = n.toNat by omega] at v
          have w := chs_le n.toNat s.toNat (by omega)
          refine ⟨by omega, ?_, by omega⟩
          unfold wysF
          rw [if_neg (by omega)]
          omega
        have ap : 0 < wysF n s := by
          unfold wysF
          rw [if_neg (by omega)]
          have := chs_pos n.toNat s.toNat (by omega)
          omega
        have al : wysF n s ≤ 118264581564861424 := by
          unfold wysF
          rw [if_neg (by omega)]
          have := chs_le n.toNat s.toNat (by omega)
          omega
        refine m_ways (by omega) (by omega) ?_
        show wh3 _ _ _ _
        refine wh3_of (fun (l : Int) (i : Int) g1 => g1 = sI h 75 0 0 ∧ ∃ j : Nat, i = j ∧ (j : Int) ≤ b + 1 ∧ l = smV n g s j) (fun _ i _ => (b + 1 - i).toNat) ?_ ⟨rfl, 0, rfl, by omega, rfl⟩
        rintro R2 l i g1 ⟨rfl, j, rfl, hj, rfl⟩ kk2
        by_cases cj : (j : Int) ≤ b
        · rw [if_pos (by omega)]
          refine m_ways (by omega) (by omega) ?_
          show nm (n - g) ∧ _
          refine ⟨⟨by omega, by omega⟩, ⟨by omega, by omega⟩, ?_⟩
          refine m_ways (by omega) (by omega) ?_
          have t1 := tot j (by omega)
          have t2 := tot (j + 1) (by omega)
          have t3 : smV n g s (j + 1) = smV n g s j + wysF g j * wysF (n - g) (s - j) := rfl
          have t4 : 0 ≤ wysF g j * wysF (n - g) (s - j) := Int.mul_nonneg (wys_nn _ _) (wys_nn _ _)
          show nl (wysF g j * wysF (n - g) (s - j)) ∧ _
          refine ⟨⟨by omega, by omega⟩, ⟨by omega, by omega⟩, ?_⟩
          rintro _ rfl
          refine ⟨⟨by omega, by omega⟩, ?_⟩
          rintro i rfl
          exact kk2 _ _ _ ⟨rfl, j + 1, rfl, by omega, t3.symm⟩ (by omega)
        · have ej : j = b.toNat + 1 := by omega
          subst ej
          rw [if_neg (by omega)]
          have t1 := tot (b.toNat + 1) hj
          generalize hS : smV n g s (b.toNat + 1) = S at t1 k ⊢
          generalize hA : wysF n s = al0 at t1 k ap al ⊢
          by_cases cS : S = al0
          · rw [if_pos cS] at k
            have : ¬ (lcm S al0 ≠ 0) := by
              unfold lcm
              rw [if_neg (by omega), if_pos cS]
              exact fun z => z rfl
            rw [if_pos this]
            exact k
          · rw [if_neg cS] at k
            have : lcm S al0 ≠ 0 := by
              unfold lcm
              rw [if_pos (by omega)]
              decide
            rw [if_neg (fun w => w this)]
            refine wh3_of (fun (v r : Int) (i : Int) => ∃ d : Nat, i = d ∧ d ≤ 6 ∧ 0 ≤ v ∧ v < 2 * 10 ^ d ∧ 0 ≤ r ∧ r < al0 ∧ dgF al0 (6 - d) (v, r) = dgF al0 6 (0, S)) (fun _ _ i => (6 - i).toNat) ?_ ⟨0, rfl, by omega, by omega, by decide, by omega, by omega, rfl⟩
            rintro R3 v r i ⟨d, rfl, hd, hv, hv2, hr, hr2, hdg⟩ kk3
            by_cases cd : d < 6
            · rw [if_pos (by omega)]
              have pw : (10 : Int) ^ d ≤ 100000 := by
                have : d = 0 ∨ d = 1 ∨ d = 2 ∨ d = 3 ∨ d = 4 ∨ d = 5 := by omega
                rcases this with rfl | rfl | rfl | rfl | rfl | rfl <;> decide
              have q0 : 0 ≤ r * 10 / al0 := Int.ediv_nonneg (by omega) (by omega)
              have q1 : r * 10 / al0 < 10 := Int.ediv_lt_of_lt_mul ap (by omega)
              refine ⟨⟨by omega, by omega⟩, ?_⟩
              rintro _ rfl
              rw [Int.tdiv_eq_ediv_of_nonneg (by omega), l2i_val q0 (by omega), Int.tmod_eq_emod_of_nonneg (by omega), Int.mul_comm 10 v]
              refine ⟨⟨by omega, by omega⟩, ap, ⟨by omega, by omega⟩, ?_⟩
              rintro _ rfl
              refine ⟨by omega, ?_⟩
              rintro _ rfl
              refine ⟨⟨by omega, by omega⟩, ?_⟩
              rintro _ rfl
              have hs : 6 - d = (6 - (d + 1)) + 1 := by omega
              rw [hs] at hdg
              refine kk3 _ _ _ ⟨d + 1, rfl, cd, by omega, ?_, Int.emod_nonneg _ (by omega), Int.emod_lt_of_pos _ ap, hdg⟩ (by omega)
              rw [Int.pow_succ]
              omega
            · have : d = 6 := by omega
              subst this
              rw [if_neg (by decide)]
              rw [← hdg] at k
              exact k
    · have z2 := et.1 z2
      rw [if_pos z2] at k
      rw [kI_v, if_pos (by decide)]
      exact k _ y.t5 rfl
  · have z := b2i_0 z
    rw [if_pos (by omega)] at k
    rw [kI_v, if_neg (by decide)]
    exact k _ y.t5 rfl
end
