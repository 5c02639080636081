set_option maxRecDepth 100000
set_option maxHeartbeats 1000000
set_option linter.unusedSimpArgs false
set_option linter.unusedVariables false
/-! SPECS, 13: loops over numbers; texts by time; rain -/
theorem fp1 {b : (Int → Prop) → Int → Prop} (n : Nat) (hs : ∀ R i, i < n → R ((i : Int) + 1) → b R i) (he : ∀ R, b R n) : wh1 b 0 := by
  refine wh1_of (fun (i : Int) => ∃ j : Nat, j ≤ n ∧ i = j) (fun i => n - i.toNat) ?_ ⟨0, Nat.zero_le _, rfl⟩
  rintro R i ⟨j, hj, rfl⟩ k
  by_cases z : j < n
  · exact hs R j z (k _ ⟨j + 1, z, rfl⟩ (by omega))
  · have : j = n := by omega
    rw [this]
    exact he R
theorem fp2 {β : Type} {b : (β → Int → Prop) → β → Int → Prop} (n : Nat) (F : Nat → β) (hs : ∀ R i, i < n → R (F (i + 1)) ((i : Int) + 1) → b R (F i) i) (he : ∀ R, b R (F n) n) : wh2 b (F 0) 0 := by
  refine wh2_of (fun x (i : Int) => ∃ j : Nat, j ≤ n ∧ i = j ∧ x = F j) (fun _ i => n - i.toNat) ?_ ⟨0, Nat.zero_le _, rfl, rfl⟩
  rintro R x i ⟨j, hj, rfl, rfl⟩ k
  by_cases z : j < n
  · exact hs R j z (k _ _ ⟨j + 1, z, rfl, rfl⟩ (by omega))
  · have : j = n := by omega
    rw [this]
    exact he R
theorem fp2r {β : Type} {b : (Int → β → Prop) → Int → β → Prop} (n : Nat) (F : Nat → β) (hs : ∀ R i, i < n → R ((i : Int) + 1) (F (i + 1)) → b R i (F i)) (he : ∀ R, b R n (F n)) : wh2 b 0 (F 0) := by
  refine wh2_of (fun (i : Int) x => ∃ j : Nat, j ≤ n ∧ i = j ∧ x = F j) (fun i _ => n - i.toNat) ?_ ⟨0, Nat.zero_le _, rfl, rfl⟩
  rintro R i x ⟨j, hj, rfl, rfl⟩ k
  by_cases z : j < n
  · exact hs R j z (k _ _ ⟨j + 1, z, rfl, rfl⟩ (by omega))
  · have : j = n := by omega
    rw [this]
    exact he R
theorem fp3 {β γ : Type} {b : (β → Int → γ → Prop) → β → Int → γ → Prop} (n : Nat) (F : Nat → β) (P : Nat → γ → Prop) (hs : ∀ R i g, i < n → P i g → (∀ g', P (i + 1) g' → R (F (i + 1)) ((i : Int) + 1) g') → b R (F i) i g) (he : ∀ R g, P n g → b R (F n) n g) {g : γ} (h0 : P 0 g) : wh3 b (F 0) 0 g := by
  refine wh3_of (fun x (i : Int) g => ∃ j : Nat, j ≤ n ∧ i = j ∧ x = F j ∧ P j g) (fun _ i _ => n - i.toNat) ?_ ⟨0, Nat.zero_le _, rfl, rfl, h0⟩
  rintro R x i g ⟨j, hj, rfl, rfl, hp⟩ k
  by_cases z : j < n
  · exact hs R j g z hp (fun g' hp' => k _ _ _ ⟨j + 1, z, rfl, rfl, hp'⟩ (by omega))
  · have : j = n := by omega
    rw [this] at hp ⊢
    exact he R g hp
/-- index and memory -/
theorem fph {γ : Type} {b : (Int → γ → Prop) → Int → γ → Prop} (n : Nat) (P : Nat → γ → Prop) (hs : ∀ R i g, i < n → P i g → (∀ g', P (i + 1) g' → R ((i : Int) + 1) g') → b R i g) (he : ∀ R g, P n g → b R n g) {g : γ} (h0 : P 0 g) : wh2 b 0 g := by
  refine wh2_of (fun (i : Int) g => ∃ j : Nat, j ≤ n ∧ i = j ∧ P j g) (fun i _ => n - i.toNat) ?_ ⟨0, Nat.zero_le _, rfl, h0⟩
  rintro R i g ⟨j, hj, rfl, hp⟩ k
  by_cases z : j < n
  · exact hs R j g z hp (fun g' hp' => k _ _ ⟨j + 1, z, rfl, hp'⟩ (by omega))
  · have : j = n := by omega
    rw [this] at hp ⊢
    exact he R g hp
def tx (A : Nat → Nat → Int) (k : Int) : Nat → Int
  | 0 => -1
  | n + 1 => if A 95 n ≤ k then n else tx A k n
theorem tx_lt (A : Nat → Nat → Int) (k : Int) : ∀ n, -1 ≤ tx A k n ∧ tx A k n < n
  | 0 => ⟨by unfold tx; decide, by unfold tx; decide⟩
  | n + 1 => by
    have := tx_lt A k n
    unfold tx
    split <;> omega
def tN (A : Nat → Nat → Int) (k : Int) : Int := tx A k (A 75 35).toNat
def rul (Z : Nat → Nat → Nat) (t : Int) : Nat := if t < 0 then 66 else Z 4 t.toNat
def prm (A : Nat → Nat → Int) (t : Int) (j : Nat) : Int := if t = -1 then (if j = 0 then 32 else if j = 1 then 40 else if j = 2 then 4 else if j = 3 then 2 else 14) else A 96 (5 * t.toNat + j)
def rainF (A : Nat → Nat → Int) (p d k : Int) : Nat → Int
  | 0 => 0
  | n + 1 => if A 111 n = p ∧ A 112 n = d ∧ A 114 n ≤ k then A 113 n else rainF A p d k n
def rN1 (A : Nat → Nat → Int) (p d k : Int) : Int := rainF A p d k (A 75 60).toNat
def wetF (A : Nat → Nat → Int) (p d k : Int) : Int := 4 * rN1 A p d k + 2 * rN1 A p (d - 1) k + rN1 A p (d - 2) k
section
variable {K : Hp} {D : Nat} {N M : Nat → Nat} {X : Nat → Nat → Nat → Int} {Z : Nat → Nat → Nat} {C : Nat → Nat → List Int} {Wd : Nat → List Int} {A : Nat → Nat → Int} {h : Hp}
theorem m_textBy {p : Int} {Q : Rs → Hp → Prop} (x : XS K D N M X Z C Wd A h) {n : Nat} (r1 : A 75 35 = n) (r2 : n ≤ 12) (k : Q (rV (vI (tN A p))) h) : mX4_textBy p h Q := by
  unfold mX4_textBy
  unfold tN at k
  have e := x.rd 75 35
  rw [e, r1]
  rw [r1, Int.toNat_natCast] at k
  refine fp2 n (tx A p) (fun R i hi hR => ?_) (fun R => ?_)
  · rw [if_pos (by omega)]
    refine ⟨by omega, by omega, ?_⟩
    rintro v rfl
    refine ⟨⟨by omega, by omega⟩, ?_⟩
    rintro j rfl
    rw [x.ra 95, Int.toNat_natCast]
    have : (if ¬ (p < A 95 i) then (i : Int) else tx A p i) = tx A p (i + 1) := by
      show _ = if A 95 i ≤ p then (i : Int) else tx A p i
      split
      · rw [if_pos (by omega)]
      · rw [if_neg (by omega)]
    rw [this]
    exact hR
  · rw [if_neg (by omega)]
    exact k
theorem x_rulesAt {p : Int} {Q : Rs → Hp → Prop} (x : XS K D N M X Z C Wd A h) (r : Rl4 (N 4) (X 4) C A) (k : Q (rV (vR (rul Z (tN A p)))) h) : mX1_rulesAt p h Q := by
  unfold mX1_rulesAt
  unfold tN at k
  obtain ⟨r1, r2, r3⟩ := r
  have e : vJ2_size 57 h = N 4 := x.size 4
  have l := x.le 4
  rw [e]
  rw [r1, Int.toNat_natCast] at k
  refine fp2 (N 4) (fun n => rul Z (tx A p n)) (fun R i hi hR => ?_) (fun R => ?_)
  · refine ⟨x.osize 4, ?_⟩
    rw [if_pos (by omega)]
    have g : vJ2_get 57 (i : Int) h = Z 4 i := x.get 4 (by omega) (by omega)
    rw [g, x.int 4 i 4 (by omega)]
    refine ⟨x.oget 4 (by omega) (by omega), x.obj 4 i (by omega), ?_⟩
    rintro v rfl
    refine ⟨⟨by omega, by omega⟩, ?_⟩
    rintro j rfl
    have : (if ¬ (p < X 4 i 4) then Z 4 i else rul Z (tx A p i)) = rul Z (tx A p (i + 1)) := by
      have := (r3 i hi).1.1
      show _ = rul Z (if A 95 i ≤ p then (i : Int) else tx A p i)
      rw [this]
      split
      · rw [if_pos (by omega)]
        unfold rul
        rw [if_neg (by omega), Int.toNat_natCast]
      · rw [if_neg (by omega)]
    rw [this]
    exact hR
  · refine ⟨x.osize 4, ?_⟩
    rw [if_neg (by omega)]
    exact k
/-- the text that holds: its params and lists -/
theorem XS.rulF (x : XS K D N M X Z C Wd A h) (r : Rl4 (N 4) (X 4) C A) {t : Int} (h0 : -1 ≤ t) (h1 : t < N 4) : ob h (rul Z t) 2 ∧ ob h (hR h (rul Z t) 0) 70 ∧ hN h (hR h (rul Z t) 0) = 5 ∧ (∀ j, j < 5 → hI h (hR h (rul Z t) 0) j = prm A t j ∧ 0 ≤ prm A t j ∧ prm A t j ≤ 99999) := by
  have l := x.le 4
  obtain ⟨r1, r2, r3⟩ := r
  by_cases z : t < 0
  · have : t = -1 := by omega
    subst this
    obtain ⟨⟨own, x⟩, _⟩ := x
    obtain ⟨n1, n2, n3, n4, n5, n6, n7, n8, n9, n10, n11⟩ := x.2.2.2.2.1
    have kf := x.kf
    have k1 := kf.2 (66, 2, 0) (by decide)
    have k2 := kf.2 (67, 70, 5) (by decide)
    unfold rul
    rw [if_pos (by decide), n8]
    refine ⟨k1.1, k2.1, k2.2, fun j hj => ?_⟩
    have : j = 0 ∨ j = 1 ∨ j = 2 ∨ j = 3 ∨ j = 4 := by omega
    rcases this with rfl | rfl | rfl | rfl | rfl <;> simp [prm] <;> assumption
  · obtain ⟨q, rfl⟩ : ∃ n : Nat, t = n := ⟨t.toNat, by omega⟩
    have lt : q < N 4 := by omega
    unfold rul
    rw [if_neg z, Int.toNat_natCast]
    obtain ⟨y1, y2, y3, y4⟩ := x.arr 4 q 0 5 (by omega)
    refine ⟨x.obj 4 q (by omega), y1, y2, fun j hj => ?_⟩
    obtain ⟨p1, p2⟩ := r3 q lt
    have := p2.1 j hj
    unfold prm
    rw [if_neg (by omega), y4 j hj, Int.toNat_natCast]
    exact this
theorem rain_rng {n n1 : Nat} {x : Nat → Nat → Int} (r : Rl6 n1 x A) (p d k : Int) : ∀ n, n ≤ n1 → 0 ≤ rainF A p d k n ∧ rainF A p d k n ≤ 99
  | 0, _ => ⟨by unfold rainF; decide, by unfold rainF; decide⟩
  | n + 1, hn => by
    have := rain_rng (n := n) r p d k n (by omega)
    have q := (r.2.2 n (by omega)).2.2.1
    unfold rainF
    split <;> omega
theorem rN1_rng {n1 : Nat} {x : Nat → Nat → Int} (r : Rl6 n1 x A) (p d k : Int) : 0 ≤ rN1 A p d k ∧ rN1 A p d k ≤ 99 := by
  unfold rN1
  rw [r.1, Int.toNat_natCast]
  exact rain_rng (n := n1) r p d k n1 (Nat.le_refl _)
theorem m_rainOn {p d t : Int} {Q : Rs → Hp → Prop} (x : XS K D N M X Z C Wd A h) {n : Nat} {y : Nat → Nat → Int} (r : Rl6 n y A) (k : Q (rV (vI (rN1 A p d t))) h) : mX4_rainOn p d t h Q := by
  unfold mX4_rainOn
  unfold rN1 at k
  obtain ⟨r1, r2, r3⟩ := r
  have e := x.rd 75 60
  rw [e, r1]
  rw [r1, Int.toNat_natCast] at k
  refine fp2 n (rainF A p d t) (fun R i hi hR => ?_) (fun R => ?_)
  · rw [if_pos (by omega)]
    refine ⟨by omega, by omega, ?_⟩
    rintro v rfl
    refine ⟨⟨by omega, by omega⟩, ?_⟩
    rintro j rfl
    rw [x.ra 111, x.ra 112, x.ra 113, x.ra 114, Int.toNat_natCast]
    have : (if ¬ (A 111 i ≠ p) ∧ ¬ (A 112 i ≠ d) ∧ ¬ (t < A 114 i) then A 113 i else rainF A p d t i) = rainF A p d t (i + 1) := by
      show _ = if A 111 i = p ∧ A 112 i = d ∧ A 114 i ≤ t then A 113 i else rainF A p d t i
      split
      · rw [if_pos (by omega)]
      · rw [if_neg (by omega)]
    rw [this]
    exact hR
  · rw [if_neg (by omega)]
    exact k
theorem m_wetOf {p d t : Int} {Q : Rs → Hp → Prop} (x : XS K D N M X Z C Wd A h) {n : Nat} {y : Nat → Nat → Int} (r : Rl6 n y A) (hd : -1000 ≤ d ∧ d ≤ 100000) (k : Q (rV (vI (wetF A p d t))) h) : mX4_wetOf p d t h Q := by
  unfold mX4_wetOf
  have a1 := rN1_rng r p d t
  have a2 := rN1_rng r p (d - 1) t
  have a3 := rN1_rng r p (d - 2) t
  refine m_rainOn x r ?_
  refine ⟨⟨by omega, by omega⟩, ⟨by omega, by omega⟩, ?_⟩
  refine m_rainOn x r ?_
  refine ⟨⟨by omega, by omega⟩, ⟨by omega, by omega⟩, ⟨by omega, by omega⟩, ?_⟩
  refine m_rainOn x r ?_
  refine ⟨⟨by omega, by omega⟩, ?_⟩
  exact k
theorem x_latest6 {p d t : Int} {Q : Rs → Hp → Prop} (x : XS K D N M X Z C Wd A h) (r : Rl6 (N 6) (X 6) A) (k : ∀ v, (if v < 0 then 0 else v) = rN1 A p d t → -1 ≤ v → v ≤ 99 → Q (rV (vI v)) h) : mX1_latest 59 p d t h Q := by
  unfold mX1_latest
  unfold rN1 at k
  obtain ⟨r1, r2, r3⟩ := r
  have e : vJ2_size 59 h = N 6 := x.size 6
  have l := x.le 6
  have o : ob h 59 32 := x.osize 6
  rw [e]
  rw [r1, Int.toNat_natCast] at k
  refine wh2_of (fun (v : Int) (i : Int) => ∃ j : Nat, j ≤ N 6 ∧ i = j ∧ (if v < 0 then 0 else v) = rainF A p d t j ∧ -1 ≤ v ∧ v ≤ 99) (fun _ i => N 6 - i.toNat) ?_ ⟨0, Nat.zero_le _, rfl, rfl, by decide, by decide⟩
  rintro R v i ⟨j, hj, rfl, hv, hv1, hv2⟩ kk
  refine ⟨x.osize 6, o, ?_⟩
  by_cases z : j < N 6
  · rw [if_pos (by omega)]
    have g : vJ2_get 59 (j : Int) h = Z 6 j := x.get 6 (by omega) (by omega)
    rw [g]
    refine ⟨x.oget 6 (by omega) (by omega), x.obj 6 j (by omega), ?_⟩
    rintro r rfl
    refine ⟨x.obj 6 j (by omega), ?_⟩
    rintro w rfl
    refine ⟨⟨by omega, by omega⟩, ?_⟩
    rintro q rfl
    obtain ⟨y1, y2, y3, y4⟩ := r3 j z
    rw [x.int 6 j 0 (by omega), x.int 6 j 1 (by omega), x.int 6 j 2 (by omega), x.int 6 j 3 (by omega), y1, y2, y3.1, y4]
    refine kk _ _ ⟨j + 1, z, rfl, ?_, ?_, ?_⟩ (by omega)
    · show _ = if A 111 j = p ∧ A 112 j = d ∧ A 114 j ≤ t then A 113 j else rainF A p d t j
      by_cases c : A 111 j = p ∧ A 112 j = d ∧ A 114 j ≤ t
      · have c' : ¬A 111 j ≠ p ∧ ¬A 112 j ≠ d ∧ ¬t < A 114 j := by omega
        rw [if_pos c, if_pos c', if_neg (by omega)]
      · have c' : ¬ (¬A 111 j ≠ p ∧ ¬A 112 j ≠ d ∧ ¬t < A 114 j) := by omega
        rw [if_neg c, if_neg c']
        exact hv
    · split <;> omega
    · split <;> omega
  · have : j = N 6 := by omega
    subst this
    rw [if_neg (by omega)]
    exact k v hv hv1 hv2
theorem x_wetOf {i : Nat} {d t : Int} {Q : Rs → Hp → Prop} (x : XS K D N M X Z C Wd A h) (r : Rl6 (N 6) (X 6) A) (hi : i < M 1) (h0 : X 1 i 0 = i) (hd : -1000 ≤ d ∧ d ≤ 100000) (k : Q (rV (vI (wetF A i d t))) h) : mX1_wetOf (Z 1 i) d t h Q := by
  unfold mX1_wetOf
  have a1 := rN1_rng r i d t
  have a2 := rN1_rng r i (d - 1) t
  have a3 := rN1_rng r i (d - 2) t
  have mx : ∀ v g, vJ4_max 0 v g = if v < 0 then 0 else v := by
    intro v g
    unfold vJ4_max
    split <;> split <;> omega
  refine fp3 3 (fun n => if n = 0 then 0 else if n = 1 then 4 * rN1 A i d t else if n = 2 then 4 * rN1 A i d t + 2 * rN1 A i (d - 1) t else wetF A i d t) (fun _ g => g = h) (fun R j g hj hg hR => ?_) (fun R g hg => ?_) rfl
  · subst hg
    rw [if_pos (by omega)]
    rintro w rfl
    refine ⟨x.obj 1 i hi, ⟨by omega, by omega⟩, ?_⟩
    rw [x.int 1 i 0 hi, h0]
    refine x_latest6 x r (fun v hv hv1 hv2 => ?_)
    rw [kI_v, mx, hv]
    have a4 := rN1_rng r i (d - j) t
    have : j = 0 ∨ j = 1 ∨ j = 2 := by omega
    rcases this with rfl | rfl | rfl
    · have hR := hR _ rfl
      simp at hR ⊢
      exact ⟨⟨by omega, by omega⟩, ⟨by omega, by omega⟩, hR⟩
    · have hR := hR _ rfl
      simp at hR ⊢
      exact ⟨⟨by omega, by omega⟩, ⟨by omega, by omega⟩, ⟨by omega, by omega⟩, hR⟩
    · have hR := hR _ rfl
      simp [wetF] at hR ⊢
      exact ⟨⟨by omega, by omega⟩, ⟨by omega, by omega⟩, ⟨by omega, by omega⟩, hR⟩
  · subst hg
    rw [if_neg (by omega)]
    exact k
end
