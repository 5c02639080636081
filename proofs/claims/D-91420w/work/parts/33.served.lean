set_option maxRecDepth 100000
set_option maxHeartbeats 1000000
set_option linter.unusedSimpArgs false
set_option linter.unusedVariables false
/-! SPECS, 18: when a call is served -/
def mi (A : Nat → Nat → Int) (a b : Nat) : Int := 4 * ((if A 76 a - A 76 b < 0 then -(A 76 a - A 76 b) else A 76 a - A 76 b) + (if A 77 a - A 77 b < 0 then -(A 77 a - A 77 b) else A 77 a - A 77 b))
def docB (A : Nat → Nat → Int) (k : Nat) : Nat → Bool
  | 0 => false
  | w + 1 => docB A k w || (decide (A 88 w = 1) && (A 142 k).toNat.testBit w)
def qualB (A : Nat → Nat → Int) (c f j : Nat) : Bool := docB A (7 * f + j) (A 75 4).toNat && decide (A 136 (7 * f + j) = A 119 c) && decide (A 122 c ≠ -1) && decide (A 122 c ≤ A 138 (7 * f + j))
def lesser (b t : Int) : Int := if b = -1 ∨ t < b then t else b
def svL (A : Nat → Nat → Int) (c f : Nat) (b : Int) : Nat → Int
  | 0 => b
  | j + 1 => if qualB A c f j = true then lesser (svL A c f b j) (A 138 (7 * f + j)) else svL A c f b j
def svF (A : Nat → Nat → Int) (c : Nat) : Nat → Int
  | 0 => -1
  | f + 1 => svL A c f (svF A c f) (A 130 f).toNat
/-- the first leg of a flight that serves: when it comes -/
def fsL (A : Nat → Nat → Int) (c f : Nat) : Nat → Int
  | 0 => -1
  | j + 1 => if fsL A c f j ≠ -1 then fsL A c f j else if qualB A c f j = true then A 138 (7 * f + j) else -1
theorem fs_eq {A : Nat → Nat → Int} {c f : Nat} {b : Int} (n : Nat) (hb : -1 ≤ b) (h0 : ∀ j, j < n → 0 ≤ A 138 (7 * f + j)) (hm : ∀ i j, i < j → j < n → A 138 (7 * f + i) ≤ A 138 (7 * f + j)) : svL A c f b n = (if fsL A c f n ≠ -1 ∧ (b = -1 ∨ fsL A c f n < b) then fsL A c f n else b) ∧ (fsL A c f n ≠ -1 → ∃ i, i < n ∧ fsL A c f n = A 138 (7 * f + i)) := by
  induction n with
  | zero => exact ⟨(if_neg (fun z => z.1 rfl)).symm, fun z => absurd rfl z⟩
  | succ n ih =>
    obtain ⟨i1, i2⟩ := ih (fun j hj => h0 j (by omega)) (fun i j h1 h2 => hm i j h1 (by omega))
    have c0 := h0 n (by omega)
    show (if qualB A c f n = true then lesser (svL A c f b n) (A 138 (7 * f + n)) else svL A c f b n) = (if (if fsL A c f n ≠ -1 then fsL A c f n else if qualB A c f n = true then A 138 (7 * f + n) else -1) ≠ -1 ∧ (b = -1 ∨ (if fsL A c f n ≠ -1 then fsL A c f n else if qualB A c f n = true then A 138 (7 * f + n) else -1) < b) then (if fsL A c f n ≠ -1 then fsL A c f n else if qualB A c f n = true then A 138 (7 * f + n) else -1) else b) ∧ ((if fsL A c f n ≠ -1 then fsL A c f n else if qualB A c f n = true then A 138 (7 * f + n) else -1) ≠ -1 → ∃ i, i < n + 1 ∧ (if fsL A c f n ≠ -1 then fsL A c f n else if qualB A c f n = true then A 138 (7 * f + n) else -1) = A 138 (7 * f + i))
    by_cases d : fsL A c f n ≠ -1
    · rw [if_pos d]
      obtain ⟨i, hi, ei⟩ := i2 d
      have le := hm i n hi (by omega)
      refine ⟨?_, fun _ => ⟨i, by omega, ei⟩⟩
      have e : (if qualB A c f n = true then lesser (svL A c f b n) (A 138 (7 * f + n)) else svL A c f b n) = svL A c f b n := by
        split
        · unfold lesser
          rw [if_neg]
          rw [i1]
          have := h0 i (by omega)
          split <;> omega
        · rfl
      rw [e, i1]
    · have d' : fsL A c f n = -1 := by omega
      rw [if_neg d]
      rw [if_neg (fun z => d z.1)] at i1
      rw [i1]
      by_cases q : qualB A c f n = true
      · rw [if_pos q, if_pos q]
        refine ⟨?_, fun _ => ⟨n, by omega, rfl⟩⟩
        unfold lesser
        by_cases w : b = -1 ∨ A 138 (7 * f + n) < b
        · rw [if_pos w, if_pos ⟨by omega, w⟩]
        · rw [if_neg w, if_neg (fun z => w z.2)]
      · rw [if_neg q, if_neg q]
        exact ⟨(if_neg (fun z => z.1 rfl)).symm, fun z => absurd rfl z⟩
theorem and_ne {a d : Nat} (ha : a < 4096) (hd : d < 4096) : iand a d ≠ 0 ↔ ∃ w, a.testBit w = true ∧ d.testBit w = true := by
  rw [iand_nat (by omega) (by omega)]
  constructor
  · intro z
    have : a &&& d ≠ 0 := by omega
    obtain ⟨w, hw⟩ := Nat.exists_testBit_of_ne_zero this
    rw [Nat.testBit_and, Bool.and_eq_true] at hw
    exact ⟨w, hw⟩
  · rintro ⟨w, h1, h2⟩ z
    have z : a &&& d = 0 := by omega
    have : (a &&& d).testBit w = true := by rw [Nat.testBit_and, h1, h2]; rfl
    rw [z, Nat.zero_testBit] at this
    cases this
theorem doc_ex (A : Nat → Nat → Int) (k n : Nat) : docB A k n = true ↔ ∃ w, w < n ∧ A 88 w = 1 ∧ (A 142 k).toNat.testBit w = true := by
  induction n with
  | zero => exact ⟨fun z => absurd (show false = true from z) (by decide), fun ⟨w, hw, _⟩ => absurd hw (Nat.not_lt_zero _)⟩
  | succ n ih =>
    show (docB A k n || (decide (A 88 n = 1) && (A 142 k).toNat.testBit n)) = true ↔ _
    rw [Bool.or_eq_true, ih, Bool.and_eq_true, decide_eq_true_eq]
    constructor
    · rintro (⟨w, h1, h2⟩ | ⟨h1, h2⟩)
      · exact ⟨w, by omega, h2⟩
      · exact ⟨n, by omega, h1, h2⟩
    · rintro ⟨w, h1, h2, h3⟩
      by_cases e : w = n
      · subst e
        exact Or.inr ⟨h2, h3⟩
      · exact Or.inl ⟨w, by omega, h2, h3⟩
section
variable {K : Hp} {D : Nat} {N M : Nat → Nat} {X : Nat → Nat → Nat → Int} {Z : Nat → Nat → Nat} {C : Nat → Nat → List Int} {Wd : Nat → List Int} {A : Nat → Nat → Int} {h : Hp}
theorem m_served {T : Nat} {N0 : Nat → Nat} {X0 : Nat → Nat → Nat → Int} {C0 : Nat → Nat → List Int} {Wd0 : Nat → List Int} {Q : Rs → Hp → Prop} (x : XS K D N M X Z C Wd A h) (r : Rel T N0 X0 C0 Wd0 A) {c : Nat} (hc : c < 60) (k : Q (rV (vI (svF A c (A 75 80).toNat))) h) : mX4_served c h Q := by
  obtain ⟨q1, q2, q3⟩ := r.2.2.2.2.2.2.2.2.2.1
  have p1 := r.2.2.2.1.1
  have p2 := r.2.2.2.1.2.1
  unfold mX4_served
  rw [x.rd 75 80, x.rd 75 4, q1, p1]
  rw [q1, Int.toNat_natCast] at k
  refine fp2 (N0 9) (svF A c) (fun R f hf hR => ?_) (fun R => ?_)
  · rw [if_pos (by omega)]
    obtain ⟨y1, y2, y3, y4, y5⟩ := q3 f hf
    obtain ⟨n, hn⟩ : ∃ n : Nat, A 130 f = n := ⟨(A 130 f).toNat, by omega⟩
    have e130 : hI h 130 ((f : Int)).toNat = n := by rw [Int.toNat_natCast, x.ra 130, hn]
    rw [e130]
    refine fp2 n (svL A c f (svF A c f)) (fun R2 j hj hR2 => ?_) (fun R2 => ?_)
    · refine ⟨by omega, by omega, ?_⟩
      rw [if_pos (by omega)]
      refine ⟨⟨by omega, by omega⟩, ⟨by omega, by omega⟩, ?_⟩
      rintro v rfl
      have ek : (7 * (f : Int) + (j : Int)).toNat = 7 * f + j := by omega
      rw [ek, x.ra 142, x.ra 136, x.ra 138, x.ra 119, x.ra 122, Int.toNat_natCast]
      obtain ⟨z1, z2, z3, z4, z5, z6, z7, z8⟩ := y5 j (by omega)
      obtain ⟨m, hm⟩ : ∃ m : Nat, A 142 (7 * f + j) = m := ⟨(A 142 (7 * f + j)).toNat, by omega⟩
      refine fp2 (N0 3) (fun w => b2i (docB A (7 * f + j) w = true)) (fun R3 w hw hR3 => ?_) (fun R3 => ?_)
      · rw [if_pos (by omega)]
        refine ⟨fun _ => ⟨by omega, by omega, fun _ => ⟨by omega, by omega⟩⟩, ?_⟩
        rintro v rfl
        refine ⟨⟨by omega, by omega⟩, ?_⟩
        rintro i rfl
        have e88 : hI h 88 ((w : Int)).toNat = A 88 w := by rw [Int.toNat_natCast, x.ra 88]
        rw [e88, hm, bit_eq (by omega) (by omega)]
        have : b2i ((b2i (docB A (7 * f + j) w = true) ≠ 0) ∨ (¬ (A 88 w ≠ 1) ∧ ¬ ((if m.testBit w = true then (1 : Int) else 0) ≠ 1))) = b2i (docB A (7 * f + j) (w + 1) = true) := by
          show _ = b2i ((docB A (7 * f + j) w || (decide (A 88 w = 1) && (A 142 (7 * f + j)).toNat.testBit w)) = true)
          rw [hm, Int.toNat_natCast]
          cases docB A (7 * f + j) w <;> cases m.testBit w <;> by_cases e : A 88 w = 1 <;> simp [b2i, e]
        rw [this]
        exact hR3
      · rw [if_neg (by omega)]
        refine ⟨⟨fun _ => ⟨by omega, by omega, by omega, by omega⟩, fun _ => ⟨by omega, by omega, by omega, by omega⟩⟩, ?_⟩
        rintro v rfl
        refine ⟨⟨by omega, by omega⟩, ?_⟩
        rintro i rfl
        have : (if ¬ (b2i (docB A (7 * f + j) (N0 3) = true) = 0) ∧ (¬ (A 136 (7 * f + j) ≠ A 119 c) ∧ (¬ (A 122 c = -1))) then (if ¬ (A 122 c ≤ A 138 (7 * f + j)) then svL A c f (svF A c f) j else (if (svL A c f (svF A c f) j = -1) ∨ (¬ (svL A c f (svF A c f) j ≤ A 138 (7 * f + j))) then A 138 (7 * f + j) else svL A c f (svF A c f) j)) else svL A c f (svF A c f) j) = svL A c f (svF A c f) (j + 1) := by
          show _ = if qualB A c f j = true then lesser (svL A c f (svF A c f) j) (A 138 (7 * f + j)) else svL A c f (svF A c f) j
          unfold qualB lesser
          rw [p1, Int.toNat_natCast]
          cases docB A (7 * f + j) (N0 3) <;> by_cases e1 : A 136 (7 * f + j) = A 119 c <;> by_cases e2 : A 122 c = -1 <;> by_cases e3 : A 122 c ≤ A 138 (7 * f + j) <;> simp [b2i, e1, e2, e3]
        rw [this]
        exact hR2
    · refine ⟨by omega, by omega, ?_⟩
      rw [if_neg (by omega)]
      refine ⟨⟨by omega, by omega⟩, ?_⟩
      rintro i rfl
      have : svF A c (f + 1) = svL A c f (svF A c f) n := by
        show svL A c f (svF A c f) (A 130 f).toNat = _
        rw [hn, Int.toNat_natCast]
      rw [← this]
      exact hR
  · rw [if_neg (by omega)]
    exact k
theorem XS.inj1 (x : XS K D N M X Z C Wd A h) {i j : Nat} (r : Rl1 (N 1) (X 1) A) (l : M 1 = N 1) (hi : i < N 1) (hj : j < N 1) : Z 1 i = Z 1 j ↔ i = j := by
  constructor
  · intro e
    have a := x.int 1 i 0 (by omega)
    have b := x.int 1 j 0 (by omega)
    have c := (r.2.2.1 i hi).1
    have d := (r.2.2.1 j hj).1
    rw [e] at a
    omega
  · intro e
    rw [e]
theorem rok_ob {h : Hp} {a t : Nat} (o : ob h a t) (ht : t ∈ cLs) : rok h a := Or.inr ⟨o.1, o.2.1, Or.inl (by rw [o.2.2]; exact ht)⟩
theorem x_serves {T : Nat} {Q : Rs → Hp → Prop} (x : XS K D N N X Z C Wd A h) (r : Rel T N X C Wd A) {c f : Nat} (hc : c < N 8) (hf : f < N 9) (hh : A 122 c ≠ -1) (k : Q (rV (vI (fsL A c f (A 130 f).toNat))) h) : mX20_serves (Z 9 f) (Z 8 c) h Q := by
  obtain ⟨r0, r1, r2, r3, r4, r5, r6, r7, r8, r9, r10, r11, rw0⟩ := id r
  obtain ⟨y1, y2, y3, y4, y5⟩ := r9.2.2 f hf
  obtain ⟨c1, c2, c3, c4, c5, c6⟩ := r8.2.2 c hc
  obtain ⟨s1, s2, s3, s4, d, s5, s6, s7⟩ := r3
  obtain ⟨n, hn⟩ : ∃ n : Nat, A 130 f = n := ⟨(A 130 f).toNat, by omega⟩
  rw [hn, Int.toNat_natCast] at k
  have o9 := x.obj 9 f hf
  have o8 := x.obj 8 c hc
  obtain ⟨t1, t2, t3, t4⟩ := x.par 9 f 3 7 1 hf
  obtain ⟨u1, u2, _, u3⟩ := x.arr 9 f 5 7 hf
  obtain ⟨w1, w2, _, w3⟩ := x.arr 9 f 9 7 hf
  obtain ⟨v1, v2⟩ := x.ref 8 c 4 1 hc (by omega)
  have z9 : hR h (Z 9 f) 12 = 50 := by
    obtain ⟨⟨own, x⟩, _⟩ := x
    exact (x.o 9 f (by decide) (by decide) hf).2.2.2.2.2.2 12 (by decide)
  have e3 : hI h (Z 8 c) 3 = A 122 c := (x.int 8 c 3 hc).trans c4.1
  have e23 : hI h 50 23 = d := (x.sc 23).trans s5
  have dl : d < 4096 := Nat.lt_of_lt_of_le s6 (Nat.le_trans (Nat.pow_le_pow_right (by decide) s2) (by decide : 2 ^ 12 ≤ 4096))
  unfold mX20_serves
  rw [x.int 9 f 2 hf, y1.1, hn, t2, u2, w2, e3, e23]
  refine wh1_of (fun (i : Int) => ∃ j : Nat, j ≤ n ∧ i = j ∧ fsL A c f j = -1) (fun i => n - i.toNat) ?_ ⟨0, Nat.zero_le _, rfl, rfl⟩
  rintro R i ⟨j, hj, rfl, hfs⟩ kk
  refine ⟨o9, ?_⟩
  by_cases z : j < n
  · rw [if_pos (by omega), Int.toNat_natCast]
    have j7 : j < 7 := by omega
    obtain ⟨z1, z2, z3, z4, z5, z6, z7, z8⟩ := y5 j (by omega)
    obtain ⟨t5, t6⟩ := t4 j j7
    obtain ⟨a, ha⟩ : ∃ a : Nat, A 142 (7 * f + j) = a := ⟨(A 142 (7 * f + j)).toNat, by omega⟩
    have la : (X 9 f (af 3 j)).toNat < N 1 := by omega
    have lb : (X 8 c 4).toNat < N 1 := by omega
    have er : hR h (hR h (Z 9 f) 3) j = Z 1 (X 9 f (af 3 j)).toNat := by
      rw [t5]
      unfold rfZ
      rw [if_neg (by omega)]
    rw [er, v1, u3 j j7, w3 j j7, z3.1, z7.1, ha]
    have eq : (Z 1 (X 9 f (af 3 j)).toNat = Z 1 (X 8 c 4).toNat) ↔ A 136 (7 * f + j) = A 119 c := by
      rw [x.inj1 r1 rfl la lb]
      omega
    have ed : iand (a : Int) (d : Int) ≠ 0 ↔ docB A (7 * f + j) (A 75 4).toNat = true := by
      rw [and_ne (by omega) dl, doc_ex, s1, Int.toNat_natCast, ha, Int.toNat_natCast]
      constructor
      · rintro ⟨w, h1, h2⟩
        have wl : w < N 3 := by
          apply Classical.byContradiction
          intro wn
          have : d.testBit w = false := Nat.testBit_lt_two_pow (Nat.lt_of_lt_of_le s6 (Nat.pow_le_pow_right (by decide) (by omega)))
          rw [this] at h2
          cases h2
        exact ⟨w, wl, (s7 w wl).1 h2, h1⟩
      · rintro ⟨w, h1, h2, h3⟩
        exact ⟨w, h3, (s7 w h1).2 h2⟩
    have oa := x.obj 1 _ la
    have ob := x.obj 1 _ lb
    have ba := x.big 1 _ la
    refine ⟨t1, by omega, by omega, o8, Or.inr ⟨rok_ob oa (by decide), rok_ob ob (by decide), Or.inl (by show 50 ≤ _; omega)⟩, fun _ => ⟨u1, by omega, fun _ => ⟨w1, by omega, z9⟩⟩, ?_⟩
    have step : fsL A c f (j + 1) = if qualB A c f j = true then A 138 (7 * f + j) else -1 := by
      show (if fsL A c f j ≠ -1 then fsL A c f j else if qualB A c f j = true then A 138 (7 * f + j) else -1) = _
      rw [if_neg (fun z => z hfs)]
    have cond : (¬ (Z 1 (X 9 f (af 3 j)).toNat ≠ Z 1 (X 8 c 4).toNat) ∧ (¬ (A 138 (7 * f + j) < A 122 c) ∧ ¬ (iand (a : Int) (d : Int) = 0))) ↔ qualB A c f j = true := by
      unfold qualB
      rw [Bool.and_eq_true, Bool.and_eq_true, Bool.and_eq_true, ← ed, decide_eq_true_eq, decide_eq_true_eq, decide_eq_true_eq, ← eq]
      constructor
      · rintro ⟨h1, h2, h3⟩
        exact ⟨⟨⟨h3, Classical.byContradiction h1⟩, hh⟩, by omega⟩
      · rintro ⟨⟨⟨h1, h2⟩, h3⟩, h4⟩
        exact ⟨fun z => z h2, by omega, h1⟩
    by_cases q : qualB A c f j = true
    · rw [if_pos (cond.2 q)]
      rw [if_pos q] at step
      refine ⟨u1, by omega, ?_⟩
      have stay : ∀ m, j < m → fsL A c f m = A 138 (7 * f + j) := by
        intro m
        induction m with
        | zero => intro h; omega
        | succ m ih =>
          intro hm
          by_cases e : j = m
          · subst e
            exact step
          · show (if fsL A c f m ≠ -1 then fsL A c f m else if qualB A c f m = true then A 138 (7 * f + m) else -1) = _
            rw [ih (by omega), if_pos (by omega)]
      rw [stay n z] at k
      exact k
    · rw [if_neg (fun z => q (cond.1 z))]
      rw [if_neg q] at step
      refine ⟨⟨by omega, by omega⟩, ?_⟩
      rintro i rfl
      exact kk _ ⟨j + 1, z, rfl, step⟩ (by omega)
  · have : j = n := by omega
    subst this
    rw [if_neg (by omega)]
    rw [hfs] at k
    exact k
theorem x_served {T : Nat} {Q : Rs → Hp → Prop} (x : XS K D N N X Z C Wd A h) (r : Rel T N X C Wd A) {c : Nat} (hc : c < N 8) (k : Q (rV (vI (svF A c (A 75 80).toNat))) h) : mX19_served (Z 8 c) h Q := by
  have r8 := r.2.2.2.2.2.2.2.2.1
  have r9 := r.2.2.2.2.2.2.2.2.2.1
  have c4 := (r8.2.2 c hc).2.2.2.1
  have e : vJ2_size 62 h = N 9 := x.size 9
  have e3 : hI h (Z 8 c) 3 = A 122 c := (x.int 8 c 3 hc).trans c4.1
  have z8 : hR h (Z 8 c) 6 = 50 := by
    obtain ⟨⟨own, x⟩, _⟩ := x
    exact (x.o 8 c (by decide) (by decide) hc).2.2.2.2.2.2 6 (by decide)
  have n9 := r9.2.1
  rw [r9.1, Int.toNat_natCast] at k
  have none : A 122 c = -1 → ∀ f, svF A c f = -1 := by
    intro z f
    induction f with
    | zero => rfl
    | succ f ih =>
      show svL A c f (svF A c f) (A 130 f).toNat = -1
      rw [ih]
      have : ∀ m, svL A c f (-1) m = -1 := by
        intro m
        induction m with
        | zero => rfl
        | succ m im =>
          show (if qualB A c f m = true then lesser (svL A c f (-1) m) (A 138 (7 * f + m)) else svL A c f (-1) m) = -1
          have : qualB A c f m = false := by
            unfold qualB
            simp [z]
          rw [this, if_neg (by decide), im]
      exact this _
  unfold mX19_served
  refine wh3_of (fun b (i : Int) g => g = h ∧ ∃ j : Nat, j ≤ N 9 ∧ i = j ∧ b = svF A c j ∧ -1 ≤ b) (fun _ i _ => N 9 - i.toNat) ?_ ⟨rfl, 0, Nat.zero_le _, rfl, rfl, by decide⟩
  rintro R b i g ⟨rfl, j, hj, rfl, rfl, hb⟩ kk
  refine ⟨x.obj 8 c hc, z8, x.osize 9, ?_⟩
  rw [e, e3]
  by_cases z : j < N 9 ∧ A 122 c ≠ -1
  · rw [if_pos ⟨by omega, z.2⟩]
    have g0 : vJ2_get 62 (j : Int) g = Z 9 j := x.get 9 (by omega) (by omega)
    rw [g0]
    refine ⟨x.oget 9 (by omega) (by omega), x.obj 9 j z.1, ?_⟩
    refine x_serves x r hc z.1 z.2 ?_
    rw [kI_v]
    rintro v rfl
    refine ⟨⟨by omega, by omega⟩, ?_⟩
    rintro i rfl
    obtain ⟨y1, y2, y3, y4, y5⟩ := r9.2.2 j z.1
    have h0 : ∀ i, i < (A 130 j).toNat → 0 ≤ A 138 (7 * j + i) := fun i hi => by
      have := y5 i (by omega)
      omega
    have hm : ∀ p q, p < q → q < (A 130 j).toNat → A 138 (7 * j + p) ≤ A 138 (7 * j + q) := by
      intro p q hpq hq
      induction q with
      | zero => omega
      | succ q iq =>
        have a1 := (y5 q (by omega)).2.2.2.2.2.2.2 (by omega)
        have a2 := (y5 (q + 1) (by omega)).2.2.1.2.1
        by_cases w : p = q
        · subst w
          omega
        · have := iq (by omega) (by omega)
          omega
    obtain ⟨f1, f2⟩ := fs_eq (c := c) (f := j) (A 130 j).toNat hb h0 hm
    have ev : (if ¬ (fsL A c j (A 130 j).toNat = -1) ∧ ((svF A c j = -1) ∨ (¬ (svF A c j ≤ fsL A c j (A 130 j).toNat))) then fsL A c j (A 130 j).toNat else svF A c j) = svF A c (j + 1) := by
      show _ = svL A c j (svF A c j) (A 130 j).toNat
      rw [f1]
      by_cases w : fsL A c j (A 130 j).toNat ≠ -1 ∧ (svF A c j = -1 ∨ fsL A c j (A 130 j).toNat < svF A c j)
      · rw [if_pos w, if_pos ⟨w.1, by omega⟩]
      · rw [if_neg w, if_neg (fun q => w ⟨q.1, by omega⟩)]
    rw [ev]
    refine kk _ _ _ ⟨rfl, j + 1, z.1, rfl, rfl, ?_⟩ (by omega)
    rw [← ev]
    by_cases w : fsL A c j (A 130 j).toNat = -1
    · rw [if_neg (fun q => q.1 w)]
      exact hb
    · obtain ⟨i, hi, ei⟩ := f2 w
      have := h0 i hi
      split <;> omega
  · rw [if_neg (fun w => z ⟨by omega, w.2⟩)]
    by_cases w : A 122 c = -1
    · rw [none w] at k ⊢
      exact k
    · have : j = N 9 := by
        have : ¬ j < N 9 := fun q => z ⟨q, w⟩
        omega
      rw [this]
      exact k
end
def gCallOf (A : Nat → Nat → Int) (p1 p2 : Int) : Int × Int × (Nat → Nat → Int) := if p1 < 0 ∨ A 75 69 ≤ p1 ∨ p2 < 0 ∨ 4 < p2 then (1, 0, uA A 75 0 1) else (0, if p2 = 0 then A 119 p1.toNat else if p2 = 1 then A 120 p1.toNat else if p2 = 2 then A 121 p1.toNat else if p2 = 3 then A 122 p1.toNat else svF A p1.toNat (A 75 80).toNat, uA A 75 0 0)
theorem docB_u0 (A : Nat → Nat → Int) (v : Int) (k : Nat) : ∀ n, docB (uA A 75 0 v) k n = docB A k n
  | 0 => rfl
  | n + 1 => by
    show (docB (uA A 75 0 v) k n || (decide (A 88 n = 1) && (A 142 k).toNat.testBit n)) = (docB A k n || (decide (A 88 n = 1) && (A 142 k).toNat.testBit n))
    rw [docB_u0 A v k n]
theorem qualB_u0 (A : Nat → Nat → Int) (v : Int) (c f j : Nat) : qualB (uA A 75 0 v) c f j = qualB A c f j := by
  show (docB (uA A 75 0 v) (7 * f + j) (A 75 4).toNat && decide (A 136 (7 * f + j) = A 119 c) && decide (A 122 c ≠ -1) && decide (A 122 c ≤ A 138 (7 * f + j))) = _
  rw [docB_u0]
  rfl
theorem svL_u0 (A : Nat → Nat → Int) (v : Int) (c f : Nat) (b : Int) : ∀ n, svL (uA A 75 0 v) c f b n = svL A c f b n
  | 0 => rfl
  | n + 1 => by
    show (if qualB (uA A 75 0 v) c f n = true then lesser (svL (uA A 75 0 v) c f b n) (A 138 (7 * f + n)) else svL (uA A 75 0 v) c f b n) = if qualB A c f n = true then lesser (svL A c f b n) (A 138 (7 * f + n)) else svL A c f b n
    rw [svL_u0 A v c f b n, qualB_u0]
theorem svF_u0 (A : Nat → Nat → Int) (v : Int) (c : Nat) : ∀ n, svF (uA A 75 0 v) c n = svF A c n
  | 0 => rfl
  | n + 1 => by
    show svL (uA A 75 0 v) c n (svF (uA A 75 0 v) c n) (A 130 n).toNat = svL A c n (svF A c n) (A 130 n).toNat
    rw [svF_u0 A v c n, svL_u0]
section
variable {K : Hp} {D : Nat} {N M : Nat → Nat} {X : Nat → Nat → Nat → Int} {Z : Nat → Nat → Nat} {C : Nat → Nat → List Int} {Wd : Nat → List Int} {A : Nat → Nat → Int} {h : Hp}
theorem m_callOf {T : Nat} {N0 : Nat → Nat} {X0 : Nat → Nat → Nat → Int} {C0 : Nat → Nat → List Int} {Wd0 : Nat → List Int} {Q : Rs → Hp → Prop} (x : XS K D N M X Z C Wd A h) (r : Rel T N0 X0 C0 Wd0 A) {p1 p2 : Int} (k : ∀ h', XS K D N M X Z C Wd (gCallOf A p1 p2).2.2 h' → hL h' 158 = hL h 158 → Q (rV (vI (gCallOf A p1 p2).2.1)) h') : mX4_callOf p1 p2 h Q := by
  have r1 := r.2.2.2.2.2.2.2.2.1.1
  have r2 := r.2.2.2.2.2.2.2.2.1.2.1
  unfold mX4_callOf
  unfold gCallOf at k
  refine m_isCall x (fun a1 a2 y => ?_) (fun z y => ?_)
  · rw [kI_v, if_pos (by decide)]
    rintro v rfl
    refine m_right rfl (by decide) (fun z => ?_) (fun z => ?_)
    · have z := b2i_1 z
      rw [if_neg (by omega)] at k
      rw [kI_v, if_neg (by decide), y.ra 119, y.ra 120, y.ra 121, y.ra 122]
      have k := k _ y rfl
      by_cases c0 : p2 = 0
      · rw [if_pos (by omega)]
        rw [if_pos c0] at k
        exact ⟨by omega, by omega, k⟩
      rw [if_neg (by omega)]
      rw [if_neg c0] at k
      by_cases c1 : p2 = 1
      · rw [if_pos (by omega)]
        rw [if_pos c1] at k
        exact ⟨by omega, by omega, k⟩
      rw [if_neg (by omega)]
      rw [if_neg c1] at k
      by_cases c2 : p2 = 2
      · rw [if_pos (by omega)]
        rw [if_pos c2] at k
        exact ⟨by omega, by omega, k⟩
      rw [if_neg (by omega)]
      rw [if_neg c2] at k
      by_cases c3 : p2 = 3
      · rw [if_pos (by omega)]
        rw [if_pos c3] at k
        exact ⟨by omega, by omega, k⟩
      rw [if_neg (by omega)]
      rw [if_neg c3] at k
      obtain ⟨p, rfl⟩ : ∃ n : Nat, p1 = n := ⟨p1.toNat, by omega⟩
      refine m_served y (T := T + 1) (N0 := N0) (X0 := X0) (C0 := C0) (Wd0 := Wd0) (r.thr 0) (by omega) ?_
      rw [kI_v, svF_u0]
      exact k
    · have z := b2i_0 z
      rw [if_pos (by omega)] at k
      rw [kI_v, if_pos (by decide)]
      exact k _ y.t5 rfl
  · rw [if_pos (by omega)] at k
    rw [kI_v, if_neg (by decide)]
    exact k _ y rfl
theorem x_callOf {T : Nat} {Q : Rs → Hp → Prop} (x : XS K D N N X Z C Wd A h) (r : Rel T N X C Wd A) (hD : D ≤ 780000) {p1 p2 : Int} (k : ∀ h', OpT K T (D + 12000) A (gCallOf A p1 p2) h' → Q (rV (vI (gCallOf A p1 p2).1)) h') : mX0_callOf p1 p2 h Q := by
  obtain ⟨r0, r1, r2, r3, r4, r5, r6, r7, r8, r9, r10, r11, rw0⟩ := id r
  obtain ⟨b1, b2, b3, b4⟩ := x.hb
  have q1 := r8.1
  unfold mX0_callOf mX1_callOf
  unfold gCallOf at k
  refine x_callAt x (by omega) (fun a1 a2 a3 => ?_) (fun z y o t => ?_)
  · obtain ⟨p, rfl⟩ : ∃ n : Nat, p1 = n := ⟨p1.toNat, by omega⟩
    rw [Int.toNat_natCast] at k a3 ⊢
    obtain ⟨c1, c2, c3, c4, c5, c6⟩ := r8.2.2 p a3
    have o8 := x.obj 8 p a3
    obtain ⟨v1, v2⟩ := x.ref 8 p 4 1 a3 (by omega)
    have lt : (X 8 p 4).toNat < N 1 := by omega
    have e0 : hI h (Z 1 (X 8 p 4).toNat) 0 = A 119 p := by
      rw [x.int 1 _ 0 lt, (r1.2.2.1 _ lt).1]
      omega
    rw [kR_v, v1, e0, x.int 8 p 1 a3, x.int 8 p 2 a3, x.int 8 p 3 a3, c2.1, c3, c4.1]
    by_cases c : p2 < 0 ∨ 4 < p2
    · rw [if_pos (by omega)] at k
      rw [if_neg (by omega), if_neg (by omega), if_neg (by omega), if_neg (by omega), if_neg (by omega)]
      have y : XS K (D + 2) N N X Z C Wd A (nw h 41 0 6) := x.thr (by omega) (by omega) (by omega)
      exact ⟨by omega, by omega, thr_ob b1 41, k _ ⟨N, X, Z, C, Wd, y.more (by omega) (by omega), r.thr 1, fun z => absurd z ne10⟩⟩
    · rw [if_neg (by omega)] at k
      have kk : ∀ v, v = (if p2 = 0 then A 119 p else if p2 = 1 then A 120 p else if p2 = 2 then A 121 p else if p2 = 3 then A 122 p else svF A p (A 75 80).toNat) → ∀ g, g = sL h 158 0 v → Q (rV (vI 0)) g := by
        rintro v ev g rfl
        exact k _ ⟨N, X, Z, C, Wd, (x.out).more (by omega) (by omega), r.thr 0, fun _ => (by rw [hL_sL, if_pos ⟨rfl, rfl⟩]; exact ev)⟩
      by_cases d0 : p2 = 0
      · rw [if_pos d0]; exact ⟨o8, x.obj 1 _ lt, kk _ (by rw [if_pos d0])⟩
      by_cases d1 : p2 = 1
      · rw [if_neg d0, if_pos d1]; exact ⟨o8, kk _ (by rw [if_neg d0, if_pos d1])⟩
      by_cases d2 : p2 = 2
      · rw [if_neg d0, if_neg d1, if_pos d2]; exact ⟨o8, kk _ (by rw [if_neg d0, if_neg d1, if_pos d2])⟩
      by_cases d3 : p2 = 3
      · rw [if_neg d0, if_neg d1, if_neg d2, if_pos d3]; exact ⟨o8, kk _ (by rw [if_neg d0, if_neg d1, if_neg d2, if_pos d3])⟩
      rw [if_neg d0, if_neg d1, if_neg d2, if_neg d3, if_pos (by omega)]
      refine ⟨o8, x_served x r a3 ?_⟩
      exact kk _ (by rw [if_neg d0, if_neg d1, if_neg d2, if_neg d3])
  · rw [if_pos (by omega)] at k
    exact ⟨o, k _ ⟨N, X, Z, C, Wd, y.more (by omega) (by omega), r.thr 1, fun z => absurd z ne10⟩⟩
end
