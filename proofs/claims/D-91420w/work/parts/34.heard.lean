set_option maxRecDepth 100000
set_option maxHeartbeats 1000000
set_option linter.unusedSimpArgs false
set_option linter.unusedVariables false
/-! SPECS, 19: who hears whom -/
def onB (A : Nat → Nat → Int) (p : Nat) (t : Int) : Bool := decide (A 115 p / (2 ^ ((t % 96) / 4).toNat : Nat) % 2 = 1)
def nightB (t : Int) : Bool := decide (t % 96 < 24 ∨ 72 ≤ t % 96)
def hearB (A : Nat → Nat → Int) (b a : Nat) (t : Int) : Bool := onB A a t && onB A b t && decide (mi A a b ≤ (if nightB t = true then 2 else 1) * A 116 a)
def anyB (f : Nat → Bool) : Nat → Bool
  | 0 => false
  | n + 1 => anyB f n || f n
theorem any_iff (f : Nat → Bool) (n : Nat) : anyB f n = true ↔ ∃ i, i < n ∧ f i = true := by
  induction n with
  | zero => exact ⟨fun z => absurd (show false = true from z) (by decide), fun ⟨w, hw, _⟩ => absurd hw (Nat.not_lt_zero _)⟩
  | succ n ih =>
    show (anyB f n || f n) = true ↔ _
    rw [Bool.or_eq_true, ih]
    constructor
    · rintro (⟨i, h1, h2⟩ | h1)
      · exact ⟨i, by omega, h2⟩
      · exact ⟨n, by omega, h1⟩
    · rintro ⟨i, h1, h2⟩
      by_cases e : i = n
      · subst e
        exact Or.inr h2
      · exact Or.inl ⟨i, by omega, h2⟩
def baseB (A : Nat → Nat → Int) (b : Nat) : Bool := decide (2 ≤ A 79 b)
def hset (A : Nat → Nat → Int) (n p : Nat) (t : Int) : Nat → Nat → Bool
  | 0, b => decide (b = p)
  | j + 1, b => hset A n p t j b || anyB (fun a => hset A n p t j a && hearB A b a (t + j)) n
def nbB (A : Nat → Nat → Int) (n p : Nat) (t : Int) (j : Nat) : Bool := anyB (fun b => hset A n p t (j + 1) b && baseB A b) n
def hrd (nb : Nat → Bool) (t : Int) : Nat → Nat → Int
  | 0, _ => -1
  | f + 1, q => if nb q = true then t + q + 1 else hrd nb t f (q + 1)
def heardF (A : Nat → Nat → Int) (n p : Nat) (t : Int) : Int := if baseB A p = true then t else hrd (nbB A n p t) t 672 0
theorem hrd_rng (nb : Nat → Bool) (t : Int) : ∀ f q, hrd nb t f q = -1 ∨ (t + q + 1 ≤ hrd nb t f q ∧ hrd nb t f q ≤ t + q + f)
  | 0, q => Or.inl rfl
  | f + 1, q => by
    have := hrd_rng nb t f (q + 1)
    show (if nb q = true then t + q + 1 else hrd nb t f (q + 1)) = -1 ∨ (t + q + 1 ≤ (if nb q = true then t + q + 1 else hrd nb t f (q + 1)) ∧ (if nb q = true then t + q + 1 else hrd nb t f (q + 1)) ≤ t + q + (f + 1 : Nat))
    split
    · right
      omega
    · omega
theorem mi_rng {n : Nat} {x : Nat → Nat → Int} {A : Nat → Nat → Int} (r : Rl1 n x A) {a b : Nat} (ha : a < n) (hb : b < n) : 0 ≤ mi A a b ∧ mi A a b ≤ 792 := by
  obtain ⟨_, a1, a2, _⟩ := r.2.2.1 a ha
  obtain ⟨_, b1, b2, _⟩ := r.2.2.1 b hb
  unfold mi
  split <;> split <;> omega
theorem mi_sym (A : Nat → Nat → Int) (a b : Nat) : mi A a b = mi A b a := by
  unfold mi
  repeat' split
  all_goals omega
section
variable {K : Hp} {D : Nat} {N M : Nat → Nat} {X : Nat → Nat → Nat → Int} {Z : Nat → Nat → Nat} {C : Nat → Nat → List Int} {Wd : Nat → List Int} {A : Nat → Nat → Int} {h : Hp}
theorem x_miles (x : XS K D N M X Z C Wd A h) (r : Rl1 (N 1) (X 1) A) (l : N 1 ≤ M 1) {a b : Nat} (ha : a < N 1) (hb : b < N 1) : oX5_miles (Z 1 a) (Z 1 b) h ∧ vX5_miles (Z 1 a) (Z 1 b) h = mi A a b := by
  obtain ⟨_, a1, a2, _⟩ := r.2.2.1 a ha
  obtain ⟨_, b1, b2, _⟩ := r.2.2.1 b hb
  unfold oX5_miles vX5_miles oJ4_abs vJ4_abs
  rw [x.int 1 a 1 (by omega), x.int 1 a 2 (by omega), x.int 1 b 1 (by omega), x.int 1 b 2 (by omega), a1.1, a2.1, b1.1, b2.1]
  refine ⟨⟨x.obj 1 a (by omega), x.obj 1 b (by omega), ⟨by omega, by omega⟩, fun _ => ⟨by omega, by omega⟩, ⟨by omega, by omega⟩, fun _ => ⟨by omega, by omega⟩, ?_, ?_⟩, ?_⟩
  · constructor <;> (split <;> split <;> omega)
  · constructor <;> (split <;> split <;> omega)
  · unfold mi
    repeat' split
    all_goals omega
theorem m_miles {n : Nat} {y : Nat → Nat → Int} (x : XS K D N M X Z C Wd A h) (r : Rl1 n y A) {a b : Nat} (ha : a < n) (hb : b < n) : oX4_miles a b h ∧ vX4_miles a b h = mi A a b := by
  obtain ⟨_, a1, a2, _⟩ := r.2.2.1 a ha
  obtain ⟨_, b1, b2, _⟩ := r.2.2.1 b hb
  have n12 := r.2.1
  unfold oX4_miles vX4_miles oX4_abs vX4_abs
  rw [Int.toNat_natCast, Int.toNat_natCast, x.ra 76, x.ra 76, x.ra 77, x.ra 77]
  refine ⟨⟨by omega, by omega, by omega, by omega, ⟨by omega, by omega⟩, fun _ => ⟨by omega, by omega⟩, ⟨by omega, by omega⟩, fun _ => ⟨by omega, by omega⟩, ?_, ?_⟩, ?_⟩
  · constructor <;> (split <;> split <;> omega)
  · constructor <;> (split <;> split <;> omega)
  · unfold mi
    repeat' split
    all_goals omega
theorem night_eq {t : Int} (h0 : 0 ≤ t) (h : Hp) : vX1_isNight t h = (if nightB t = true then 1 else 0) ∧ vX4_isNight t h = (if nightB t = true then 1 else 0) := by
  unfold vX1_isNight vX4_isNight b2i nightB
  rw [Int.tmod_eq_emod_of_nonneg h0]
  simp only [decide_eq_true_eq]
  constructor <;> (split <;> split <;> omega)
theorem on_eq {t v : Int} (h0 : 0 ≤ t) (hv : nm v) : b2i (¬ ((iand (ishr v (Int.tdiv (Int.tmod t 96) 4)) 1) ≠ 1)) = if decide (v / (2 ^ ((t % 96) / 4).toNat : Nat) % 2 = 1) = true then 1 else 0 := by
  rw [Int.tmod_eq_emod_of_nonneg h0, Int.tdiv_eq_ediv_of_nonneg (by omega), iand_1, ishr_eqI hv (by omega) (by omega)]
  unfold b2i
  simp only [decide_eq_true_eq]
  split <;> split <;> omega
theorem x_hears (x : XS K D N M X Z C Wd A h) (r : Rl1 (N 1) (X 1) A) (l : N 1 ≤ M 1) {a b : Nat} {t : Int} (ha : a < N 1) (hb : b < N 1) (h0 : 0 ≤ t) : oX5_hears (Z 1 b) (Z 1 a) t h ∧ (vX5_hears (Z 1 b) (Z 1 a) t h ≠ 0 ↔ hearB A b a t = true) := by
  obtain ⟨m1, m2⟩ := x_miles x r l hb ha
  obtain ⟨_, _, _, _, _, _, ah, ar, _⟩ := r.2.2.1 a ha
  obtain ⟨_, _, _, _, _, _, bh, br, _⟩ := r.2.2.1 b hb
  have o1 := x.obj 1 a (by omega)
  have o2 := x.obj 1 b (by omega)
  have e1 : vX5_isOn (Z 1 a) t h = if onB A a t = true then 1 else 0 := by
    unfold vX5_isOn onB
    rw [x.int 1 a 8 (by omega), ah.1]
    exact on_eq h0 ⟨by omega, by omega⟩
  have e2 : vX5_isOn (Z 1 b) t h = if onB A b t = true then 1 else 0 := by
    unfold vX5_isOn onB
    rw [x.int 1 b 8 (by omega), bh.1]
    exact on_eq h0 ⟨by omega, by omega⟩
  have e9 : hI h (Z 1 a) 9 = A 116 a := (x.int 1 a 9 (by omega)).trans ar.1
  refine ⟨⟨o2, o2, fun _ => ⟨o1, o1⟩, fun _ => ⟨m1, fun _ => ⟨o1, by rw [e9]; exact ⟨by omega, by omega⟩⟩, fun _ => o1⟩⟩, ?_⟩
  unfold vX5_hears hearB
  rw [e1, e2, m2, e9, (night_eq h0 h).1, mi_sym A b a]
  cases onB A a t <;> cases onB A b t <;> cases nightB t <;> simp [b2i]
theorem m_hears {n : Nat} {y : Nat → Nat → Int} (x : XS K D N M X Z C Wd A h) (r : Rl1 n y A) {a b : Nat} {t : Int} (ha : a < n) (hb : b < n) (h0 : 0 ≤ t) : oX4_hears b a t h ∧ (vX4_hears b a t h ≠ 0 ↔ hearB A b a t = true) := by
  obtain ⟨m1, m2⟩ := m_miles x r ha hb
  obtain ⟨_, _, _, _, _, _, ah, ar, _⟩ := r.2.2.1 a ha
  obtain ⟨_, _, _, _, _, _, bh, br, _⟩ := r.2.2.1 b hb
  have n12 := r.2.1
  have e1 : vX4_isOn a t h = if onB A a t = true then 1 else 0 := by
    unfold vX4_isOn onB
    rw [Int.toNat_natCast, x.ra 115]
    exact on_eq h0 ⟨by omega, by omega⟩
  have e2 : vX4_isOn b t h = if onB A b t = true then 1 else 0 := by
    unfold vX4_isOn onB
    rw [Int.toNat_natCast, x.ra 115]
    exact on_eq h0 ⟨by omega, by omega⟩
  have e9 : hI h 116 ((a : Int)).toNat = A 116 a := by rw [Int.toNat_natCast, x.ra 116]
  refine ⟨⟨⟨by omega, by omega⟩, fun _ => ⟨by omega, by omega⟩, fun _ => ⟨m1, by omega, by omega, fun _ => by rw [e9]; exact ⟨by omega, by omega⟩, fun _ => by rw [e9]; exact ⟨by omega, by omega⟩⟩⟩, ?_⟩
  unfold vX4_hears hearB
  rw [e1, e2, m2, e9, (night_eq h0 h).2]
  have c2 : A 116 a * 2 = 2 * A 116 a := Int.mul_comm _ _
  rw [c2]
  cases onB A a t <;> cases onB A b t <;> cases nightB t <;> simp [b2i]
theorem x_heardAt (x : XS K D N M X Z C Wd A h) (r : Rl1 (N 1) (X 1) A) {p : Nat} {t : Int} {Q : Rs → Hp → Prop} (hp : p < N 1) (h0 : 0 ≤ t) (h1 : t ≤ 2687) (k : Q (rV (vI (heardF A (N 1) p t))) h) : mX1_heardAt (Z 1 p) t h Q := by
  have l := x.le 1
  have n12 := r.2.1
  have e : vJ2_size 54 h = N 1 := x.size 1
  obtain ⟨i0, _, _, _, ib, _⟩ := r.2.2.1 p hp
  have p2 : ∀ m : Nat, m ≤ 12 → 2 ^ m ≤ 4096 := fun m hm => Nat.le_trans (Nat.pow_le_pow_right (by decide) hm) (by decide : 2 ^ 12 ≤ 4096)
  have pn := p2 (N 1) n12
  unfold mX1_heardAt
  rw [x.int 1 p 5 (by omega), x.int 1 p 0 (by omega), ib.2.1, i0, ishl_1 (by omega), e]
  refine ⟨x.obj 1 p (by omega), ?_⟩
  unfold heardF at k
  by_cases cb : baseB A p = true
  · have cb' : 2 ≤ A 79 p := by simpa [baseB] using cb
    rw [if_pos cb] at k
    rw [if_pos (by omega)]
    exact k
  rw [if_neg cb] at k
  have cb' : ¬ (2 ≤ A 79 p) := by simpa [baseB] using cb
  rw [if_neg (by omega)]
  rintro v rfl
  refine wh2_of (fun (s : Int) (q : Int) => ∃ (m j : Nat), s = m ∧ j ≤ 672 ∧ q = t + j ∧ m < 2 ^ (N 1) ∧ (∀ b, b < N 1 → m.testBit b = hset A (N 1) p t j b) ∧ (∀ b, b < N 1 → m.testBit b = true → baseB A b = false) ∧ hrd (nbB A (N 1) p t) t (672 - j) j = hrd (nbB A (N 1) p t) t 672 0) (fun _ q => (t + 672 - q).toNat) ?_ ⟨2 ^ p, 0, rfl, by omega, by omega, Nat.pow_lt_pow_right (by decide) hp, ?_, ?_, rfl⟩
  rotate_left
  · intro b hb
    rw [Nat.testBit_two_pow]
    show decide (p = b) = decide (b = p)
    by_cases z : p = b
    · simp [z]
    · simp [z, show ¬ (b = p) by omega]
  · intro b hb hbb
    rw [Nat.testBit_two_pow] at hbb
    have : p = b := by simpa using hbb
    subst this
    simpa using cb
  rintro R s q ⟨m, j, rfl, hj, rfl, hm, hb, hbase, hh⟩ kk
  refine ⟨⟨by omega, by omega⟩, ?_⟩
  by_cases cj : j < 672
  case neg =>
    have : j = 672 := by omega
    subst this
    rw [if_neg (by omega)]
    rw [← hh] at k
    exact k
  rw [if_pos (by omega)]
  refine wh2_of (fun (s : Int) (i : Int) => ∃ (u a : Nat), s = u ∧ a ≤ N 1 ∧ i = a ∧ u < 2 ^ (N 1) ∧ (∀ b, b < N 1 → u.testBit b = (hset A (N 1) p t j b || anyB (fun a => hset A (N 1) p t j a && hearB A b a (t + j)) a)) ∧ (∀ b, b < N 1 → u.testBit b = true → baseB A b = false)) (fun _ i => (N 1 - i).toNat) ?_ ⟨m, 0, rfl, by omega, rfl, hm, fun b hb0 => by rw [hb b hb0]; simp [anyB], hbase⟩
  rintro R2 s i ⟨u, a, rfl, ha, rfl, hu, hub, hubase⟩ kk2
  refine ⟨x.osize 1, ?_⟩
  by_cases ca : a < N 1
  case neg =>
    have : a = N 1 := by omega
    subst this
    rw [if_neg (by omega)]
    refine ⟨⟨by omega, by omega⟩, ?_⟩
    rintro i rfl
    refine kk _ _ ⟨u, j + 1, rfl, by omega, by omega, hu, hub, hubase, ?_⟩ (by omega)
    rw [← hh]
    have : 672 - j = (672 - (j + 1)) + 1 := by omega
    rw [this]
    show _ = if nbB A (N 1) p t j = true then t + j + 1 else hrd (nbB A (N 1) p t) t (672 - (j + 1)) (j + 1)
    rw [if_neg]
    intro z
    obtain ⟨b, hb1, hb2⟩ := (any_iff _ _).1 z
    rw [Bool.and_eq_true] at hb2
    have := hubase b hb1 (by rw [hub b hb1]; exact hb2.1)
    rw [this] at hb2
    exact absurd hb2.2 (by decide)
  rw [if_pos (by omega), bit_eq (by omega) (by omega), hb a ca]
  by_cases ch : hset A (N 1) p t j a = true
  case neg =>
    rw [if_pos (by rw [if_neg ch]; decide)]
    refine ⟨⟨by omega, by omega⟩, ?_⟩
    rintro i rfl
    refine kk2 _ _ ⟨u, a + 1, rfl, ca, rfl, hu, fun b hb0 => ?_, hubase⟩ (by omega)
    rw [hub b hb0]
    show _ = (hset A (N 1) p t j b || (anyB (fun a => hset A (N 1) p t j a && hearB A b a (t + j)) a || (hset A (N 1) p t j a && hearB A b a (t + j))))
    have : hset A (N 1) p t j a = false := by simpa using ch
    rw [this]
    simp
  rw [if_neg (by rw [if_pos ch]; decide)]
  refine wh2_of (fun (s : Int) (i : Int) => ∃ (w c : Nat), s = w ∧ c ≤ N 1 ∧ i = c ∧ w < 2 ^ (N 1) ∧ (∀ b, b < N 1 → w.testBit b = (hset A (N 1) p t j b || anyB (fun a => hset A (N 1) p t j a && hearB A b a (t + j)) (if b < c then a + 1 else a))) ∧ (∀ b, b < N 1 → w.testBit b = true → baseB A b = false)) (fun _ i => (N 1 - i).toNat) ?_ ⟨u, 0, rfl, by omega, rfl, hu, fun b hb0 => by rw [hub b hb0, if_neg (by omega)], hubase⟩
  rintro R3 s i ⟨w, c, rfl, hc, rfl, hw, hwb, hwbase⟩ kk3
  by_cases cc : c < N 1
  case neg =>
    have : c = N 1 := by omega
    subst this
    rw [if_neg (by omega)]
    refine ⟨⟨by omega, by omega⟩, ?_⟩
    rintro i rfl
    exact kk2 _ _ ⟨w, a + 1, rfl, ca, rfl, hw, fun b hb0 => by rw [hwb b hb0, if_pos hb0], hwbase⟩ (by omega)
  rw [if_pos (by omega), bit_eq (by omega) (by omega)]
  have nx : ∀ (v : Bool), v = (hset A (N 1) p t j c || anyB (fun a => hset A (N 1) p t j a && hearB A c a (t + j)) (a + 1)) → ∀ w' : Nat, w' < 2 ^ (N 1) → w'.testBit c = v → (∀ b, b < N 1 → b ≠ c → w'.testBit b = w.testBit b) → (v = true → baseB A c = false) → R3 (w' : Int) ((c : Int) + 1) := by
    intro v hv w' hw' hc' hne hbc
    refine kk3 _ _ ⟨w', c + 1, rfl, cc, rfl, hw', fun b hb0 => ?_, fun b hb0 hbb => ?_⟩ (by omega)
    · by_cases z : b = c
      · subst z
        rw [hc', hv, if_pos (by omega)]
      · rw [hne b hb0 z, hwb b hb0]
        by_cases y : b < c
        · rw [if_pos y, if_pos (by omega)]
        · rw [if_neg y, if_neg (by omega)]
    · by_cases z : b = c
      · subst z
        exact hbc (by rw [← hc']; exact hbb)
      · rw [hne b hb0 z] at hbb
        exact hwbase b hb0 hbb
  have hc0 := hwb c cc
  rw [if_neg (Nat.lt_irrefl c)] at hc0
  have up : anyB (fun a => hset A (N 1) p t j a && hearB A c a (t + j)) (a + 1) = (anyB (fun a => hset A (N 1) p t j a && hearB A c a (t + j)) a || hearB A c a (t + j)) := by
    show (anyB (fun a => hset A (N 1) p t j a && hearB A c a (t + j)) a || (hset A (N 1) p t j a && hearB A c a (t + j))) = _
    rw [ch]
    simp
  by_cases cw : w.testBit c = true
  · rw [if_neg (by rw [if_pos cw]; decide)]
    refine ⟨⟨by omega, by omega⟩, ?_⟩
    rintro i rfl
    refine nx true ?_ w hw cw (fun _ _ _ => rfl) (fun _ => hwbase c cc cw)
    rw [cw] at hc0
    rw [up, ← Bool.or_assoc, ← hc0]
    rfl
  · have cw' : w.testBit c = false := by simpa using cw
    rw [if_pos (by rw [if_neg cw]; decide)]
    have ga : vJ2_get 54 (a : Int) h = Z 1 a := x.get 1 (by omega) (by omega)
    have gc : vJ2_get 54 (c : Int) h = Z 1 c := x.get 1 (by omega) (by omega)
    obtain ⟨hr1, hr2⟩ := x_hears x r l ca cc (t := t + j) (by omega)
    obtain ⟨_, _, _, _, icb, _⟩ := r.2.2.1 c cc
    rw [ga, gc, x.int 1 c 5 (by omega), icb.2.1]
    refine ⟨x.oget 1 (by omega) (by omega), x.obj 1 c (by omega), x.oget 1 (by omega) (by omega), x.obj 1 a (by omega), hr1, ?_⟩
    by_cases chr : hearB A c a (t + j) = true
    · rw [if_neg (fun z => z (hr2.2 chr))]
      rintro v rfl
      have both : (hset A (N 1) p t j c || anyB (fun a => hset A (N 1) p t j a && hearB A c a (t + j)) (a + 1)) = true := by
        rw [up, chr]
        simp
      by_cases bc : baseB A c = true
      · have bc' : 2 ≤ A 79 c := by simpa [baseB] using bc
        rw [if_pos (by omega)]
        refine ⟨⟨by omega, by omega⟩, ?_⟩
        have nb : nbB A (N 1) p t j = true := by
          refine (any_iff _ _).2 ⟨c, cc, ?_⟩
          rw [Bool.and_eq_true]
          refine ⟨?_, bc⟩
          show (hset A (N 1) p t j c || anyB (fun a => hset A (N 1) p t j a && hearB A c a (t + j)) (N 1)) = true
          rw [Bool.or_eq_true]
          right
          exact (any_iff _ _).2 ⟨a, ca, by rw [ch, chr]; rfl⟩
        have : 672 - j = (672 - (j + 1)) + 1 := by omega
        rw [this] at hh
        have hh : (if nbB A (N 1) p t j = true then t + j + 1 else hrd (nbB A (N 1) p t) t (672 - (j + 1)) (j + 1)) = hrd (nbB A (N 1) p t) t 672 0 := hh
        rw [if_pos nb] at hh
        rw [hh]
        exact k
      · have bc' : ¬ (2 ≤ A 79 c) := by simpa [baseB] using bc
        rw [if_neg (by omega)]
        refine ⟨⟨by omega, by omega⟩, ?_⟩
        rintro i rfl
        rw [bit_set (by omega) (by omega)]
        refine nx true both.symm (w ||| 2 ^ c) (Nat.or_lt_two_pow hw (Nat.pow_lt_pow_right (by decide) cc)) ?_ (fun b _ hbc => ?_) (fun _ => by simpa using bc)
        · rw [Nat.testBit_or, Nat.testBit_two_pow]
          simp
        · rw [Nat.testBit_or, Nat.testBit_two_pow]
          simp [show ¬ (c = b) by omega]
    · rw [if_pos (fun z => chr (hr2.1 z))]
      refine ⟨⟨by omega, by omega⟩, ?_⟩
      rintro i rfl
      refine nx false ?_ w hw cw' (fun _ _ _ => rfl) (fun z => absurd z (by decide))
      rw [up]
      rw [cw'] at hc0
      have : hearB A c a (t + j) = false := by simpa using chr
      rw [this]
      simpa using hc0
end
/-- but for has and gets the model's memory is as it was -/
def eqx (A B : Nat → Nat → Int) : Prop := ∀ a, a ≠ 117 → a ≠ 118 → B a = A a
theorem hearB_eqx {A B : Nat → Nat → Int} (e : eqx A B) (b a : Nat) (t : Int) : hearB B b a t = hearB A b a t := by
  unfold hearB onB mi
  rw [e 115 (by decide) (by decide), e 116 (by decide) (by decide), e 76 (by decide) (by decide), e 77 (by decide) (by decide)]
theorem Rl1_eqx {n : Nat} {x : Nat → Nat → Int} {A B : Nat → Nat → Int} (e : eqx A B) (r : Rl1 n x A) : Rl1 n x B := by
  unfold Rl1 Pl1
  rw [e 75 (by decide) (by decide), e 76 (by decide) (by decide), e 77 (by decide) (by decide), e 78 (by decide) (by decide), e 79 (by decide) (by decide), e 80 (by decide) (by decide), e 115 (by decide) (by decide), e 116 (by decide) (by decide), e 154 (by decide) (by decide)]
  exact r
theorem bb_eqx {A B : Nat → Nat → Int} (e : eqx A B) (b : Nat) : baseB B b = baseB A b := by
  unfold baseB
  rw [e 79 (by decide) (by decide)]
section
variable {K : Hp} {D : Nat} {N M : Nat → Nat} {X : Nat → Nat → Nat → Int} {Z : Nat → Nat → Nat} {C : Nat → Nat → List Int} {Wd : Nat → List Int} {A : Nat → Nat → Int} {h : Hp}
theorem m_base {n : Nat} {y : Nat → Nat → Int} (x : XS K D N M X Z C Wd A h) (r : Rl1 n y A) {b : Nat} (hb : b < n) : oX4_isBase b h ∧ vX4_isBase b h = if baseB A b = true then 1 else 0 := by
  have n12 := r.2.1
  obtain ⟨_, _, _, _, ib, _⟩ := r.2.2.1 b hb
  refine ⟨⟨by omega, by omega⟩, ?_⟩
  unfold vX4_isBase b2i baseB
  rw [Int.toNat_natCast, x.ra 79, iand_2 ib.2.2.1 ib.2.2.2]
  simp only [decide_eq_true_eq]
  split <;> split <;> omega
def bi (b : Bool) : Int := if b = true then 1 else 0
theorem bi01 (b : Bool) : bi b = 0 ∨ bi b = 1 := by cases b <;> simp [bi]
theorem bi0 (b : Bool) : bi b = 0 ↔ b = false := by cases b <;> simp [bi]
theorem m_heardOf (x : XS K D N M X Z C Wd A h) {n : Nat} {y : Nat → Nat → Int} (r : Rl1 n y A) {p : Nat} {t : Int} {Q : Rs → Hp → Prop} (hp : p < n) (h0 : 0 ≤ t) (h1 : t ≤ 2687) (k : ∀ h' B, XS K D N M X Z C Wd B h' → eqx A B → hL h' 158 = hL h 158 → Q (rV (vI (heardF A n p t))) h') : mX4_heardOf p t h Q := by
  have n12 := r.2.1
  have r1 := r.1
  unfold mX4_heardOf
  unfold heardF at k
  obtain ⟨o, e⟩ := m_base x r hp
  rw [e]
  refine ⟨o, ?_⟩
  by_cases cb : baseB A p = true
  · rw [if_pos cb, if_pos (by decide)]
    rw [if_pos cb] at k
    exact k _ A x (fun _ _ _ => rfl) rfl
  rw [if_neg cb, if_neg (by decide)]
  rw [if_neg cb] at k
  refine fph 12 (fun j g => ∃ B, XS K D N M X Z C Wd B g ∧ eqx A B ∧ hL g 158 = hL h 158 ∧ ∀ i, i < j → B 117 i = bi (decide (i = p))) ?_ ?_ ⟨A, x, fun _ _ _ => rfl, rfl, fun i hi => absurd hi (Nat.not_lt_zero _)⟩
  · rintro R j g hj ⟨B, xb, eb, ol, hB⟩ kk
    rw [if_pos (by omega)]
    rintro v rfl
    refine ⟨by omega, by omega, ?_⟩
    rintro g1 rfl
    refine ⟨⟨by omega, by omega⟩, ?_⟩
    rintro i rfl
    rw [Int.toNat_natCast]
    refine kk _ ⟨_, xb.ma, fun a h1 h2 => (uA_a h1).trans (eb a h1 h2), ol, fun i hi => ?_⟩
    by_cases z : i = j
    · subst z
      rw [uA_at]
      unfold b2i bi
      simp only [decide_eq_true_eq]
      split <;> split <;> omega
    · rw [uA_i z]
      exact hB i (by omega)
  · rintro R g ⟨B, xb, eb, ol, hB⟩
    rw [if_neg (by decide)]
    refine wh2_of (fun (q : Int) g => ∃ (j : Nat) (B : Nat → Nat → Int), q = t + j ∧ j ≤ 672 ∧ XS K D N M X Z C Wd B g ∧ eqx A B ∧ hL g 158 = hL h 158 ∧ (∀ b, b < n → B 117 b = bi (hset A n p t j b)) ∧ hrd (nbB A n p t) t (672 - j) j = hrd (nbB A n p t) t 672 0) (fun q _ => (t + 672 - q).toNat) ?_ ⟨0, B, by omega, by omega, xb, eb, ol, fun b hb => hB b (by omega), rfl⟩
    rintro R q g ⟨j, B, rfl, hj, xb, eb, ol, hB, hh⟩ kk
    refine ⟨⟨by omega, by omega⟩, ?_⟩
    by_cases cj : j < 672
    case neg =>
      have : j = 672 := by omega
      subst this
      rw [if_neg (by omega)]
      rw [← hh] at k
      exact k _ B xb eb ol
    rw [if_pos (by omega)]
    refine wh3_of (fun (s : Int) (i : Int) g => ∃ (b : Nat) (B : Nat → Nat → Int), i = b ∧ b ≤ n ∧ s = bi (anyB (fun b => hset A n p t (j + 1) b && baseB A b) b) ∧ XS K D N M X Z C Wd B g ∧ eqx A B ∧ hL g 158 = hL h 158 ∧ (∀ b, b < n → B 117 b = bi (hset A n p t j b)) ∧ ∀ c, c < b → B 118 c = bi (hset A n p t (j + 1) c)) (fun _ i _ => (n - i).toNat) ?_ ⟨0, B, rfl, by omega, rfl, xb, eb, ol, hB, fun c hc => absurd hc (Nat.not_lt_zero _)⟩
    rintro R2 s i g ⟨b, B, rfl, hb, rfl, xb, eb, ol, hB, hG⟩ kk2
    have e752 : hI g 75 2 = n := by rw [xb.rd 75 2, eb 75 (by decide) (by decide)]; exact r1
    rw [e752]
    by_cases cb2 : b < n
    · rw [if_pos (by omega)]
      have e117 : hI g 117 ((b : Int)).toNat = bi (hset A n p t j b) := by rw [Int.toNat_natCast, xb.ra 117, hB b cb2]
      rw [e117]
      refine ⟨by omega, by omega, bi01 _, ?_⟩
      rintro g1 rfl
      rw [Int.toNat_natCast]
      refine fph n (fun a g => ∃ B, XS K D N M X Z C Wd B g ∧ eqx A B ∧ hL g 158 = hL h 158 ∧ (∀ b, b < n → B 117 b = bi (hset A n p t j b)) ∧ (∀ c, c < b → B 118 c = bi (hset A n p t (j + 1) c)) ∧ B 118 b = bi (hset A n p t j b || anyB (fun a => hset A n p t j a && hearB A b a (t + j)) a)) ?_ ?_ ⟨_, xb.ma, fun a h1 h2 => (uA_a h2).trans (eb a h1 h2), ol, fun c hc => by rw [uA_a (by decide)]; exact hB c hc, fun c hc => by rw [uA_i (by omega)]; exact hG c hc, by rw [uA_at]; simp [anyB]⟩
      · rintro R3 a g ha ⟨B, xb, eb, ol, hB, hG, hb2⟩ kk3
        have e752 : hI g 75 2 = n := by rw [xb.rd 75 2, eb 75 (by decide) (by decide)]; exact r1
        have e118 : hI g 118 b = bi (hset A n p t j b || anyB (fun a => hset A n p t j a && hearB A b a (t + j)) a) := by rw [xb.ra 118, hb2]
        have e117 : hI g 117 ((a : Int)).toNat = bi (hset A n p t j a) := by rw [Int.toNat_natCast, xb.ra 117, hB a ha]
        obtain ⟨m1, m2⟩ := m_hears xb (Rl1_eqx eb r) ha cb2 (t := t + j) (by omega)
        rw [hearB_eqx eb] at m2
        rw [e752, if_pos (by omega), e118, e117]
        refine ⟨fun _ => ⟨by omega, by omega, fun _ => m1⟩, ?_⟩
        rintro v rfl g1 rfl
        refine ⟨⟨by omega, by omega⟩, ?_⟩
        rintro i rfl
        refine kk3 _ ⟨_, xb.ma, fun a h1 h2 => (uA_a h2).trans (eb a h1 h2), ol, fun c hc => by rw [uA_a (by decide)]; exact hB c hc, fun c hc => by rw [uA_i (by omega)]; exact hG c hc, ?_⟩
        rw [uA_at]
        show _ = bi (hset A n p t j b || (anyB (fun a => hset A n p t j a && hearB A b a (t + j)) a || (hset A n p t j a && hearB A b a (t + j))))
        rw [← Bool.or_assoc]
        by_cases hv : hearB A b a (t + j) = true
        · have hv' := m2.2 hv
          rw [hv]
          cases (hset A n p t j b || anyB (fun a => hset A n p t j a && hearB A b a (t + j)) a) <;> cases hset A n p t j a <;> simp [bi, b2i, hv']
        · have hv' : vX4_hears b a (t + j) g = 0 := Classical.byContradiction fun z => hv (m2.1 z)
          have hv0 : hearB A b a (t + j) = false := by simpa using hv
          rw [hv0]
          cases (hset A n p t j b || anyB (fun a => hset A n p t j a && hearB A b a (t + j)) a) <;> cases hset A n p t j a <;> simp [bi, b2i, hv']
      · rintro R3 g ⟨B, xb, eb, ol, hB, hG, hb2⟩
        have e752 : hI g 75 2 = n := by rw [xb.rd 75 2, eb 75 (by decide) (by decide)]; exact r1
        have hb2 : B 118 b = bi (hset A n p t (j + 1) b) := hb2
        have e118 : hI g 118 b = bi (hset A n p t (j + 1) b) := by rw [xb.ra 118, hb2]
        obtain ⟨m1, m2⟩ := m_base xb (Rl1_eqx eb r) cb2
        rw [bb_eqx eb] at m2
        rw [e752, if_neg (by omega), e118, m2]
        refine ⟨fun _ _ => m1, ?_⟩
        rintro v rfl
        refine ⟨⟨by omega, by omega⟩, ?_⟩
        rintro i rfl
        refine kk2 _ _ _ ⟨b + 1, B, rfl, cb2, ?_, xb, eb, ol, hB, fun c hc => ?_⟩ (by omega)
        · show _ = bi (anyB (fun b => hset A n p t (j + 1) b && baseB A b) b || (hset A n p t (j + 1) b && baseB A b))
          cases anyB (fun b => hset A n p t (j + 1) b && baseB A b) b <;> cases hset A n p t (j + 1) b <;> cases baseB A b <;> simp [bi, b2i]
        · by_cases z : c = b
          · rw [z]
            exact hb2
          · exact hG c (by omega)
    · have : b = n := by omega
      subst this
      rw [if_neg (by omega)]
      have hstep : 672 - j = (672 - (j + 1)) + 1 := by omega
      rw [hstep] at hh
      have hh : (if nbB A b p t j = true then t + j + 1 else hrd (nbB A b p t) t (672 - (j + 1)) (j + 1)) = hrd (nbB A b p t) t 672 0 := hh
      by_cases nb : nbB A b p t j = true
      · have nb' : anyB (fun c => hset A b p t (j + 1) c && baseB A c) b = true := nb
        rw [nb', if_pos (by decide)]
        rw [if_pos nb] at hh
        refine ⟨⟨by omega, by omega⟩, ?_⟩
        rw [hh]
        exact k _ B xb eb ol
      · have nb' : anyB (fun c => hset A b p t (j + 1) c && baseB A c) b = false := by
          show nbB A b p t j = false
          simpa using nb
        rw [nb', if_neg (by decide)]
        rw [if_neg nb] at hh
        refine fph b (fun i g => ∃ B, XS K D N M X Z C Wd B g ∧ eqx A B ∧ hL g 158 = hL h 158 ∧ (∀ c, c < b → B 118 c = bi (hset A b p t (j + 1) c)) ∧ ∀ c, c < i → B 117 c = bi (hset A b p t (j + 1) c)) ?_ ?_ ⟨B, xb, eb, ol, hG, fun c hc => absurd hc (Nat.not_lt_zero _)⟩
        · rintro R3 i g hi ⟨B, xb, eb, ol, hG, hB2⟩ kk3
          have e752 : hI g 75 2 = b := by rw [xb.rd 75 2, eb 75 (by decide) (by decide)]; exact r1
          have e118 : hI g 118 ((i : Int)).toNat = bi (hset A b p t (j + 1) i) := by rw [Int.toNat_natCast, xb.ra 118, hG i hi]
          rw [e752, if_pos (by omega), e118]
          refine ⟨by omega, by omega, bi01 _, ?_⟩
          rintro g1 rfl
          refine ⟨⟨by omega, by omega⟩, ?_⟩
          rintro q rfl
          rw [Int.toNat_natCast]
          refine kk3 _ ⟨_, xb.ma, fun a h1 h2 => (uA_a h1).trans (eb a h1 h2), ol, fun c hc => by rw [uA_a (by decide)]; exact hG c hc, fun c hc => ?_⟩
          by_cases z : c = i
          · rw [z, uA_at]
          · rw [uA_i z]
            exact hB2 c (by omega)
        · rintro R3 g ⟨B, xb, eb, ol, hG, hB2⟩
          have e752 : hI g 75 2 = b := by rw [xb.rd 75 2, eb 75 (by decide) (by decide)]; exact r1
          rw [e752, if_neg (by omega)]
          refine ⟨⟨by omega, by omega⟩, ?_⟩
          rintro q rfl
          exact kk _ _ ⟨j + 1, B, by omega, by omega, xb, eb, ol, hB2, hh⟩ (by omega)
end
