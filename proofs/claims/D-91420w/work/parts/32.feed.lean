set_option maxRecDepth 100000
set_option maxHeartbeats 1000000
set_option linter.unusedSimpArgs false
set_option linter.unusedVariables false
/-! SPECS, 17: the tape is fed -/
theorem i2b_rng (a : Int) : -128 ≤ i2b a ∧ i2b a ≤ 127 := by
  rw [i2b_val]
  have h1 := Int8.le_toInt (Int32.ofInt a).toInt8
  have h2 := Int8.toInt_lt (Int32.ofInt a).toInt8
  omega
theorem i2b_mod {a : Int} (h : nm a) : i2b a % 256 = a % 256 := by
  rw [i2b_val, Int32.toInt_toInt8, i32_val h]
  exact Int.bmod_emod
def w5 (p1 p2 p3 p4 p5 : Int) (q : Nat) : Int := if q = 0 then p1 else if q = 1 then p2 else if q = 2 then p3 else if q = 3 then p4 else p5
def bt (ws : Nat → Int) (j : Nat) : Int := ishr (ws (j / 4)) (24 - 8 * (j % 4) : Nat)
def feA (A : Nat → Nat → Int) (t : Nat) (ws : Nat → Int) (m : Nat) : Nat → Nat → Int := fun a i => if a = 75 ∧ i = 23 then (t : Int) + m else if a = 93 ∧ t ≤ i ∧ i < t + m then bt ws (i - t) % 256 else A a i
theorem feA_up (A : Nat → Nat → Int) (t : Nat) (ws : Nat → Int) (m : Nat) : uA (uA (feA A t ws m) 93 (t + m) (bt ws m % 256)) 75 23 ((t : Int) + m + 1) = feA A t ws (m + 1) := by
  funext a i
  unfold uA feA
  by_cases c : a = 75 ∧ i = 23
  · rw [if_pos c, if_pos c]
    omega
  · rw [if_neg c, if_neg c]
    by_cases d : a = 93 ∧ i = t + m
    · have d' : a = 93 ∧ t ≤ i ∧ i < t + (m + 1) := by omega
      rw [if_pos d, if_neg c, if_pos d', show i - t = m by omega]
    · rw [if_neg d, if_neg c]
      by_cases e : a = 93 ∧ t ≤ i ∧ i < t + m
      · have e' : a = 93 ∧ t ≤ i ∧ i < t + (m + 1) := by omega
        rw [if_pos e, if_pos e']
      · have e' : ¬ (a = 93 ∧ t ≤ i ∧ i < t + (m + 1)) := by omega
        rw [if_neg e, if_neg e']
def fxX (X : Nat → Nat → Nat → Int) (t : Nat) (ws : Nat → Int) (m : Nat) : Nat → Nat → Nat → Int := fun c i f => if c = 0 ∧ i = 1 ∧ t ≤ f ∧ f < t + m then i2b (bt ws (f - t)) else X c i f
theorem fxX_up (X : Nat → Nat → Nat → Int) (t : Nat) (ws : Nat → Int) (m : Nat) : uX (fxX X t ws m) 0 1 (t + m) (i2b (bt ws m)) = fxX X t ws (m + 1) := by
  funext c i f
  unfold uX fxX
  by_cases d : c = 0 ∧ i = 1 ∧ f = t + m
  · rw [if_pos d, if_pos (by omega), show f - t = m by omega]
  · rw [if_neg d]
    by_cases e : c = 0 ∧ i = 1 ∧ t ≤ f ∧ f < t + m
    · rw [if_pos e, if_pos (by omega)]
    · rw [if_neg e, if_neg (by omega)]
def gFeed (A : Nat → Nat → Int) (p1 p2 p3 p4 p5 : Int) : Int × (Nat → Nat → Int) := if 780 < A 75 23 then (-1, uA A 75 0 0) else (A 75 23 + 20, feA (uA A 75 0 0) (A 75 23).toNat (w5 p1 p2 p3 p4 p5) 20)
section
variable {K : Hp} {D : Nat} {N M : Nat → Nat} {X : Nat → Nat → Nat → Int} {Z : Nat → Nat → Nat} {C : Nat → Nat → List Int} {Wd : Nat → List Int} {A : Nat → Nat → Int} {h : Hp}
theorem m_lays {t q : Nat} {ws : Nat → Int} {p : Int} {Q : Rs → Hp → Prop} (x : XS K D N M X Z C Wd (feA A t ws (4 * q)) h) (ht : t ≤ 780) (hq : q < 5) (hp : p = ws q) (k : ∀ h', XS K D N M X Z C Wd (feA A t ws (4 * (q + 1))) h' → Q rN h') : mX4_lays p h Q := by
  subst hp
  unfold mX4_lays
  refine wh2_of (fun (i : Int) g => ∃ m : Nat, m ≤ 4 ∧ i = 24 - 8 * m ∧ XS K D N M X Z C Wd (feA A t ws (4 * q + m)) g) (fun i _ => (i + 8).toNat) ?_ ⟨0, by omega, rfl, x⟩
  rintro R i g ⟨m, hm, rfl, y⟩ kk
  by_cases c : m < 4
  · rw [if_pos (by omega)]
    have e : hI g 75 23 = (t : Int) + (4 * q + m : Nat) := (y.rd 75 23).trans rfl
    rw [e]
    refine ⟨by omega, by omega, ?_⟩
    rintro g1 rfl
    have ei : ((t : Int) + (4 * q + m : Nat)).toNat = t + (4 * q + m) := by omega
    rw [ei]
    have eb : iand (ishr (ws q) (24 - 8 * (m : Int))) 255 = bt ws (4 * q + m) % 256 := by
      rw [iand_255]
      unfold bt
      rw [show (4 * q + m) / 4 = q by omega, show (4 * q + m) % 4 = m by omega]
      congr 2
      omega
    rw [eb]
    have y1 := y.ma (a := 93) (i := t + (4 * q + m)) (v := bt ws (4 * q + m) % 256)
    have e1 : hI (sI g 93 (t + (4 * q + m)) (bt ws (4 * q + m) % 256)) 75 23 = (t : Int) + (4 * q + m : Nat) := e
    rw [e1]
    refine ⟨⟨by omega, by omega⟩, ?_⟩
    rintro g2 rfl
    refine ⟨⟨by omega, by omega⟩, ?_⟩
    rintro j rfl
    refine kk _ _ ⟨m + 1, by omega, by omega, ?_⟩ (by omega)
    have y2 := y1.m5 (i := 23) (v := (t : Int) + (4 * q + m : Nat) + 1)
    rw [feA_up] at y2
    exact y2
  · have : m = 4 := by omega
    subst this
    rw [if_neg (by omega)]
    exact k _ (by rw [show 4 * (q + 1) = 4 * q + 4 by omega]; exact y)
theorem m_feed {T : Nat} {N0 : Nat → Nat} {X0 : Nat → Nat → Nat → Int} {C0 : Nat → Nat → List Int} {Wd0 : Nat → List Int} {Q : Rs → Hp → Prop} (x : XS K D N M X Z C Wd A h) (r : Rel T N0 X0 C0 Wd0 A) {p1 p2 p3 p4 p5 : Int} (k : ∀ h', XS K D N M X Z C Wd (gFeed A p1 p2 p3 p4 p5).2 h' → Q (rV (vI (gFeed A p1 p2 p3 p4 p5).1)) h') : mX4_feed p1 p2 p3 p4 p5 h Q := by
  have r1 := r.1.2.1
  unfold mX4_feed
  unfold gFeed at k
  rintro g rfl
  have y : XS K D N M X Z C Wd (uA A 75 0 0) (sI h 75 0 0) := x.m5
  have e : hI (sI h 75 0 0) 75 23 = A 75 23 := x.rd 75 23
  rw [e]
  refine ⟨⟨by omega, by omega⟩, ?_⟩
  by_cases c : 780 < A 75 23
  · rw [if_pos c] at k
    rw [if_pos (by omega)]
    exact k _ y
  · rw [if_neg c] at k
    rw [if_neg (by omega)]
    obtain ⟨t, ht⟩ : ∃ t : Nat, A 75 23 = t := ⟨(A 75 23).toNat, by omega⟩
    rw [ht, Int.toNat_natCast] at k
    have y0 : XS K D N M X Z C Wd (feA (uA A 75 0 0) t (w5 p1 p2 p3 p4 p5) (4 * 0)) (sI h 75 0 0) := by
      have : feA (uA A 75 0 0) t (w5 p1 p2 p3 p4 p5) (4 * 0) = uA A 75 0 0 := by
        funext a i
        unfold feA
        by_cases d : a = 75 ∧ i = 23
        · rw [if_pos d, d.1, d.2]
          show (t : Int) + ((0 : Nat) : Int) = A 75 23
          omega
        · rw [if_neg d, if_neg (by omega)]
      rw [this]
      exact y
    refine m_lays (t := t) (q := 0) y0 (by omega) (by decide) rfl (fun g1 y1 => ?_)
    rw [kN_v]
    refine m_lays (t := t) (q := 1) y1 (by omega) (by decide) rfl (fun g2 y2 => ?_)
    rw [kN_v]
    refine m_lays (t := t) (q := 2) y2 (by omega) (by decide) rfl (fun g3 y3 => ?_)
    rw [kN_v]
    refine m_lays (t := t) (q := 3) y3 (by omega) (by decide) rfl (fun g4 y4 => ?_)
    rw [kN_v]
    refine m_lays (t := t) (q := 4) y4 (by omega) (by decide) rfl (fun g5 y5 => ?_)
    rw [kN_v, y5.rd 75 23]
    exact k _ y5
theorem x_feed {T : Nat} {Q : Rs → Hp → Prop} (x : XS K D N N X Z C Wd A h) (r : Rel T N X C Wd A) (hD : D ≤ 780000) {p1 p2 p3 p4 p5 : Int} (h1 : nm p1) (h2 : nm p2) (h3 : nm p3) (h4 : nm p4) (h5 : nm p5) (k : ∀ h', OpV K T (D + 12000) A (gFeed A p1 p2 p3 p4 p5).2 h' → Q (rV (vI (gFeed A p1 p2 p3 p4 p5).1)) h') : mX1_feed p1 p2 p3 p4 p5 h Q := by
  obtain ⟨r0, r1, r2, r3, r4, r5, r6, r7, r8, r9, r10, r11, rw0⟩ := id r
  obtain ⟨u1, u2, u3, u4, u5, u6, u7⟩ := r0.up
  unfold mX1_feed
  unfold gFeed at k
  have e : hI h 50 21 = A 75 23 := (x.sc 21).trans u2.1
  rw [e]
  refine ⟨⟨by omega, by omega⟩, ?_⟩
  by_cases c : 780 < A 75 23
  · rw [if_pos c] at k
    rw [if_pos (by omega)]
    exact k _ ⟨N, X, Z, C, Wd, x.more (by omega) (by omega), r.thr 0⟩
  · rw [if_neg c] at k
    rw [if_neg (by omega)]
    obtain ⟨t, ht⟩ : ∃ t : Nat, A 75 23 = t := ⟨(A 75 23).toNat, by omega⟩
    rw [ht, Int.toNat_natCast] at k
    refine fph 20 (fun j g => XS K D N N (fxX X t (w5 p1 p2 p3 p4 p5) j) Z C Wd A g) (fun R j g hj y kk => ?_) (fun R g y => ?_) ?_
    · rw [if_pos (by omega)]
      have e1 : hI g 50 21 = t := (y.sc 21).trans (u2.1.trans ht)
      have em : Int.tmod (j : Int) 4 = (j % 4 : Nat) := by
        rw [Int.tmod_eq_emod_of_nonneg (by omega)]
        omega
      rw [em, e1]
      rintro v rfl
      have ev : (if ¬ (4 ≤ (j : Int)) then p1 else (if ¬ (8 ≤ (j : Int)) then p2 else (if ¬ (12 ≤ (j : Int)) then p3 else (if ¬ (16 ≤ (j : Int)) then p4 else p5)))) = w5 p1 p2 p3 p4 p5 (j / 4) := by
        unfold w5
        repeat' split
        all_goals first | rfl | (exfalso; omega)
      have eb : ishr (w5 p1 p2 p3 p4 p5 (j / 4)) (24 - 8 * ((j % 4 : Nat) : Int)) = bt (w5 p1 p2 p3 p4 p5) j := by
        unfold bt
        congr 1
        omega
      rw [ev, eb]
      refine ⟨⟨by omega, by omega⟩, ⟨by omega, by omega⟩, ⟨by omega, by omega⟩, okI_byte _, by omega, by omega, ?_⟩
      rintro g1 rfl
      refine ⟨⟨by omega, by omega⟩, ?_⟩
      rintro i rfl
      have ei : ((t : Int) + (j : Int)).toNat = t + j := by omega
      rw [ei]
      refine kk _ ?_
      have y1 := y.setTape (t + j) (i2b (bt (w5 p1 p2 p3 p4 p5) j))
      rw [fxX_up] at y1
      exact y1
    · rw [if_neg (by decide)]
      have e1 : hI g 50 21 = t := (y.sc 21).trans (u2.1.trans ht)
      rw [e1]
      refine ⟨⟨by omega, by omega⟩, ?_⟩
      rintro g1 rfl
      refine k _ ⟨N, _, Z, C, Wd, (y.setS 21 ((t : Int) + 20)).more (by omega) (by omega), ⟨⟨u1, ⟨rfl, ?_, ?_⟩, u3, u4, u5, u6, fun j hj => ?_⟩, r1, r2, r3, r4, r5, r6, r7, r8, r9, r10, r11, rw0⟩⟩
      · show 0 ≤ (t : Int) + 20
        omega
      · show (t : Int) + 20 ≤ 800
        omega
      · have hj : (j : Int) < (t : Int) + 20 := hj
        show -128 ≤ fxX X t (w5 p1 p2 p3 p4 p5) 20 0 1 j ∧ fxX X t (w5 p1 p2 p3 p4 p5) 20 0 1 j ≤ 127 ∧ feA (uA A 75 0 0) t (w5 p1 p2 p3 p4 p5) 20 93 j = fxX X t (w5 p1 p2 p3 p4 p5) 20 0 1 j % 256
        unfold fxX feA
        by_cases d : t ≤ j
        · rw [if_pos (by omega), if_neg (by omega), if_pos (by omega)]
          have nb : nm (bt (w5 p1 p2 p3 p4 p5) (j - t)) := nm_ishr _ _
          rw [i2b_mod nb]
          exact ⟨(i2b_rng _).1, (i2b_rng _).2, rfl⟩
        · rw [if_neg (by omega), if_neg (by omega), if_neg (by omega)]
          exact u7 j (by omega)
    · have : fxX X t (w5 p1 p2 p3 p4 p5) 0 = X := by
        funext c i f
        unfold fxX
        rw [if_neg (by omega)]
      rw [this]
      exact x
end
