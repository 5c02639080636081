set_option maxRecDepth 100000
set_option maxHeartbeats 1000000
set_option linter.unusedSimpArgs false
set_option linter.unusedVariables false
/-! SPECS, 15: acts over chests, legs, weeks -/
def gChest (A : Nat → Nat → Int) (p1 p2 p3 : Int) : Int × Int × (Nat → Nat → Int) := if p1 < 0 ∨ A 75 2 ≤ p1 ∨ p2 < 1 ∨ 30 < p2 then (1, 0, uA A 75 0 1) else if p3 < 0 ∨ 999 < p3 then (2, 0, uA A 75 0 2) else (0, A 154 (31 * p1 + p2).toNat, uA (uA A 75 0 0) 154 (31 * p1 + p2).toNat p3)
def gCounted (A : Nat → Nat → Int) (p1 p2 p3 : Int) : Int × Int × (Nat → Nat → Int) := if p1 < 0 ∨ A 75 2 ≤ p1 ∨ p2 < 1 ∨ 30 < p2 then (1, 0, uA A 75 0 1) else if p3 < 0 ∨ 999 < p3 then (2, 0, uA A 75 0 2) else (0, p3 - A 154 (31 * p1 + p2).toNat, uA (uA (uA A 75 0 0) 154 (31 * p1 + p2).toNat p3) 75 111 (A 75 111 + (p3 - A 154 (31 * p1 + p2).toNat)))
def gLeg (A : Nat → Nat → Int) (p1 p2 p3 : Int) : Int × Int × (Nat → Nat → Int) := if p1 < 0 ∨ A 75 80 ≤ p1 ∨ p2 < 0 ∨ A 130 p1.toNat ≤ p2 ∨ p3 < 0 ∨ 5 < p3 then (1, 0, uA A 75 0 1) else (0, if p3 = 0 then A 136 (7 * p1 + p2).toNat else if p3 = 1 then A 137 (7 * p1 + p2).toNat else if p3 = 2 then A 138 (7 * p1 + p2).toNat else if p3 = 3 then A 139 (7 * p1 + p2).toNat else if p3 = 4 then A 140 (7 * p1 + p2).toNat else A 141 (7 * p1 + p2).toNat, uA A 75 0 0)
section
variable {K : Hp} {D : Nat} {N M : Nat → Nat} {X : Nat → Nat → Nat → Int} {Z : Nat → Nat → Nat} {C : Nat → Nat → List Int} {Wd : Nat → List Int} {A : Nat → Nat → Int} {h : Hp}
theorem m_planeOf {T : Nat} {N0 : Nat → Nat} {X0 : Nat → Nat → Nat → Int} {C0 : Nat → Nat → List Int} {Wd0 : Nat → List Int} {Q : Rs → Hp → Prop} (x : XS K D N M X Z C Wd A h) (r : Rel T N0 X0 C0 Wd0 A) {p1 p2 : Int} (k : ∀ h', XS K D N M X Z C Wd (gPlaneOf A p1 p2).2.2 h' → hL h' 158 = hL h 158 → Q (rV (vI (gPlaneOf A p1 p2).2.1)) h') : mX4_planeOf p1 p2 h Q := by
  have r1 := r.2.2.1.1
  have r2 := r.2.2.1.2.1
  unfold mX4_planeOf
  unfold gPlaneOf at k
  rintro g rfl
  have y : XS K D N M X Z C Wd (uA A 75 0 0) (sI h 75 0 0) := x.m5
  refine m_isPlane y rfl (fun a1 a2 => ?_) (fun z w => ?_)
  · have a2 : p1 < A 75 3 := a2
    rw [kI_v, if_pos (by decide)]
    rintro v rfl
    refine m_right rfl (by decide) (fun z => ?_) (fun z => ?_)
    · have z := b2i_1 z
      rw [if_neg (by omega)] at k
      rw [kI_v, if_neg (by decide)]
      refine ⟨⟨fun _ => ⟨by omega, by omega⟩, fun _ => ⟨by omega, by omega⟩⟩, ?_⟩
      rintro v rfl
      rw [y.ra 86, y.ra 87]
      have k := k _ y rfl
      by_cases c : p2 = 0
      · rw [if_pos (by omega)]
        rw [if_pos c] at k
        exact k
      · rw [if_neg (by omega)]
        rw [if_neg c] at k
        exact k
    · have z := b2i_0 z
      rw [if_pos (by omega)] at k
      rw [kI_v, if_pos (by decide)]
      exact k _ y.t5 rfl
  · have z : p1 < 0 ∨ A 75 3 ≤ p1 := z
    rw [if_pos (by omega)] at k
    rw [kI_v, if_neg (by decide)]
    rw [uA_uA] at w
    exact k _ w rfl
theorem x_planeOf {T : Nat} {Q : Rs → Hp → Prop} (x : XS K D N N X Z C Wd A h) (r : Rel T N X C Wd A) (hD : D ≤ 780000) {p1 p2 : Int} (k : ∀ h', OpT K T (D + 12000) A (gPlaneOf A p1 p2) h' → Q (rV (vI (gPlaneOf A p1 p2).1)) h') : mX0_planeOf p1 p2 h Q := by
  obtain ⟨r0, r1, r2, r3, r4, r5, r6, r7, r8, r9, r10, r11, rw0⟩ := id r
  have s1 := r2.1
  have s3 := r2.2.2.1
  unfold mX0_planeOf mX1_planeOf
  unfold gPlaneOf at k
  refine x_planeAt x (by omega) (fun a1 a2 a3 => ?_) (fun z y o t => ?_)
  · rw [kR_v]
    rintro v rfl
    refine x_found x (by omega) (fun z => ?_) (fun z y o t => ?_)
    · have z := b2i_1 z
      rw [if_neg (by omega)] at k
      rw [kN_v]
      refine ⟨⟨fun _ => x.obj 2 _ a3, fun _ => x.obj 2 _ a3⟩, ?_⟩
      rintro v rfl
      rw [kIx_v]
      rintro g rfl
      refine k _ ⟨N, X, Z, C, Wd, (x.out).more (by omega) (by omega), r.thr 0, fun _ => ?_⟩
      rw [hL_sL, if_pos ⟨rfl, rfl⟩, x.int 2 _ 6 a3, x.int 2 _ 7 a3]
      obtain ⟨y1, y2, y3, y4, y5, y6, y7, y8⟩ := s3 p1.toNat a3
      rw [y6.1, y7.1]
      show _ = if p2 = 0 then A 86 p1.toNat else A 87 p1.toNat
      by_cases c : p2 = 0
      · rw [if_pos (by omega), if_pos c]
      · rw [if_neg (by omega), if_neg c]
    · have z := b2i_0 z
      rw [if_pos (by omega)] at k
      exact ⟨o, k _ ⟨N, X, Z, C, Wd, y.more (by omega) (by omega), r.thr 1, fun z => absurd z ne10⟩⟩
  · rw [if_pos (by omega)] at k
    exact ⟨o, k _ ⟨N, X, Z, C, Wd, y.more (by omega) (by omega), r.thr 1, fun z => absurd z ne10⟩⟩
theorem m_weekOf {T : Nat} {N0 : Nat → Nat} {X0 : Nat → Nat → Nat → Int} {C0 : Nat → Nat → List Int} {Wd0 : Nat → List Int} {Q : Rs → Hp → Prop} (x : XS K D N M X Z C Wd A h) (r : Rel T N0 X0 C0 Wd0 A) {p1 : Int} (k : ∀ h', XS K D N M X Z C Wd (gWeekOf A p1).2.2 h' → hL h' 158 = hL h 158 → Q (rV (vI (gWeekOf A p1).2.1)) h') : mX4_weekOf p1 h Q := by
  have r5 := r.1.2.2.2.2.1
  unfold mX4_weekOf
  unfold gWeekOf at k
  rintro g rfl v rfl
  have y : XS K D N M X Z C Wd (uA A 75 0 0) (sI h 75 0 0) := x.m5
  have e : hI (sI h 75 0 0) 75 99 = A 75 99 := x.rd 75 99
  rw [e]
  refine m_right rfl (by decide) (fun z => ?_) (fun z => ?_)
  · have z := b2i_1 z
    rw [if_neg (by omega)] at k
    rw [kI_v, if_neg (by decide)]
    refine ⟨fun _ => ⟨by omega, by omega⟩, ?_⟩
    rintro v rfl
    rw [y.rd 75 100, y.ra 147]
    have k := k _ y rfl
    by_cases c : p1 = -1
    · rw [if_pos (by omega)]
      rw [if_pos c] at k
      exact k
    · rw [if_neg (by omega)]
      rw [if_neg c] at k
      exact k
  · have z := b2i_0 z
    rw [if_pos (by omega)] at k
    rw [kI_v, if_pos (by decide)]
    exact k _ y.t5 rfl
theorem x_weekOf {T : Nat} {Q : Rs → Hp → Prop} (x : XS K D N N X Z C Wd A h) (r : Rel T N X C Wd A) (hD : D ≤ 780000) {p1 : Int} (k : ∀ h', OpT K T (D + 12000) A (gWeekOf A p1) h' → Q (rV (vI (gWeekOf A p1).1)) h') : mX0_weekOf p1 h Q := by
  obtain ⟨r0, r1, r2, r3, r4, r5, r6, r7, r8, r9, r10, r11, rw0⟩ := id r
  have q5 := r0.2.2.2.2.1
  have e25 := x.sc 25
  have e26 := x.sc 26
  unfold mX0_weekOf mX1_weekOf
  unfold gWeekOf at k
  rw [e25]
  refine ⟨fun _ => ⟨by omega, by omega⟩, ?_⟩
  rintro v rfl
  refine x_found x (by omega) (fun z => ?_) (fun z y o t => ?_)
  · have z := b2i_1 z
    rw [in_0] at z
    rw [if_neg (by omega)] at k
    rw [kN_v]
    refine ⟨fun _ => ⟨by omega, by omega⟩, ?_⟩
    rintro v rfl
    rw [kIx_v]
    rintro g rfl
    refine k _ ⟨N, X, Z, C, Wd, (x.out).more (by omega) (by omega), r.thr 0, fun _ => ?_⟩
    rw [hL_sL, if_pos ⟨rfl, rfl⟩, e26]
    show _ = if p1 = -1 then A 75 100 else A 147 p1.toNat
    rcases q5 with q5 | ⟨q1, q2, q3, q4, q6⟩
    · omega
    · by_cases c : p1 = -1
      · rw [if_pos (by omega), if_pos c]
        exact q4
      · rw [if_neg (by omega), if_neg c, x.week _ (by omega)]
        exact q6 _ (by omega)
  · have z := b2i_0 z
    rw [in_0] at z
    rw [if_pos (by omega)] at k
    exact ⟨o, k _ ⟨N, X, Z, C, Wd, y.more (by omega) (by omega), r.thr 1, fun z => absurd z ne10⟩⟩
theorem m_isChest {p n : Int} {Q : Rs → Hp → Prop} (x : XS K D N M X Z C Wd A h) (k1 : 0 ≤ p → p < A 75 2 → 1 ≤ n → n ≤ 30 → XS K D N M X Z C Wd (uA A 75 0 0) (sI h 75 0 0) → Q (rV (vI 1)) (sI h 75 0 0)) (k2 : ∀ g, (p < 0 ∨ A 75 2 ≤ p ∨ n < 1 ∨ 30 < n) → XS K D N M X Z C Wd (uA A 75 0 1) g → hL g 158 = hL h 158 → Q (rV (vI 0)) g) : mX4_isChest p n h Q := by
  unfold mX4_isChest
  refine m_isPlace x (fun a1 a2 y => ?_) (fun z y => ?_)
  · rw [kI_v, if_pos (by decide)]
    rintro v rfl
    refine m_right rfl (by decide) (fun z => ?_) (fun z => ?_)
    · have z := b2i_1 z
      rw [kI_v]
      rintro v rfl
      exact k1 a1 a2 (by omega) (by omega) y
    · have z := b2i_0 z
      rw [kI_v]
      rintro v rfl
      exact k2 _ (by omega) y.t5 rfl
  · rw [kI_v, if_neg (by decide)]
    exact k2 _ (by omega) y rfl
theorem m_chest {T : Nat} {N0 : Nat → Nat} {X0 : Nat → Nat → Nat → Int} {C0 : Nat → Nat → List Int} {Wd0 : Nat → List Int} {Q : Rs → Hp → Prop} (x : XS K D N M X Z C Wd A h) (r : Rel T N0 X0 C0 Wd0 A) {p1 p2 p3 : Int} (k : ∀ h', XS K D N M X Z C Wd (gChest A p1 p2 p3).2.2 h' → hL h' 158 = hL h 158 → Q (rV (vI (gChest A p1 p2 p3).2.1)) h') : mX4_chest_2 p1 p2 p3 h Q := by
  have r1 := r.2.1.1
  have r2 := r.2.1.2.1
  unfold mX4_chest_2
  unfold gChest at k
  refine m_isChest x (fun a1 a2 a3 a4 y => ?_) (fun g z y e => ?_)
  · rw [if_neg (by omega)] at k
    rw [kI_v, if_pos (by decide)]
    rintro v rfl
    refine m_right rfl (by decide) (fun z => ?_) (fun z => ?_)
    · have z := b2i_1 z
      rw [if_neg (by omega)] at k
      rw [kI_v, if_neg (by decide), y.ra 154]
      refine ⟨⟨by omega, by omega⟩, ⟨by omega, by omega⟩, by omega, by omega, ?_⟩
      rintro v rfl g rfl
      exact k _ y.ma rfl
    · have z := b2i_0 z
      rw [if_pos (by omega)] at k
      rw [kI_v, if_pos (by decide)]
      exact k _ y.t5 rfl
  · rw [if_pos z] at k
    rw [kI_v, if_neg (by decide)]
    exact k _ y e
theorem m_counted {T : Nat} {N0 : Nat → Nat} {X0 : Nat → Nat → Nat → Int} {C0 : Nat → Nat → List Int} {Wd0 : Nat → List Int} {Q : Rs → Hp → Prop} (x : XS K D N M X Z C Wd A h) (r : Rel T N0 X0 C0 Wd0 A) {p1 p2 p3 : Int} (hT4 : T ≤ 64) (k : ∀ h', XS K D N M X Z C Wd (gCounted A p1 p2 p3).2.2 h' → hL h' 158 = hL h 158 → Q (rV (vI (gCounted A p1 p2 p3).2.1)) h') : mX4_counted p1 p2 p3 h Q := by
  have r1 := r.2.1.1
  have r2 := r.2.1.2.1
  have r3 := r.2.1.2.2.1
  have r6 := r.1.2.2.2.2.2.1
  unfold mX4_counted
  unfold gCounted at k
  refine m_isChest x (fun a1 a2 a3 a4 y => ?_) (fun g z y e => ?_)
  · rw [if_neg (by omega)] at k
    rw [kI_v, if_pos (by decide)]
    rintro v rfl
    refine m_right rfl (by decide) (fun z => ?_) (fun z => ?_)
    · have z := b2i_1 z
      rw [if_neg (by omega)] at k
      have q := (r3 p1.toNat (by omega)).2.2.2.2.2.2.2.2 p2.toNat (by omega)
      have ei : 31 * p1.toNat + p2.toNat = (31 * p1 + p2).toNat := by omega
      rw [ei] at q
      rw [kI_v, if_neg (by decide), y.ra 154]
      have u1 : uA A 75 0 0 154 = A 154 := rfl
      rw [u1]
      refine ⟨⟨by omega, by omega⟩, ⟨by omega, by omega⟩, by omega, by omega, ⟨by omega, by omega⟩, ?_⟩
      rintro v rfl g rfl
      have y2 := y.ma (a := 154) (i := (31 * p1 + p2).toNat) (v := p3)
      rw [y2.rd 75 111]
      have u2 : uA (uA A 75 0 0) 154 (31 * p1 + p2).toNat p3 75 111 = A 75 111 := rfl
      rw [u2]
      refine ⟨⟨by omega, by omega⟩, ?_⟩
      rintro g rfl
      exact k _ y2.m5 rfl
    · have z := b2i_0 z
      rw [if_pos (by omega)] at k
      rw [kI_v, if_pos (by decide)]
      exact k _ y.t5 rfl
  · rw [if_pos z] at k
    rw [kI_v, if_neg (by decide)]
    exact k _ y e
theorem Rl1.chest {n p q : Nat} {v : Int} {x : Nat → Nat → Int} {X' : Nat → Nat → Nat → Int} (r : Rl1 n x A) (hp : p < n) (hq : q < 31) (hv : 0 ≤ v ∧ v ≤ 999) (hX : ∀ i, X' 1 i = if i = p then (fun f => if f = af 6 q then v else x i f) else x i) {B : Nat → Nat → Int} (hB : ∀ a, a ≠ 75 → a ≠ 154 → B a = A a) (hB5 : B 75 2 = A 75 2) (hB4 : ∀ i, B 154 i = if i = 31 * p + q then v else A 154 i) : Rl1 n (X' 1) B := by
  obtain ⟨q1, q2, q3, q4⟩ := r
  refine ⟨by rw [hB5]; exact q1, q2, fun i hi => ?_, fun i h1 h2 => ?_⟩
  · obtain ⟨y1, y2, y3, y4, y5, y6, y7, y8, y9⟩ := q3 i hi
    have nf : ∀ f, f < 100 → X' 1 i f = x i f := by
      intro f hf
      rw [hX]
      by_cases z : i = p
      · rw [if_pos z]
        exact if_neg (fun w => by unfold af at w; omega)
      · rw [if_neg z]
    unfold Pl1
    rw [nf 0 (by decide), nf 1 (by decide), nf 2 (by decide), nf 3 (by decide), nf 4 (by decide), nf 5 (by decide), nf 7 (by decide), nf 8 (by decide), nf 9 (by decide), hB 76 (by decide) (by decide), hB 77 (by decide) (by decide), hB 78 (by decide) (by decide), hB 79 (by decide) (by decide), hB 80 (by decide) (by decide), hB 115 (by decide) (by decide), hB 116 (by decide) (by decide)]
    refine ⟨y1, y2, y3, y4, y5, y6, y7, y8, fun j hj => ?_⟩
    have e1 : X' 1 i (af 6 j) = if i = p ∧ j = q then v else x i (af 6 j) := by
      rw [hX]
      by_cases z : i = p
      · rw [if_pos z]
        by_cases w : j = q
        · rw [w, if_pos rfl, if_pos ⟨z, rfl⟩]
        · rw [if_neg (fun e => w (af_inj (by omega) (by omega) e).2), if_neg (fun e => w e.2)]
      · rw [if_neg z, if_neg (fun e => z e.1)]
    have e2 : B 154 (31 * i + j) = if i = p ∧ j = q then v else A 154 (31 * i + j) := by
      rw [hB4]
      by_cases z : i = p ∧ j = q
      · rw [if_pos z, if_pos (by omega)]
      · rw [if_neg z, if_neg (by omega)]
    rw [e1, e2]
    by_cases z : i = p ∧ j = q
    · rw [if_pos z, if_pos z]
      exact ⟨rfl, hv⟩
    · rw [if_neg z, if_neg z]
      exact y9 j hj
  · rw [hB 80 (by decide) (by decide), hB 115 (by decide) (by decide), hB 116 (by decide) (by decide)]
    obtain ⟨z1, z2, z3, z4⟩ := q4 i h1 h2
    refine ⟨z1, z2, z3, fun j hj => ?_⟩
    rw [hB4, if_neg (by omega)]
    exact z4 j hj
theorem uX_1 {X : Nat → Nat → Nat → Int} {p f : Nat} {v : Int} (i : Nat) : uX X 1 p f v 1 i = if i = p then (fun g => if g = f then v else X 1 i g) else X 1 i := by
  funext g
  unfold uX
  by_cases z : i = p
  · rw [if_pos z]
    by_cases w : g = f
    · rw [if_pos ⟨rfl, z, w⟩]
      exact (if_pos w).symm
    · rw [if_neg (fun e => w e.2.2)]
      exact (if_neg w).symm
  · rw [if_neg z, if_neg (fun e => z e.2.1)]
theorem x_chest {T : Nat} {Q : Rs → Hp → Prop} (x : XS K D N N X Z C Wd A h) (r : Rel T N X C Wd A) (hD : D ≤ 780000) {p1 p2 p3 : Int} (k : ∀ h', OpT K T (D + 12000) A (gChest A p1 p2 p3) h' → Q (rV (vI (gChest A p1 p2 p3).1)) h') : mX0_chest p1 p2 p3 h Q := by
  obtain ⟨r0, r1, r2, r3, r4, r5, r6, r7, r8, r9, r10, r11, rw0⟩ := id r
  have s1 := r1.1
  have s3 := r1.2.2.1
  unfold mX0_chest mX1_chest
  unfold gChest at k
  refine x_placeAt x (by omega) (fun a1 a2 a3 => ?_) (fun z y o t => ?_)
  · rw [kR_v]
    refine x_found x (by omega) (fun z => ?_) (fun z y o t => ?_)
    · have z := (in_1 _ _ _ _).1 z
      rw [if_neg (by omega)] at k
      refine x_right x (by omega) (fun w => ?_) (fun w y o t => ?_)
      · rw [in_1] at w
        rw [if_neg (by omega)] at k
        obtain ⟨p, rfl⟩ : ∃ n : Nat, p1 = n := ⟨p1.toNat, by omega⟩
        obtain ⟨q, rfl⟩ : ∃ n : Nat, p2 = n := ⟨p2.toNat, by omega⟩
        have ei : (31 * (p : Int) + q).toNat = 31 * p + q := by omega
        rw [ei] at k
        rw [Int.toNat_natCast] at a3
        simp only [kN_v, Int.toNat_natCast]
        obtain ⟨y1, y2, y3, y4⟩ := x.arr 1 p 6 31 a3
        refine ⟨x.obj 1 p a3, y1, by omega, by rw [y2]; omega, ?_⟩
        rintro v rfl
        refine ⟨y3, ?_⟩
        rintro g rfl
        rw [kIx_v]
        rintro g rfl
        refine k _ ⟨N, _, Z, C, Wd, ((x.setA 1 p 6 31 q p3 a3 (by omega)).out).more (by omega) (by omega), ⟨r0.up, ?_, r2, r3, r4, r5, r6, r7, r8, r9, r10, r11, rw0⟩, fun _ => ?_⟩
        · refine r1.chest (p := p) (q := q) (v := p3) a3 (by omega) (by omega) (fun i => uX_1 i) (fun a h1 h2 => ?_) rfl (fun i => ?_)
          · exact (uA_a h2).trans (uA_a h1)
          · show (if 154 = 154 ∧ i = 31 * p + q then p3 else A 154 i) = _
            simp only [true_and]
        · rw [hL_sL, if_pos ⟨rfl, rfl⟩, y4 q (by omega)]
          exact ((s3 p a3).2.2.2.2.2.2.2.2 q (by omega)).1
      · rw [in_0] at w
        rw [if_pos (by omega)] at k
        show if hT (nw h 42 0 6) (hn h) = 41 then _ else _
        rw [t, if_neg (by decide)]
        exact ⟨o, k _ ⟨N, X, Z, C, Wd, y.more (by omega) (by omega), r.thr 2, fun z => absurd z ne20⟩⟩
    · have z := (in_0 _ _ _ _).1 z
      rw [if_pos (by omega)] at k
      show if hT (nw h 41 0 6) (hn h) = 41 then _ else _
      rw [if_pos t]
      exact ⟨o, k _ ⟨N, X, Z, C, Wd, y.more (by omega) (by omega), r.thr 1, fun z => absurd z ne10⟩⟩
  · rw [if_pos (by omega)] at k
    show if hT (nw h 41 0 6) (hn h) = 41 then _ else _
    rw [if_pos t]
    exact ⟨o, k _ ⟨N, X, Z, C, Wd, y.more (by omega) (by omega), r.thr 1, fun z => absurd z ne10⟩⟩
theorem x_counted {T : Nat} {Q : Rs → Hp → Prop} (x : XS K D N N X Z C Wd A h) (r : Rel T N X C Wd A) (hD : D ≤ 780000) {p1 p2 p3 : Int} (hT4 : T ≤ 64) (k : ∀ h', OpT K T (D + 12000) A (gCounted A p1 p2 p3) h' → Q (rV (vI (gCounted A p1 p2 p3).1)) h') : mX0_counted p1 p2 p3 h Q := by
  obtain ⟨r0, r1, r2, r3, r4, r5, r6, r7, r8, r9, r10, r11, rw0⟩ := id r
  have s1 := r1.1
  have s3 := r1.2.2.1
  obtain ⟨u1, u2, u3, u4, u5, u6, u7⟩ := id r0
  unfold mX0_counted mX1_counted
  unfold gCounted at k
  refine x_placeAt x (by omega) (fun a1 a2 a3 => ?_) (fun z y o t => ?_)
  · rw [kR_v]
    refine x_found x (by omega) (fun z => ?_) (fun z y o t => ?_)
    · have z := (in_1 _ _ _ _).1 z
      rw [if_neg (by omega)] at k
      refine x_right x (by omega) (fun w => ?_) (fun w y o t => ?_)
      · rw [in_1] at w
        rw [if_neg (by omega)] at k
        obtain ⟨p, rfl⟩ : ∃ n : Nat, p1 = n := ⟨p1.toNat, by omega⟩
        obtain ⟨q, rfl⟩ : ∃ n : Nat, p2 = n := ⟨p2.toNat, by omega⟩
        have ei : (31 * (p : Int) + q).toNat = 31 * p + q := by omega
        rw [ei] at k
        rw [Int.toNat_natCast] at a3
        simp only [kN_v, Int.toNat_natCast]
        obtain ⟨y1, y2, y3, y4⟩ := x.arr 1 p 6 31 a3
        have yy := (s3 p a3).2.2.2.2.2.2.2.2 q (by omega)
        rw [y4 q (by omega), yy.1]
        refine ⟨x.obj 1 p a3, y1, by omega, by rw [y2]; omega, ⟨by omega, by omega⟩, ?_⟩
        rintro v rfl
        refine ⟨y3, ?_⟩
        rintro g rfl
        have x2 := x.setA 1 p 6 31 q p3 a3 (by omega)
        have e27 : hI (sI h (hR h (Z 1 p) 6) q p3) 50 27 = A 75 111 := (x2.sc 27).trans u6.1
        rw [e27]
        refine ⟨⟨by omega, by omega⟩, ?_⟩
        rintro g rfl
        rw [kIx_v]
        rintro g rfl
        refine k _ ⟨N, _, Z, C, Wd, ((x2.setS 27 _).out).more (by omega) (by omega), ⟨⟨u1, u2, u3, u4, u5, ⟨rfl, ?_, ?_⟩, u7⟩, ?_, r2, r3, r4, r5, r6, r7, r8, r9, r10, r11, rw0⟩, fun _ => (by rw [hL_sL, if_pos ⟨rfl, rfl⟩]; try rfl)⟩
        · show _ ≤ A 75 111 + _
          omega
        · show A 75 111 + _ ≤ _
          omega
        · refine r1.chest (p := p) (q := q) (v := p3) a3 (by omega) (by omega) (fun i => uX_1 i) (fun a h1 h2 => ?_) rfl (fun i => ?_)
          · exact (uA_a h1).trans ((uA_a h2).trans (uA_a h1))
          · show (if 154 = 154 ∧ i = 31 * p + q then p3 else A 154 i) = _
            simp only [true_and]
      · rw [in_0] at w
        rw [if_pos (by omega)] at k
        show if hT (nw h 42 0 6) (hn h) = 41 then _ else _
        rw [t, if_neg (by decide)]
        exact ⟨o, k _ ⟨N, X, Z, C, Wd, y.more (by omega) (by omega), r.thr 2, fun z => absurd z ne20⟩⟩
    · have z := (in_0 _ _ _ _).1 z
      rw [if_pos (by omega)] at k
      show if hT (nw h 41 0 6) (hn h) = 41 then _ else _
      rw [if_pos t]
      exact ⟨o, k _ ⟨N, X, Z, C, Wd, y.more (by omega) (by omega), r.thr 1, fun z => absurd z ne10⟩⟩
  · rw [if_pos (by omega)] at k
    show if hT (nw h 41 0 6) (hn h) = 41 then _ else _
    rw [if_pos t]
    exact ⟨o, k _ ⟨N, X, Z, C, Wd, y.more (by omega) (by omega), r.thr 1, fun z => absurd z ne10⟩⟩
end
