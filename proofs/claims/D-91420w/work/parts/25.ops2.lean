set_option maxRecDepth 100000
set_option maxHeartbeats 1000000
set_option linter.unusedSimpArgs false
set_option linter.unusedVariables false
/-! SPECS, 10: acts that may throw, the simple ones -/
def gDrums (A : Nat → Nat → Int) (p1 p2 : Int) : Int × Int × (Nat → Nat → Int) := if p1 < 0 ∨ A 75 2 ≤ p1 then (1, 0, uA A 75 0 1) else if p2 < 0 ∨ 9999 < p2 then (2, 0, uA A 75 0 2) else (0, A 80 p1.toNat, uA (uA A 75 0 0) 80 p1.toNat p2)
section
variable {K : Hp} {D : Nat} {N M : Nat → Nat} {X : Nat → Nat → Nat → Int} {Z : Nat → Nat → Nat} {C : Nat → Nat → List Int} {Wd : Nat → List Int} {A : Nat → Nat → Int} {h : Hp}
theorem m_drums {T : Nat} {N0 : Nat → Nat} {X0 : Nat → Nat → Nat → Int} {C0 : Nat → Nat → List Int} {Wd0 : Nat → List Int} {p1 p2 : Int} {Q : Rs → Hp → Prop} (x : XS K D N M X Z C Wd A h) (r : Rel T N0 X0 C0 Wd0 A) (k : ∀ h', XS K D N M X Z C Wd (gDrums A p1 p2).2.2 h' → hL h' 158 = hL h 158 → Q (rV (vI (gDrums A p1 p2).2.1)) h') : mX4_drums p1 p2 h Q := by
  have r1 := r.2.1.1
  have r2 := r.2.1.2.1
  unfold mX4_drums
  unfold gDrums at k
  refine m_isPlace x (fun a1 a2 y => ?_) (fun z y => ?_)
  · rw [if_neg (by omega)] at k
    simp only [kI_v, forall_eq]
    refine m_right rfl (by decide) (fun z => ?_) (fun z => ?_)
    · have : ¬ (p2 < 0 ∨ 9999 < p2) := fun w => z (b2i_f (by omega))
      rw [if_neg this] at k
      simp only [kI_v, forall_eq]
      refine ⟨a1, by omega, ?_⟩
      have e : hI (sI h 75 0 0) 80 p1.toNat = A 80 p1.toNat := (y.ra 80 p1.toNat).trans rfl
      rw [e]
      exact k _ y.ma rfl
    · have : p2 < 0 ∨ 9999 < p2 := Classical.byContradiction fun w => by rw [b2i_t (by omega)] at z; exact absurd z (by decide)
      rw [if_pos this] at k
      simp only [kI_v, forall_eq]
      have := y.mI (a := 75) (i := 0) (v := 2) (by decide) (by decide)
      rw [uA_uA] at this
      exact k _ this rfl
  · rw [if_pos z] at k
    exact k _ y rfl
theorem x_drums {T : Nat} {p1 p2 : Int} {Q : Rs → Hp → Prop} (x : XS K D N N X Z C Wd A h) (r : Rel T N X C Wd A) (hD : D ≤ 780000) (k : ∀ h', OpT K T (D + 12000) A (gDrums A p1 p2) h' → Q (rV (vI (gDrums A p1 p2).1)) h') : mX0_drums p1 p2 h Q := by
  obtain ⟨r0, r1, r2, r3, r4, r5, r6, r7, r8, r9, r10, r11, rw0⟩ := id r
  obtain ⟨q1, q2, q3, q4⟩ := r1
  unfold mX0_drums mX1_drums
  unfold gDrums at k
  refine x_placeAt x (by omega) (fun a1 a2 a3 => ?_) (fun z y o t => ?_)
  · rw [if_neg (by omega)] at k
    refine x_right x (by omega) (fun z => ?_) (fun z y o t => ?_)
    · rw [in_1] at z
      rw [if_neg (by omega)] at k
      obtain ⟨p, rfl⟩ : ∃ n : Nat, p1 = n := ⟨p1.toNat, by omega⟩
      rw [Int.toNat_natCast] at k a3 ⊢
      refine ⟨x.obj 1 _ a3, ?_⟩
      rw [x.int 1 _ 7 a3]
      rintro v rfl g rfl g1 rfl
      refine k _ ⟨N, _, Z, C, Wd, ((x.setI 1 p 7 p2 a3).out).more (by omega) (by omega), ⟨r0.up, ⟨q1, q2, fun i hi => ?_, ?_⟩, r2, r3, r4, r5, r6, r7, r8, r9, r10, r11, rw0⟩, fun _ => ?_⟩
      · obtain ⟨y1, y2, y3, y4, y5, y6, y7, y8, y9⟩ := q3 i hi
        by_cases z : i = p
        · subst z
          simp [Pl1, uX, uA, af_eq]
          exact ⟨y1, y2, y3, y4, y5, by omega, y7, y8, y9⟩
        · simpa [Pl1, uX, uA, z] using q3 i hi
      · intro i h1 h2
        have := q4 i h1 h2
        simpa [uA, show i ≠ p by omega] using this
      · rw [hL_sL, if_pos ⟨rfl, rfl⟩]
        exact (q3 _ (by omega)).2.2.2.2.2.1.1
    · rw [in_0] at z
      rw [if_pos (by omega)] at k
      show if hT (nw h 42 0 6) (hn h) = 41 then _ else _
      rw [t, if_neg (by decide)]
      exact ⟨o, k _ ⟨N, X, Z, C, Wd, y.more (by omega) (by omega), r.thr 2, fun z => absurd z ne20⟩⟩
  · rw [if_pos (by omega)] at k
    show if hT (nw h 41 0 6) (hn h) = 41 then _ else _
    rw [if_pos t]
    exact ⟨o, k _ ⟨N, X, Z, C, Wd, y.more (by omega) (by omega), r.thr 1, fun z => absurd z ne10⟩⟩
end
def gRadio (A : Nat → Nat → Int) (p1 p2 p3 : Int) : Int × Int × (Nat → Nat → Int) := if p1 < 0 ∨ A 75 2 ≤ p1 then (1, 0, uA A 75 0 1) else if p2 < 0 ∨ 16777215 < p2 ∨ p3 < 0 ∨ 999 < p3 then (0, 0, uA A 75 0 0) else (0, 1, uA (uA (uA A 75 0 0) 115 p1.toNat p2) 116 p1.toNat p3)
def gQuarters (A : Nat → Nat → Int) (p1 : Int) : Int × Int × (Nat → Nat → Int) := if p1 < 0 ∨ 2687 < p1 ∨ 2687 - A 75 1 < p1 then (1, 0, uA A 75 0 1) else (0, A 75 1 + p1, uA (uA A 75 0 0) 75 1 (A 75 1 + p1))
def gCount (A : Nat → Nat → Int) (p1 : Int) : Int × Int × (Nat → Nat → Int) := if p1 < 0 ∨ 9 < p1 then (1, 0, uA A 75 0 1) else (0, if p1 = 0 then A 75 1 else if p1 = 1 then A 75 2 else if p1 = 2 then A 75 3 else if p1 = 3 then A 75 4 else if p1 = 4 then A 75 69 else if p1 = 5 then A 75 80 else if p1 = 6 then A 75 98 else if p1 = 7 then A 75 113 else if p1 = 8 then A 75 23 else A 75 111, uA A 75 0 0)
def gGiftLeft (A : Nat → Nat → Int) (p1 : Int) : Int × Int × (Nat → Nat → Int) := if p1 < 0 ∨ A 75 113 ≤ p1 then (1, 0, uA A 75 0 1) else (0, A 155 p1.toNat, uA A 75 0 0)
def gPlaneOf (A : Nat → Nat → Int) (p1 p2 : Int) : Int × Int × (Nat → Nat → Int) := if p1 < 0 ∨ A 75 3 ≤ p1 ∨ (p2 ≠ 0 ∧ p2 ≠ 1) then (1, 0, uA A 75 0 1) else (0, if p2 = 0 then A 86 p1.toNat else A 87 p1.toNat, uA A 75 0 0)
def gWeekOf (A : Nat → Nat → Int) (p1 : Int) : Int × Int × (Nat → Nat → Int) := if A 75 99 ≤ 0 ∨ p1 < -1 ∨ A 75 99 ≤ p1 then (1, 0, uA A 75 0 1) else (0, if p1 = -1 then A 75 100 else A 147 p1.toNat, uA A 75 0 0)
section
variable {K : Hp} {D : Nat} {N M : Nat → Nat} {X : Nat → Nat → Nat → Int} {Z : Nat → Nat → Nat} {C : Nat → Nat → List Int} {Wd : Nat → List Int} {A : Nat → Nat → Int} {h : Hp}
theorem b2i_1 {c : Prop} [Decidable c] (z : b2i c ≠ 0) : c := Classical.byContradiction fun w => z (b2i_f w)
theorem b2i_0 {c : Prop} [Decidable c] (z : b2i c = 0) : ¬ c := fun w => by rw [b2i_t w] at z; exact absurd z (by decide)
theorem XS.t5 (x : XS K D N M X Z C Wd (uA A 75 0 0) h) {v : Int} : XS K D N M X Z C Wd (uA A 75 0 v) (sI h 75 0 v) := by
  have := x.m5 (i := 0) (v := v)
  rw [uA_uA] at this
  exact this
theorem m_radio {T : Nat} {N0 : Nat → Nat} {X0 : Nat → Nat → Nat → Int} {C0 : Nat → Nat → List Int} {Wd0 : Nat → List Int} {Q : Rs → Hp → Prop} (x : XS K D N M X Z C Wd A h) (r : Rel T N0 X0 C0 Wd0 A) {p1 p2 p3 : Int} (k : ∀ h', XS K D N M X Z C Wd (gRadio A p1 p2 p3).2.2 h' → hL h' 158 = hL h 158 → Q (rV (vI (gRadio A p1 p2 p3).2.1)) h') : mX4_radio p1 p2 p3 h Q := by
  have r1 := r.2.1.1
  have r2 := r.2.1.2.1
  unfold mX4_radio
  unfold gRadio at k
  refine m_isPlace x (fun a1 a2 y => ?_) (fun z y => ?_)
  · rw [if_neg (by omega)] at k
    simp only [kI_v, forall_eq]
    split
    · rw [if_pos (by omega)] at k
      exact k _ y rfl
    · rw [if_neg (by omega)] at k
      exact ⟨a1, by omega, k _ (y.ma.ma) rfl⟩
  · rw [if_pos z] at k
    rw [kI_v, if_pos (Or.inl rfl)]
    exact k _ y rfl
theorem x_radio {T : Nat} {Q : Rs → Hp → Prop} (x : XS K D N N X Z C Wd A h) (r : Rel T N X C Wd A) (hD : D ≤ 780000) {p1 p2 p3 : Int} (k : ∀ h', OpT K T (D + 12000) A (gRadio A p1 p2 p3) h' → Q (rV (vI (gRadio A p1 p2 p3).1)) h') : mX0_radio p1 p2 p3 h Q := by
  obtain ⟨r0, r1, r2, r3, r4, r5, r6, r7, r8, r9, r10, r11, rw0⟩ := id r
  obtain ⟨q1, q2, q3, q4⟩ := r1
  unfold mX0_radio mX1_radio
  unfold gRadio at k
  refine x_placeAt x (by omega) (fun a1 a2 a3 => ?_) (fun z y o t => ?_)
  · rw [if_neg (by omega)] at k
    simp only [kR_v, in_0, in_1]
    split
    · rw [if_pos (by omega)] at k
      rw [kIx_v]
      rintro l rfl g rfl
      exact k _ ⟨N, X, Z, C, Wd, (x.out).more (by omega) (by omega), r.thr 0, fun _ => (by rw [hL_sL, if_pos ⟨rfl, rfl⟩]; try rfl)⟩
    · rw [if_neg (by omega)] at k
      obtain ⟨p, rfl⟩ : ∃ n : Nat, p1 = n := ⟨p1.toNat, by omega⟩
      rw [Int.toNat_natCast] at k a3 ⊢
      refine ⟨x.obj 1 _ a3, ?_⟩
      rintro g rfl g rfl
      rw [kIx_v]
      rintro l rfl g rfl
      refine k _ ⟨N, _, Z, C, Wd, (((x.setI 1 p 8 p2 a3).setI 1 p 9 p3 a3).out).more (by omega) (by omega), ⟨r0.up, ⟨q1, q2, fun i hi => ?_, ?_⟩, r2, r3, r4, r5, r6, r7, r8, r9, r10, r11, rw0⟩, fun _ => (by rw [hL_sL, if_pos ⟨rfl, rfl⟩]; try rfl)⟩
      · obtain ⟨y1, y2, y3, y4, y5, y6, y7, y8, y9⟩ := q3 i hi
        by_cases z : i = p
        · subst z
          simp [Pl1, uX, uA, af_eq]
          exact ⟨y1, y2, y3, y4, y5, y6, by omega, by omega, y9⟩
        · simpa [Pl1, uX, uA, z] using q3 i hi
      · intro i h1 h2
        have := q4 i h1 h2
        simpa [uA, show i ≠ p by omega] using this
  · rw [if_pos (by omega)] at k
    exact ⟨o, k _ ⟨N, X, Z, C, Wd, y.more (by omega) (by omega), r.thr 1, fun z => absurd z ne10⟩⟩
theorem m_quarters {T : Nat} {N0 : Nat → Nat} {X0 : Nat → Nat → Nat → Int} {C0 : Nat → Nat → List Int} {Wd0 : Nat → List Int} {Q : Rs → Hp → Prop} (x : XS K D N M X Z C Wd A h) (r : Rel T N0 X0 C0 Wd0 A) {p1 : Int} (k : ∀ h', XS K D N M X Z C Wd (gQuarters A p1).2.2 h' → hL h' 158 = hL h 158 → Q (rV (vI (gQuarters A p1).2.1)) h') : mX4_quarters p1 h Q := by
  have r1 := r.1.1
  unfold mX4_quarters
  unfold gQuarters at k
  rintro g rfl
  have y : XS K D N M X Z C Wd (uA A 75 0 0) (sI h 75 0 0) := x.m5
  have e : hI (sI h 75 0 0) 75 1 = A 75 1 := x.rd 75 1
  rw [e]
  refine ⟨fun _ _ => ⟨by omega, by omega⟩, ?_⟩
  rintro v rfl
  refine m_right rfl (by decide) (fun z => ?_) (fun z => ?_)
  · have z := b2i_1 z
    rw [if_neg (by omega)] at k
    rw [kI_v, if_neg (by decide), e]
    refine ⟨⟨by omega, by omega⟩, ?_⟩
    rintro g rfl
    exact k _ y.m5 rfl
  · have z := b2i_0 z
    rw [if_pos (by omega)] at k
    rw [kI_v, if_pos (by decide)]
    exact k _ y.t5 rfl
theorem x_quarters {T : Nat} {Q : Rs → Hp → Prop} (x : XS K D N N X Z C Wd A h) (r : Rel T N X C Wd A) (hD : D ≤ 780000) {p1 : Int} (k : ∀ h', OpT K T (D + 12000) A (gQuarters A p1) h' → Q (rV (vI (gQuarters A p1).1)) h') : mX0_quarters p1 h Q := by
  obtain ⟨r0, r1, r2, r3, r4, r5, r6, r7, r8, r9, r10, r11, rw0⟩ := id r
  obtain ⟨q1, q2, q3, q4, q5, q6, q7⟩ := r0
  unfold mX0_quarters mX1_quarters
  unfold gQuarters at k
  have e : hI h 50 20 = A 75 1 := (x.sc 20).trans q1.1
  rw [e]
  refine ⟨fun z => ?_, ?_⟩
  · rw [in_0] at z
    exact ⟨by omega, by omega⟩
  rintro v rfl
  refine x_right x (by omega) (fun z => ?_) (fun z y o t => ?_)
  · have z := b2i_1 z
    rw [in_0] at z
    rw [if_neg (by omega)] at k
    show nm (hI h 50 20 + p1) ∧ _
    rw [e]
    refine ⟨⟨by omega, by omega⟩, ?_⟩
    rintro g rfl
    rw [kIx_v]
    rintro g1 rfl
    refine k _ ⟨N, _, Z, C, Wd, ((x.setS 20 (A 75 1 + p1)).out).more (by omega) (by omega), ⟨⟨⟨rfl, ?_, ?_⟩, q2, q3, q4, q5, ⟨q6.1, ?_, ?_⟩, q7⟩, r1, r2, r3, r4, r5, r6, r7, r8, r9, r10, r11, rw0⟩, fun _ => (by rw [hL_sL, if_pos ⟨rfl, rfl⟩]; try rfl)⟩
    · show 0 ≤ A 75 1 + p1
      omega
    · show A 75 1 + p1 ≤ 2687
      omega
    · have := q6.2.1
      show _ ≤ A 75 111
      omega
    · have := q6.2.2
      show A 75 111 ≤ _
      omega
  · have z := b2i_0 z
    rw [in_0] at z
    rw [if_pos (by omega)] at k
    exact ⟨o, k _ ⟨N, X, Z, C, Wd, y.more (by omega) (by omega), r.thr 1, fun z => absurd z ne10⟩⟩
theorem m_count {T : Nat} {N0 : Nat → Nat} {X0 : Nat → Nat → Nat → Int} {C0 : Nat → Nat → List Int} {Wd0 : Nat → List Int} {Q : Rs → Hp → Prop} (x : XS K D N M X Z C Wd A h) (r : Rel T N0 X0 C0 Wd0 A) {p1 : Int} (k : ∀ h', XS K D N M X Z C Wd (gCount A p1).2.2 h' → hL h' 158 = hL h 158 → Q (rV (vI (gCount A p1).2.1)) h') : mX4_count p1 h Q := by
  unfold mX4_count
  unfold gCount at k
  rintro g rfl v rfl
  have y : XS K D N M X Z C Wd (uA A 75 0 0) (sI h 75 0 0) := x.m5
  refine m_right rfl (by decide) (fun z => ?_) (fun z => ?_)
  · have z := b2i_1 z
    rw [if_neg (by omega)] at k
    rw [kI_v, if_neg (by decide)]
    have k := k _ y rfl
    rw [y.rd 75 1, y.rd 75 2, y.rd 75 3, y.rd 75 4, y.rd 75 69, y.rd 75 80, y.rd 75 98, y.rd 75 113, y.rd 75 23, y.rd 75 111]
    simp only at k
    repeat' split
    all_goals (simp only [*, if_true, if_false, reduceIte] at k; first | exact k | (simp_all; done))
  · have z := b2i_0 z
    rw [if_pos (by omega)] at k
    rw [kI_v, if_pos (by decide)]
    exact k _ y.t5 rfl
end
