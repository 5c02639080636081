set_option maxRecDepth 100000
set_option maxHeartbeats 1000000
set_option linter.unusedSimpArgs false
set_option linter.unusedVariables false
/-! SPECS, 16: legs asked, clinics -/
section
variable {K : Hp} {D : Nat} {N M : Nat → Nat} {X : Nat → Nat → Nat → Int} {Z : Nat → Nat → Nat} {C : Nat → Nat → List Int} {Wd : Nat → List Int} {A : Nat → Nat → Int} {h : Hp}
theorem m_leg2 {T : Nat} {N0 : Nat → Nat} {X0 : Nat → Nat → Nat → Int} {C0 : Nat → Nat → List Int} {Wd0 : Nat → List Int} {Q : Rs → Hp → Prop} (x : XS K D N M X Z C Wd A h) (r : Rel T N0 X0 C0 Wd0 A) {p1 p2 p3 : Int} (k : ∀ h', XS K D N M X Z C Wd (gLeg A p1 p2 p3).2.2 h' → hL h' 158 = hL h 158 → Q (rV (vI (gLeg A p1 p2 p3).2.1)) h') : mX4_leg_2 p1 p2 p3 h Q := by
  have r1 := r.2.2.2.2.2.2.2.2.2.1.1
  have r2 := r.2.2.2.2.2.2.2.2.2.1.2.1
  have r3 := r.2.2.2.2.2.2.2.2.2.1.2.2
  unfold mX4_leg_2
  unfold gLeg at k
  refine m_isFlight x (fun a1 a2 y => ?_) (fun z y => ?_)
  · have q := (r3 p1.toNat (by omega)).1
    rw [kI_v, if_pos (by decide), y.ra 130]
    have u1 : uA A 75 0 0 130 = A 130 := rfl
    rw [u1]
    refine ⟨fun _ => ⟨a1, by omega⟩, ?_⟩
    rintro v rfl
    refine m_right rfl (by decide) (fun z => ?_) (fun z => ?_)
    · have z := b2i_1 z
      rw [if_neg (by omega)] at k
      rw [kI_v, if_neg (by decide)]
      refine ⟨⟨by omega, by omega⟩, ⟨by omega, by omega⟩, ?_⟩
      rintro v rfl
      have k := k _ y rfl
      rw [y.ra 136, y.ra 137, y.ra 138, y.ra 139, y.ra 140, y.ra 141]
      have b : 0 ≤ 7 * p1 + p2 ∧ 7 * p1 + p2 < 420 := by omega
      by_cases c0 : p3 = 0
      · rw [if_pos (by omega)]
        rw [if_pos c0] at k
        exact ⟨b.1, b.2, k⟩
      · rw [if_neg (by omega)]
        rw [if_neg c0] at k
        refine ⟨⟨fun _ => b, fun _ => ⟨fun _ => b, fun _ => ⟨fun _ => b, fun _ => ⟨fun _ => b, fun _ => b⟩⟩⟩⟩, ?_⟩
        rintro v rfl
        by_cases c1 : p3 = 1
        · rw [if_pos (by omega)]
          rw [if_pos c1] at k
          exact k
        rw [if_neg (by omega)]
        rw [if_neg c1] at k
        by_cases c2 : p3 = 2
        · rw [if_pos (by omega)]
          rw [if_pos c2] at k
          exact k
        rw [if_neg (by omega)]
        rw [if_neg c2] at k
        by_cases c3 : p3 = 3
        · rw [if_pos (by omega)]
          rw [if_pos c3] at k
          exact k
        rw [if_neg (by omega)]
        rw [if_neg c3] at k
        by_cases c4 : p3 = 4
        · rw [if_pos (by omega)]
          rw [if_pos c4] at k
          exact k
        rw [if_neg (by omega)]
        rw [if_neg c4] at k
        exact k
    · have z := b2i_0 z
      rw [if_pos (by omega)] at k
      rw [kI_v, if_pos (by decide)]
      exact k _ y.t5 rfl
  · rw [if_pos (by omega)] at k
    rw [kI_v, if_neg (by decide)]
    exact k _ y rfl
theorem x_leg {T : Nat} {Q : Rs → Hp → Prop} (x : XS K D N N X Z C Wd A h) (r : Rel T N X C Wd A) (hD : D ≤ 780000) {p1 p2 p3 : Int} (k : ∀ h', OpT K T (D + 12000) A (gLeg A p1 p2 p3) h' → Q (rV (vI (gLeg A p1 p2 p3).1)) h') : mX0_leg p1 p2 p3 h Q := by
  obtain ⟨r0, r1, r2, r3, r4, r5, r6, r7, r8, r9, r10, r11, rw0⟩ := id r
  obtain ⟨b1, b2, b3, b4⟩ := x.hb
  obtain ⟨q1, q2, q3⟩ := id r9
  unfold mX0_leg mX1_leg
  unfold gLeg at k
  refine x_flightAt x (by omega) (fun a1 a2 a3 => ?_) (fun z y o t => ?_)
  · obtain ⟨p, rfl⟩ : ∃ n : Nat, p1 = n := ⟨p1.toNat, by omega⟩
    rw [Int.toNat_natCast] at k a3 ⊢
    obtain ⟨y1, y2, y3, y4, y5⟩ := q3 p a3
    have o9 := x.obj 9 p a3
    rw [kR_v, x.int 9 p 2 a3, y1.1]
    refine ⟨o9, ⟨by omega, by omega⟩, ?_⟩
    refine x_found x (by omega) (fun z => ?_) (fun z y o t => ?_)
    · have z := (in_1 _ _ _ _).1 z
      obtain ⟨q, rfl⟩ : ∃ n : Nat, p2 = n := ⟨p2.toNat, by omega⟩
      have ei : (7 * (p : Int) + q).toNat = 7 * p + q := by omega
      rw [ei] at k
      simp only [kN_v, Int.toNat_natCast]
      have q7 : q < 7 := by omega
      obtain ⟨z3, z4, z5, z6, z7, z8, z9, _⟩ := y5 q (by omega)
      obtain ⟨t1, t2, t3, t4⟩ := x.par 9 p 3 7 1 a3
      obtain ⟨t5, t6⟩ := t4 q q7
      have lt : (X 9 p (af 3 q)).toNat < N 1 := by omega
      have e0 : hI h (hR h (hR h (Z 9 p) 3) q) 0 = A 136 (7 * p + q) := by
        rw [t5]
        unfold rfZ
        rw [if_neg (by omega), x.int 1 _ 0 lt, (r1.2.2.1 _ lt).1]
        omega
      have o1 : ob h (hR h (hR h (Z 9 p) 3) q) 5 := by
        rw [t5]
        unfold rfZ
        rw [if_neg (by omega)]
        exact x.obj 1 _ lt
      obtain ⟨u1, u2, _, u3⟩ := x.arr 9 p 4 7 a3
      obtain ⟨v1, v2, _, v3⟩ := x.arr 9 p 5 7 a3
      obtain ⟨w1, w2, _, w3⟩ := x.arr 9 p 6 7 a3
      obtain ⟨s1, s2, _, s3⟩ := x.arr 9 p 7 7 a3
      obtain ⟨m1, m2, _, m3⟩ := x.arr 9 p 8 7 a3
      rw [e0, u3 q q7, v3 q q7, w3 q q7, s3 q q7, m3 q q7, z4.1, z5.1, z6.1, z7, z8, t2, u2, v2, w2, s2, m2]
      by_cases c : p3 < 0 ∨ 5 < p3
      · rw [if_pos (by omega)] at k
        rw [if_neg (by omega), if_neg (by omega), if_neg (by omega), if_neg (by omega), if_neg (by omega), if_neg (by omega)]
        have y : XS K (D + 2) N N X Z C Wd A (nw h 41 0 6) := x.thr (by omega) (by omega) (by omega)
        exact ⟨by omega, by omega, thr_ob b1 41, k _ ⟨N, X, Z, C, Wd, y.more (by omega) (by omega), r.thr 1, fun z => absurd z ne10⟩⟩
      · rw [if_neg (by omega)] at k
        have kk : ∀ v, v = (if p3 = 0 then A 136 (7 * p + q) else if p3 = 1 then A 137 (7 * p + q) else if p3 = 2 then A 138 (7 * p + q) else if p3 = 3 then A 139 (7 * p + q) else if p3 = 4 then A 140 (7 * p + q) else A 141 (7 * p + q)) → ∀ g, g = sL h 158 0 v → Q (rV (vI 0)) g := by
          rintro v ev g rfl
          exact k _ ⟨N, X, Z, C, Wd, (x.out).more (by omega) (by omega), r.thr 0, fun _ => (by rw [hL_sL, if_pos ⟨rfl, rfl⟩]; exact ev)⟩
        by_cases d0 : p3 = 0
        · rw [if_pos d0]; exact ⟨o9, t1, by omega, by omega, o1, kk _ (by rw [if_pos d0])⟩
        by_cases d1 : p3 = 1
        · rw [if_neg d0, if_pos d1]; exact ⟨o9, u1, by omega, by omega, kk _ (by rw [if_neg d0, if_pos d1])⟩
        by_cases d2 : p3 = 2
        · rw [if_neg d0, if_neg d1, if_pos d2]; exact ⟨o9, v1, by omega, by omega, kk _ (by rw [if_neg d0, if_neg d1, if_pos d2])⟩
        by_cases d3 : p3 = 3
        · rw [if_neg d0, if_neg d1, if_neg d2, if_pos d3]; exact ⟨o9, w1, by omega, by omega, kk _ (by rw [if_neg d0, if_neg d1, if_neg d2, if_pos d3])⟩
        by_cases d4 : p3 = 4
        · rw [if_neg d0, if_neg d1, if_neg d2, if_neg d3, if_pos d4]; exact ⟨o9, s1, by omega, by omega, kk _ (by rw [if_neg d0, if_neg d1, if_neg d2, if_neg d3, if_pos d4])⟩
        rw [if_neg d0, if_neg d1, if_neg d2, if_neg d3, if_neg d4, if_pos (by omega)]
        exact ⟨o9, m1, by omega, by omega, kk _ (by rw [if_neg d0, if_neg d1, if_neg d2, if_neg d3, if_neg d4])⟩
    · have z := (in_0 _ _ _ _).1 z
      rw [if_pos (by omega)] at k
      exact ⟨o, k _ ⟨N, X, Z, C, Wd, y.more (by omega) (by omega), r.thr 1, fun z => absurd z ne10⟩⟩
  · rw [if_pos (by omega)] at k
    exact ⟨o, k _ ⟨N, X, Z, C, Wd, y.more (by omega) (by omega), r.thr 1, fun z => absurd z ne10⟩⟩
end
/-- whether a clinic of the first n is at p -/
def clAt (A : Nat → Nat → Int) (p : Int) : Nat → Bool
  | 0 => false
  | n + 1 => clAt A p n || decide (A 144 n = p)
def gClinic (A : Nat → Nat → Int) (p1 p2 p3 : Int) : Int × (Nat → Nat → Int) := if A 75 98 = 8 ∨ p1 < 0 ∨ A 75 2 ≤ p1 ∨ p2 < 0 ∨ 5 < p2 ∨ p3 < 1 ∨ 16 < p3 ∨ clAt A p1 (A 75 98).toNat = true then (-1, uA A 75 0 0) else (A 75 98, uA (uA (uA (uA (uA A 75 0 0) 144 (A 75 98).toNat p1) 145 (A 75 98).toNat p2) 146 (A 75 98).toNat p3) 75 98 (A 75 98 + 1))
section
variable {K : Hp} {D : Nat} {N M : Nat → Nat} {X : Nat → Nat → Nat → Int} {Z : Nat → Nat → Nat} {C : Nat → Nat → List Int} {Wd : Nat → List Int} {A : Nat → Nat → Int} {h : Hp}
theorem m_clinic {T : Nat} {N0 : Nat → Nat} {X0 : Nat → Nat → Nat → Int} {C0 : Nat → Nat → List Int} {Wd0 : Nat → List Int} {Q : Rs → Hp → Prop} (x : XS K D N M X Z C Wd A h) (r : Rel T N0 X0 C0 Wd0 A) {p1 p2 p3 : Int} (k : ∀ h', XS K D N M X Z C Wd (gClinic A p1 p2 p3).2 h' → Q (rV (vI (gClinic A p1 p2 p3).1)) h') : mX4_clinic p1 p2 p3 h Q := by
  have r1 := r.2.2.2.2.2.2.2.2.2.2.1.1
  have r2 := r.2.2.2.2.2.2.2.2.2.2.1.2.1
  unfold mX4_clinic
  unfold gClinic at k
  rintro g rfl v rfl
  have y : XS K D N M X Z C Wd (uA A 75 0 0) (sI h 75 0 0) := x.m5
  have e1 : hI (sI h 75 0 0) 75 98 = N0 10 := (x.rd 75 98).trans r1
  have e2 : hI (sI h 75 0 0) 75 2 = A 75 2 := x.rd 75 2
  rw [e1, e2]
  rw [r1, Int.toNat_natCast] at k
  have key : b2i (¬p1 < 0 ∧ ¬A 75 2 ≤ p1 ∧ ¬p2 < 0 ∧ ¬5 < p2 ∧ ¬p3 < 1 ∧ ¬16 < p3) = b2i ((¬p1 < 0 ∧ ¬A 75 2 ≤ p1 ∧ ¬p2 < 0 ∧ ¬5 < p2 ∧ ¬p3 < 1 ∧ ¬16 < p3) ∧ clAt A p1 0 = false) := by
    unfold b2i clAt
    simp
  rw [key]
  refine fp2 (N0 10) (fun n => b2i ((¬p1 < 0 ∧ ¬A 75 2 ≤ p1 ∧ ¬p2 < 0 ∧ ¬5 < p2 ∧ ¬p3 < 1 ∧ ¬16 < p3) ∧ clAt A p1 n = false)) (fun R i hi hR => ?_) (fun R => ?_)
  · rw [if_pos (by omega)]
    refine ⟨fun _ => ⟨by omega, by omega⟩, ?_⟩
    rintro v rfl
    refine ⟨⟨by omega, by omega⟩, ?_⟩
    rintro j rfl
    have e3 : hI (sI h 75 0 0) 144 ((i : Int)).toNat = A 144 i := by rw [Int.toNat_natCast]; exact y.ra 144 i
    rw [e3]
    have : b2i (¬ (b2i ((¬p1 < 0 ∧ ¬A 75 2 ≤ p1 ∧ ¬p2 < 0 ∧ ¬5 < p2 ∧ ¬p3 < 1 ∧ ¬16 < p3) ∧ clAt A p1 i = false) = 0) ∧ ¬ (A 144 i = p1)) = b2i ((¬p1 < 0 ∧ ¬A 75 2 ≤ p1 ∧ ¬p2 < 0 ∧ ¬5 < p2 ∧ ¬p3 < 1 ∧ ¬16 < p3) ∧ clAt A p1 (i + 1) = false) := by
      show _ = b2i ((¬p1 < 0 ∧ ¬A 75 2 ≤ p1 ∧ ¬p2 < 0 ∧ ¬5 < p2 ∧ ¬p3 < 1 ∧ ¬16 < p3) ∧ (clAt A p1 i || decide (A 144 i = p1)) = false)
      by_cases c : A 144 i = p1
      · rw [b2i_f (fun z => z.2 c), b2i_f (fun z => by simp [c] at z)]
      · by_cases d : (¬p1 < 0 ∧ ¬A 75 2 ≤ p1 ∧ ¬p2 < 0 ∧ ¬5 < p2 ∧ ¬p3 < 1 ∧ ¬16 < p3) ∧ clAt A p1 i = false
        · rw [b2i_t d, b2i_t ⟨by decide, c⟩, b2i_t ⟨d.1, by simp [c, d.2]⟩]
        · rw [b2i_f d, b2i_f (fun z => z.1 rfl), b2i_f (fun z => d ⟨z.1, by have := z.2; simp [c] at this; exact this⟩)]
    rw [this]
    exact hR
  · rw [if_neg (by omega)]
    by_cases d : (N0 10 : Int) = 8 ∨ p1 < 0 ∨ A 75 2 ≤ p1 ∨ p2 < 0 ∨ 5 < p2 ∨ p3 < 1 ∨ 16 < p3 ∨ clAt A p1 (N0 10) = true
    · rw [if_pos d] at k
      have : (N0 10 : Int) = 8 ∨ ¬ (b2i ((¬p1 < 0 ∧ ¬A 75 2 ≤ p1 ∧ ¬p2 < 0 ∧ ¬5 < p2 ∧ ¬p3 < 1 ∧ ¬16 < p3) ∧ clAt A p1 (N0 10) = false) ≠ 0) := by
        by_cases c : clAt A p1 (N0 10) = true
        · right
          rw [b2i_f (fun z => by rw [c] at z; exact absurd z.2 (by decide))]
          exact fun z => z rfl
        · by_cases c8 : (N0 10 : Int) = 8
          · exact Or.inl c8
          · right
            rw [b2i_f (fun z => by rcases d with d | d | d | d | d | d | d | d <;> first | omega | exact c d)]
            exact fun z => z rfl
      rw [if_pos this]
      exact k _ y
    · rw [if_neg d] at k
      have cf : clAt A p1 (N0 10) = false := by
        cases hc : clAt A p1 (N0 10) with
        | false => rfl
        | true => exact absurd (Or.inr (Or.inr (Or.inr (Or.inr (Or.inr (Or.inr (Or.inr hc))))))) d
      have d' : ¬ ((N0 10 : Int) = 8 ∨ p1 < 0 ∨ A 75 2 ≤ p1 ∨ p2 < 0 ∨ 5 < p2 ∨ p3 < 1 ∨ 16 < p3) := fun z => d (by rcases z with z | z | z | z | z | z | z <;> simp [z])
      rw [b2i_t ⟨by omega, cf⟩, if_neg (by omega)]
      simp only [forall_eq, hI_sI, hI_sL, hI_sR, hI_nw, hL_sI, hL_sL, hL_sR, hL_nw, hR_sI, hR_sL, hR_sR, hR_nw, hT_sI, hT_sL, hT_sR, hN_sI, hN_sL, hN_sR, hn_sI, hn_sL, hn_sR, hq_sI, hq_sL, hq_sR, Nat.reduceEqDiff, false_and, and_false, true_and, and_true, and_self, if_false, if_true, reduceIte, ite_self]
      have e1' : hI h 75 98 = N0 10 := e1
      rw [e1', Int.toNat_natCast]
      refine ⟨by omega, by omega, by omega, by omega, by omega, by omega, ⟨by omega, by omega⟩, ⟨by omega, by omega⟩, ?_⟩
      rw [Int.add_sub_cancel]
      exact k _ y.ma.ma.ma.m5
theorem x_clinic {T : Nat} {Q : Rs → Hp → Prop} (x : XS K D N N X Z C Wd A h) (r : Rel T N X C Wd A) (hD : D ≤ 780000) {p1 p2 p3 : Int} (k : ∀ h', OpV K T (D + 12000) A (gClinic A p1 p2 p3).2 h' → Q (rV (vI (gClinic A p1 p2 p3).1)) h') : mX1_clinic p1 p2 p3 h Q := by
  obtain ⟨r0, r1, r2, r3, r4, r5, r6, r7, r8, r9, r10, r11, rw0⟩ := id r
  obtain ⟨b1, b2, b3, b4⟩ := x.hb
  obtain ⟨q1, q2, q3⟩ := r10
  obtain ⟨s1, s2, s3, s4⟩ := id r1
  have e : vJ2_size 63 h = N 10 := x.size 10
  have e1 : vJ2_size 54 h = N 1 := x.size 1
  unfold mX1_clinic
  rw [e, e1]
  unfold gClinic at k
  rw [q1, Int.toNat_natCast] at k
  simp only [in_0, in_1]
  refine ⟨x.osize 10, fun _ => ⟨x.osize 1, ⟨by omega, by omega⟩⟩, ?_⟩
  split
  · next c =>
    rw [if_pos (by rcases c with c | c | c | c <;> simp only [s1] <;> omega)] at k
    exact k _ ⟨N, X, Z, C, Wd, x.more (by omega) (by omega), r.thr 0⟩
  · next c =>
    obtain ⟨p, rfl⟩ : ∃ n : Nat, p1 = n := ⟨p1.toNat, by omega⟩
    have lt : p < N 1 := by omega
    refine wh1_of (fun (i : Int) => ∃ j : Nat, j ≤ N 10 ∧ i = j ∧ clAt A p j = false) (fun i => N 10 - i.toNat) ?_ ⟨0, Nat.zero_le _, rfl, rfl⟩
    rintro R i ⟨j, hj, rfl, hc⟩ kk
    by_cases z : j < N 10
    · rw [if_pos (by omega)]
      have g : vJ2_get 63 (j : Int) h = Z 10 j := x.get 10 (by omega) (by omega)
      obtain ⟨u1, u2, u3⟩ := q3 j z
      obtain ⟨v1, v2⟩ := x.ref 10 j 0 1 z (by omega)
      have lt2 : (X 10 j 0).toNat < N 1 := by omega
      rw [g, v1, x.int 1 _ 0 lt2, (s3 _ lt2).1]
      refine ⟨x.oget 10 (by omega) (by omega), x.obj 10 j z, x.obj 1 _ lt2, ?_⟩
      by_cases d : A 144 j = p
      · rw [if_pos (by omega)]
        have : ∀ m, j < m → clAt A p m = true := by
          intro m
          induction m with
          | zero => intro h; omega
          | succ m ih =>
            intro hm
            show (clAt A p m || decide (A 144 m = p)) = true
            by_cases w : j = m
            · subst w
              simp [d]
            · rw [ih (by omega)]
              rfl
        rw [if_pos (by simp [this (N 10) z])] at k
        exact k _ ⟨N, X, Z, C, Wd, x.more (by omega) (by omega), r.thr 0⟩
      · rw [if_neg (by omega)]
        refine ⟨⟨by omega, by omega⟩, ?_⟩
        rintro i rfl
        refine kk _ ⟨j + 1, z, rfl, ?_⟩ (by omega)
        show (clAt A p j || decide (A 144 j = p)) = false
        simp [hc, d]
    · have : j = N 10 := by omega
      subst this
      rw [if_neg (by omega)]
      rw [hc, if_neg (by simp; omega)] at k
      refine ⟨by omega, by omega, ?_⟩
      rintro r rfl g0 rfl
      have xg : XS K (D + 2) N N X Z C Wd A (nw h 21 0 3) := x.thr (by omega) (by omega) (by omega)
      have g1 : vJ2_get 54 (p : Int) (nw h 21 0 3) = Z 1 p := xg.get 1 (by omega) (by omega)
      rw [g1]
      refine ⟨xg.oget 1 (by omega) (by omega), xg.obj 1 p lt, ?_⟩
      unfold mX21_init
      simp only [forall_eq]
      refine ⟨by omega, ob_nw_self rfl (by omega), ?_⟩
      refine x.mk 10 (row := rw4 p p2 p3 0) ?_ rfl ?_ ?_ ?_ ?_ ?_ (by omega) (by omega) ?_
      · exact fun a ha => (same_nw (by omega)).trans ((same_sR (by omega)).trans ((same_sI (by omega)).trans (same_sI (by omega))))
      · simp only [hI_sI, hI_sL, hI_sR, hI_nw, hL_sI, hL_sL, hL_sR, hL_nw, hR_sI, hR_sL, hR_sR, hR_nw, hT_sI, hT_sL, hT_sR, hN_sI, hN_sL, hN_sR, hn_sI, hn_sL, hn_sR, hq_sI, hq_sL, hq_sR, Nat.reduceEqDiff, false_and, and_false, true_and, and_true, and_self, if_false, if_true, reduceIte, ite_self, hq_nw]; omega
      · simp only [hI_sI, hI_sL, hI_sR, hI_nw, hL_sI, hL_sL, hL_sR, hL_nw, hR_sI, hR_sL, hR_sR, hR_nw, hT_sI, hT_sL, hT_sR, hN_sI, hN_sL, hN_sR, hn_sI, hn_sL, hn_sR, hq_sI, hq_sL, hq_sR, Nat.reduceEqDiff, false_and, and_false, true_and, and_true, and_self, if_false, if_true, reduceIte, ite_self, hT_nw]; rfl
      · intro f hf
        simp only [fI, List.mem_cons, List.not_mem_nil, or_false] at hf
        rcases hf with rfl | rfl <;> simp [hI_sI, hI_sL, hI_sR, hI_nw, hL_sI, hL_sL, hL_sR, hL_nw, hR_sI, hR_sL, hR_sR, hR_nw, hT_sI, hT_sL, hT_sR, hN_sI, hN_sL, hN_sR, hn_sI, hn_sL, hn_sR, hq_sI, hq_sL, hq_sR, Nat.reduceEqDiff, false_and, and_false, true_and, and_true, and_self, if_false, if_true, reduceIte, ite_self, rw4]
      · intro q hq
        simp only [fR, List.mem_cons, List.not_mem_nil, or_false] at hq
        subst hq
        simp [hI_sI, hI_sL, hI_sR, hI_nw, hL_sI, hL_sL, hL_sR, hL_nw, hR_sI, hR_sL, hR_sR, hR_nw, hT_sI, hT_sL, hT_sR, hN_sI, hN_sL, hN_sR, hn_sI, hn_sL, hn_sR, hq_sI, hq_sL, hq_sR, Nat.reduceEqDiff, false_and, and_false, true_and, and_true, and_self, if_false, if_true, reduceIte, ite_self, rw4, rfZ, lt]
        intro w
        omega
      · intro q hq
        simp [fZ] at hq
      · intro h' y
        have e2 : vJ2_size 63 h' = N 10 + 1 := (y.size 10).trans (by rw [uM_at]; rfl)
        rw [kI_v, e2]
        refine ⟨y.osize 10, ⟨by omega, by omega⟩, ?_⟩
        rw [Int.add_sub_cancel]
        refine k _ ⟨_, _, _, _, _, y.more (by omega) (by omega), ⟨r0.up, r1, r2, r3, r4, r5, r6, r7, r8, r9, ⟨rfl, ?_, ?_⟩, r11, rw0⟩⟩
        · show N 10 + 1 ≤ 8
          omega
        · intro i hi
          have hi : i < N 10 + 1 := hi
          by_cases z : i = N 10
          · subst z
            rw [uW_at]
            simp [uA, rw4, uM]
            omega
          · rw [uW_ne (by omega)]
            simpa [uA, z, uM] using q3 i (by omega)
end
