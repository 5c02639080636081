set_option maxRecDepth 100000
set_option maxHeartbeats 1000000
set_option linter.unusedSimpArgs false
set_option linter.unusedVariables false
/-! SPECS, 12: more acts -/
def gFind (A : Nat → Nat → Int) (p1 p2 : Int) : Int × Int × (Nat → Nat → Int) := if p1 < 0 ∨ A 75 69 ≤ p1 then (1, 0, uA A 75 0 1) else if A 122 p1.toNat = -1 ∨ A 75 1 < A 122 p1.toNat ∨ A 75 76 = 150 then (0, 0, uA A 75 0 0) else (0, 1, uA (uA (uA (uA (uA A 75 0 0) 125 (A 75 76).toNat p1) 127 (A 75 76).toNat p2) 126 (A 75 76).toNat (A 75 1)) 75 76 (A 75 76 + 1))
section
variable {K : Hp} {D : Nat} {N M : Nat → Nat} {X : Nat → Nat → Nat → Int} {Z : Nat → Nat → Nat} {C : Nat → Nat → List Int} {Wd : Nat → List Int} {A : Nat → Nat → Int} {h : Hp}
theorem m_isCall {p : Int} {Q : Rs → Hp → Prop} (x : XS K D N M X Z C Wd A h) (k1 : 0 ≤ p → p < A 75 69 → XS K D N M X Z C Wd (uA A 75 0 0) (sI h 75 0 0) → Q (rV (vI 1)) (sI h 75 0 0)) (k2 : (p < 0 ∨ A 75 69 ≤ p) → XS K D N M X Z C Wd (uA A 75 0 1) (sI (sI h 75 0 0) 75 0 1) → Q (rV (vI 0)) (sI (sI h 75 0 0) 75 0 1)) : mX4_isCall p h Q := by
  unfold mX4_isCall
  rintro g rfl v rfl
  have x1 : XS K D N M X Z C Wd (uA A 75 0 0) (sI h 75 0 0) := x.m5
  have e : hI (sI h 75 0 0) 75 69 = A 75 69 := x.rd 75 69
  rw [e]
  refine m_right rfl (by decide) (fun z => ?_) (fun z => ?_)
  · have z := b2i_1 z
    exact ⟨Or.inr rfl, k1 (by omega) (by omega) x1⟩
  · have z := b2i_0 z
    exact ⟨Or.inl rfl, k2 (by omega) x1.t5⟩
theorem m_isFlight {p : Int} {Q : Rs → Hp → Prop} (x : XS K D N M X Z C Wd A h) (k1 : 0 ≤ p → p < A 75 80 → XS K D N M X Z C Wd (uA A 75 0 0) (sI h 75 0 0) → Q (rV (vI 1)) (sI h 75 0 0)) (k2 : (p < 0 ∨ A 75 80 ≤ p) → XS K D N M X Z C Wd (uA A 75 0 1) (sI (sI h 75 0 0) 75 0 1) → Q (rV (vI 0)) (sI (sI h 75 0 0) 75 0 1)) : mX4_isFlight p h Q := by
  unfold mX4_isFlight
  rintro g rfl v rfl
  have x1 : XS K D N M X Z C Wd (uA A 75 0 0) (sI h 75 0 0) := x.m5
  have e : hI (sI h 75 0 0) 75 80 = A 75 80 := x.rd 75 80
  rw [e]
  refine m_right rfl (by decide) (fun z => ?_) (fun z => ?_)
  · have z := b2i_1 z
    exact ⟨Or.inr rfl, k1 (by omega) (by omega) x1⟩
  · have z := b2i_0 z
    exact ⟨Or.inl rfl, k2 (by omega) x1.t5⟩
theorem heard_m {p : Int} (x : XS K D N M X Z C Wd A h) : vX4_isHeard p h = 0 ↔ (A 122 p.toNat = -1 ∨ A 75 1 < A 122 p.toNat) := by
  unfold vX4_isHeard b2i
  rw [x.ra 122, x.rd 75 1]
  split <;> omega
theorem m_find {T : Nat} {N0 : Nat → Nat} {X0 : Nat → Nat → Nat → Int} {C0 : Nat → Nat → List Int} {Wd0 : Nat → List Int} {Q : Rs → Hp → Prop} (x : XS K D N M X Z C Wd A h) (r : Rel T N0 X0 C0 Wd0 A) {p1 p2 : Int} (hp : p2 = 0 ∨ p2 = 1) (k : ∀ h', XS K D N M X Z C Wd (gFind A p1 p2).2.2 h' → hL h' 158 = hL h 158 → Q (rV (vI (gFind A p1 p2).2.1)) h') : mX4_find p1 p2 h Q := by
  have r1 := r.2.2.2.2.2.2.2.1.1
  have r2 := r.2.2.2.2.2.2.2.1.2.1
  have r3 := r.2.2.2.2.2.2.2.2.1.1
  have r4 := r.2.2.2.2.2.2.2.2.1.2.1
  unfold mX4_find
  unfold gFind at k
  refine m_isCall x (fun a1 a2 y => ?_) (fun z y => ?_)
  · rw [if_neg (by omega)] at k
    rw [kI_v]
    refine ⟨fun _ => ⟨by omega, by omega⟩, ?_⟩
    have e : hI h 75 76 = A 75 76 := x.rd 75 76
    have e1 : hI h 75 1 = A 75 1 := x.rd 75 1
    simp only [forall_eq, hI_sI, hI_sL, hI_sR, hI_nw, hL_sI, hL_sL, hL_sR, hL_nw, hR_sI, hR_sL, hR_sR, hR_nw, hT_sI, hT_sL, hT_sR, hN_sI, hN_sL, hN_sR, hn_sI, hn_sL, hn_sR, hq_sI, hq_sL, hq_sR, Nat.reduceEqDiff, false_and, and_false, true_and, and_true, and_self, if_false, if_true, reduceIte, ite_self, e, e1, heard_m y]
    have u1 : uA A 75 0 0 122 = A 122 := rfl
    have u2 : uA A 75 0 0 75 1 = A 75 1 := rfl
    rw [u1, u2]
    split
    · rw [if_pos (by omega)] at k
      exact k _ y rfl
    · rw [if_neg (by omega)] at k
      have b1 : 0 ≤ A 75 76 := by omega
      have b2 : A 75 76 < 150 := by omega
      exact ⟨b1, b2, hp, b1, b2, b1, b2, ⟨by omega, by omega⟩, k _ y.ma.ma.ma.m5 rfl⟩
  · rw [if_pos z] at k
    rw [kI_v]
    refine ⟨fun z => absurd rfl z, ?_⟩
    rw [if_pos (Or.inl rfl)]
    exact k _ y rfl
theorem x_find {T : Nat} {Q : Rs → Hp → Prop} (x : XS K D N N X Z C Wd A h) (r : Rel T N X C Wd A) (hD : D ≤ 780000) {p1 p2 : Int} (hp : p2 = 0 ∨ p2 = 1) (k : ∀ h', OpT K T (D + 12000) A (gFind A p1 p2) h' → Q (rV (vI (gFind A p1 p2).1)) h') : mX0_find p1 p2 h Q := by
  obtain ⟨r0, r1, r2, r3, r4, r5, r6, r7, r8, r9, r10, r11, rw0⟩ := id r
  obtain ⟨b1, b2, b3, b4⟩ := x.hb
  obtain ⟨q1, q2, q3⟩ := r7
  obtain ⟨c1, c2, c3⟩ := id r8
  have e : vJ2_size 60 h = N 7 := x.size 7
  have en0 : hI h 50 20 = A 75 1 := (x.sc 20).trans r0.1.1
  have en : hI (nw h 18 0 4) 50 20 = A 75 1 := by
    rw [hI_nw, if_neg (by omega)]
    exact en0
  unfold mX0_find mX1_find
  unfold gFind at k
  refine x_callAt x (by omega) (fun a1 a2 a3 => ?_) (fun z y o t => ?_)
  · rw [if_neg (by omega)] at k
    rw [kR_v]
    obtain ⟨p, rfl⟩ : ∃ n : Nat, p1 = n := ⟨p1.toNat, by omega⟩
    rw [Int.toNat_natCast] at k a3 ⊢
    have o8 := x.obj 8 p a3
    have z8 : hR h (Z 8 p) 6 = 50 := by
      obtain ⟨⟨own, x⟩, _⟩ := x
      exact (x.o 8 p (by decide) (by decide) a3).2.2.2.2.2.2 6 (by decide)
    have hh : vX19_isHeard (Z 8 p) h = 0 ↔ (A 122 p = -1 ∨ A 75 1 < A 122 p) := by
      unfold vX19_isHeard b2i
      rw [x.int 8 p 3 a3, (c3 p a3).2.2.2.1.1, en0]
      split <;> omega
    rw [e]
    simp only [hh]
    refine ⟨⟨o8, fun _ => z8⟩, o8, fun _ => x.osize 7, ?_⟩
    split
    · rw [if_pos (by omega)] at k
      rw [kIx_v]
      rintro l rfl g rfl
      exact k _ ⟨N, X, Z, C, Wd, (x.out).more (by omega) (by omega), r.thr 0, fun _ => (by rw [hL_sL, if_pos ⟨rfl, rfl⟩]; try rfl)⟩
    · rw [if_neg (by omega)] at k
      have n1 : A 75 76 = N 7 := by omega
      rw [n1, Int.toNat_natCast] at k
      refine ⟨by omega, by omega, ?_⟩
      rintro r rfl g rfl v rfl
      rw [en]
      have ep : b2i (¬ (p2 = 0)) = p2 := by
        unfold b2i
        split <;> omega
      rw [ep]
      unfold mX18_init
      simp only [forall_eq]
      refine ⟨by omega, ob_nw_self rfl (by omega), ?_⟩
      refine x.mk 7 (row := rw4 p 0 p2 (A 75 1)) ?_ rfl ?_ ?_ ?_ ?_ ?_ (by omega) (by omega) ?_
      · exact fun a ha => (same_nw (by omega)).trans ((same_sI (by omega)).trans ((same_sI (by omega)).trans ((same_sI (by omega)).trans (same_sI (by omega)))))
      · simp only [hI_sI, hI_sL, hI_sR, hI_nw, hL_sI, hL_sL, hL_sR, hL_nw, hR_sI, hR_sL, hR_sR, hR_nw, hT_sI, hT_sL, hT_sR, hN_sI, hN_sL, hN_sR, hn_sI, hn_sL, hn_sR, hq_sI, hq_sL, hq_sR, Nat.reduceEqDiff, false_and, and_false, true_and, and_true, and_self, if_false, if_true, reduceIte, ite_self, hq_nw]; omega
      · simp only [hI_sI, hI_sL, hI_sR, hI_nw, hL_sI, hL_sL, hL_sR, hL_nw, hR_sI, hR_sL, hR_sR, hR_nw, hT_sI, hT_sL, hT_sR, hN_sI, hN_sL, hN_sR, hn_sI, hn_sL, hn_sR, hq_sI, hq_sL, hq_sR, Nat.reduceEqDiff, false_and, and_false, true_and, and_true, and_self, if_false, if_true, reduceIte, ite_self, hT_nw]; rfl
      · intro f hf
        simp only [fI, List.mem_cons, List.not_mem_nil, or_false] at hf
        rcases hf with rfl | rfl | rfl | rfl <;> simp [hI_sI, hI_sL, hI_sR, hI_nw, hL_sI, hL_sL, hL_sR, hL_nw, hR_sI, hR_sL, hR_sR, hR_nw, hT_sI, hT_sL, hT_sR, hN_sI, hN_sL, hN_sR, hn_sI, hn_sL, hn_sR, hq_sI, hq_sL, hq_sR, Nat.reduceEqDiff, false_and, and_false, true_and, and_true, and_self, if_false, if_true, reduceIte, ite_self, rw4]
      · intro p hp
        simp [fR] at hp
      · intro p hp
        simp [fZ] at hp
      · intro h' y
        rw [kI_v, kIx_v]
        refine k _ ⟨_, _, _, _, _, (y.out).more (by omega) (by omega), ⟨r0.up, r1, r2, r3, r4, r5, r6, ⟨rfl, ?_, ?_⟩, r8, r9, r10, r11, rw0⟩, fun _ => (by rw [hL_sL, if_pos ⟨rfl, rfl⟩]; try rfl)⟩
        · show N 7 + 1 ≤ 150
          omega
        · intro i hi
          have hi : i < N 7 + 1 := hi
          by_cases z : i = N 7
          · subst z
            rw [uW_at]
            simp [uA, rw4]
            omega
          · rw [uW_ne (by omega)]
            simpa [uA, z] using q3 i (by omega)
  · rw [if_pos (by omega)] at k
    exact ⟨o, k _ ⟨N, X, Z, C, Wd, y.more (by omega) (by omega), r.thr 1, fun z => absurd z ne10⟩⟩
theorem x_count {T : Nat} {Q : Rs → Hp → Prop} (x : XS K D N N X Z C Wd A h) (r : Rel T N X C Wd A) (hD : D ≤ 780000) {p1 : Int} (k : ∀ h', OpT K T (D + 12000) A (gCount A p1) h' → Q (rV (vI (gCount A p1).1)) h') : mX0_count p1 h Q := by
  obtain ⟨r0, r1, r2, r3, r4, r5, r6, r7, r8, r9, r10, r11, rw0⟩ := id r
  obtain ⟨b1, b2, b3, b4⟩ := x.hb
  have e1 : vJ2_size 54 h = A 75 2 := (x.size 1).trans r1.1.symm
  have e2 : vJ2_size 55 h = A 75 3 := (x.size 2).trans r2.1.symm
  have e3 : vJ2_size 56 h = A 75 4 := (x.size 3).trans r3.1.symm
  have e4 : vJ2_size 61 h = A 75 69 := (x.size 8).trans r8.1.symm
  have e5 : vJ2_size 62 h = A 75 80 := (x.size 9).trans r9.1.symm
  have e6 : vJ2_size 63 h = A 75 98 := (x.size 10).trans r10.1.symm
  have e7 : vJ2_size 64 h = A 75 113 := (x.size 11).trans r11.1.symm
  have e0 : hI h 50 20 = A 75 1 := (x.sc 20).trans r0.1.1
  have e8 : hI h 50 21 = A 75 23 := (x.sc 21).trans r0.2.1.1
  have e9 : hI h 50 27 = A 75 111 := (x.sc 27).trans r0.2.2.2.2.2.1.1
  unfold mX0_count mX1_count
  unfold gCount at k
  rw [e0, e1, e2, e3, e4, e5, e6, e7, e8, e9]
  by_cases c : p1 < 0 ∨ 9 < p1
  · rw [if_pos c] at k
    rw [if_neg (by omega), if_neg (by omega), if_neg (by omega), if_neg (by omega), if_neg (by omega), if_neg (by omega), if_neg (by omega), if_neg (by omega), if_neg (by omega), if_neg (by omega)]
    have y : XS K (D + 2) N N X Z C Wd A (nw h 41 0 6) := x.thr (by omega) (by omega) (by omega)
    exact ⟨by omega, by omega, thr_ob b1 41, k _ ⟨N, X, Z, C, Wd, y.more (by omega) (by omega), r.thr 1, fun z => absurd z ne10⟩⟩
  · rw [if_neg c] at k
    have kk : ∀ v, v = (if p1 = 0 then A 75 1 else if p1 = 1 then A 75 2 else if p1 = 2 then A 75 3 else if p1 = 3 then A 75 4 else if p1 = 4 then A 75 69 else if p1 = 5 then A 75 80 else if p1 = 6 then A 75 98 else if p1 = 7 then A 75 113 else if p1 = 8 then A 75 23 else A 75 111) → ∀ g, g = sL h 158 0 v → Q (rV (vI 0)) g := by
      rintro v ev g rfl
      exact k _ ⟨N, X, Z, C, Wd, (x.out).more (by omega) (by omega), r.thr 0, fun _ => (by rw [hL_sL, if_pos ⟨rfl, rfl⟩]; exact ev)⟩
    by_cases d0 : p1 = 0
    · rw [if_pos d0]; exact kk _ (by rw [if_pos d0])
    by_cases d1 : p1 = 1
    · rw [if_neg d0, if_pos d1]; exact ⟨x.osize 1, kk _ (by rw [if_neg d0, if_pos d1])⟩
    by_cases d2 : p1 = 2
    · rw [if_neg d0, if_neg d1, if_pos d2]; exact ⟨x.osize 2, kk _ (by rw [if_neg d0, if_neg d1, if_pos d2])⟩
    by_cases d3 : p1 = 3
    · rw [if_neg d0, if_neg d1, if_neg d2, if_pos d3]; exact ⟨x.osize 3, kk _ (by rw [if_neg d0, if_neg d1, if_neg d2, if_pos d3])⟩
    by_cases d4 : p1 = 4
    · rw [if_neg d0, if_neg d1, if_neg d2, if_neg d3, if_pos d4]; exact ⟨x.osize 8, kk _ (by rw [if_neg d0, if_neg d1, if_neg d2, if_neg d3, if_pos d4])⟩
    by_cases d5 : p1 = 5
    · rw [if_neg d0, if_neg d1, if_neg d2, if_neg d3, if_neg d4, if_pos d5]; exact ⟨x.osize 9, kk _ (by rw [if_neg d0, if_neg d1, if_neg d2, if_neg d3, if_neg d4, if_pos d5])⟩
    by_cases d6 : p1 = 6
    · rw [if_neg d0, if_neg d1, if_neg d2, if_neg d3, if_neg d4, if_neg d5, if_pos d6]; exact ⟨x.osize 10, kk _ (by rw [if_neg d0, if_neg d1, if_neg d2, if_neg d3, if_neg d4, if_neg d5, if_pos d6])⟩
    by_cases d7 : p1 = 7
    · rw [if_neg d0, if_neg d1, if_neg d2, if_neg d3, if_neg d4, if_neg d5, if_neg d6, if_pos d7]; exact ⟨x.osize 11, kk _ (by rw [if_neg d0, if_neg d1, if_neg d2, if_neg d3, if_neg d4, if_neg d5, if_neg d6, if_pos d7])⟩
    by_cases d8 : p1 = 8
    · rw [if_neg d0, if_neg d1, if_neg d2, if_neg d3, if_neg d4, if_neg d5, if_neg d6, if_neg d7, if_pos d8]; exact kk _ (by rw [if_neg d0, if_neg d1, if_neg d2, if_neg d3, if_neg d4, if_neg d5, if_neg d6, if_neg d7, if_pos d8])
    rw [if_neg d0, if_neg d1, if_neg d2, if_neg d3, if_neg d4, if_neg d5, if_neg d6, if_neg d7, if_neg d8, if_pos (by omega)]
    exact kk _ (by rw [if_neg d0, if_neg d1, if_neg d2, if_neg d3, if_neg d4, if_neg d5, if_neg d6, if_neg d7, if_neg d8])
theorem m_giftLeft {T : Nat} {N0 : Nat → Nat} {X0 : Nat → Nat → Nat → Int} {C0 : Nat → Nat → List Int} {Wd0 : Nat → List Int} {Q : Rs → Hp → Prop} (x : XS K D N M X Z C Wd A h) (r : Rel T N0 X0 C0 Wd0 A) {p1 : Int} (k : ∀ h', XS K D N M X Z C Wd (gGiftLeft A p1).2.2 h' → hL h' 158 = hL h 158 → Q (rV (vI (gGiftLeft A p1).2.1)) h') : mX4_giftLeft p1 h Q := by
  have r1 := r.2.2.2.2.2.2.2.2.2.2.2.1.1
  have r2 := r.2.2.2.2.2.2.2.2.2.2.2.1.2.1
  unfold mX4_giftLeft
  unfold gGiftLeft at k
  rintro g rfl v rfl
  have y : XS K D N M X Z C Wd (uA A 75 0 0) (sI h 75 0 0) := x.m5
  have e : hI (sI h 75 0 0) 75 113 = A 75 113 := x.rd 75 113
  rw [e]
  refine m_right rfl (by decide) (fun z => ?_) (fun z => ?_)
  · have z := b2i_1 z
    rw [if_neg (by omega)] at k
    refine ⟨fun _ => ⟨by omega, by omega⟩, ?_⟩
    rintro v rfl
    rw [if_pos (by decide), y.ra 155]
    exact k _ y rfl
  · have z := b2i_0 z
    rw [if_pos (by omega)] at k
    refine ⟨fun z => absurd rfl z, ?_⟩
    rintro v rfl
    rw [if_neg (by decide)]
    exact k _ y.t5 rfl
theorem x_giftLeft {T : Nat} {Q : Rs → Hp → Prop} (x : XS K D N N X Z C Wd A h) (r : Rel T N X C Wd A) (hD : D ≤ 780000) {p1 : Int} (k : ∀ h', OpT K T (D + 12000) A (gGiftLeft A p1) h' → Q (rV (vI (gGiftLeft A p1).1)) h') : mX0_giftLeft p1 h Q := by
  obtain ⟨r0, r1, r2, r3, r4, r5, r6, r7, r8, r9, r10, r11, rw0⟩ := id r
  obtain ⟨q1, q2, q3⟩ := id r11
  have e : vJ2_size 64 h = N 11 := x.size 11
  unfold mX0_giftLeft mX1_giftLeft
  unfold gGiftLeft at k
  rw [e]
  refine ⟨x.osize 11, ⟨by omega, by omega⟩, ?_⟩
  refine x_found x (by omega) (fun z => ?_) (fun z y o t => ?_)
  · have z := (in_1 _ _ _ _).1 z
    rw [if_neg (by omega)] at k
    obtain ⟨p, rfl⟩ : ∃ n : Nat, p1 = n := ⟨p1.toNat, by omega⟩
    have lt : p < N 11 := by omega
    have g : vJ2_get 64 (p : Int) h = Z 11 p := x.get 11 (by omega) (by omega)
    rw [kN_v, g, x.int 11 p 2 lt]
    refine ⟨x.oget 11 (by omega) (by omega), x.obj 11 p lt, ?_⟩
    rw [kIx_v]
    rintro g rfl
    exact k _ ⟨N, X, Z, C, Wd, (x.out).more (by omega) (by omega), r.thr 0, fun _ => (by rw [hL_sL, if_pos ⟨rfl, rfl⟩]; exact (q3 p lt).2.2.1)⟩
  · have z := (in_0 _ _ _ _).1 z
    rw [if_pos (by omega)] at k
    exact ⟨o, k _ ⟨N, X, Z, C, Wd, y.more (by omega) (by omega), r.thr 1, fun z => absurd z ne10⟩⟩
end
