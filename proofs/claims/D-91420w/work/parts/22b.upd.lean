set_option maxRecDepth 100000
set_option maxHeartbeats 1000000
/-! SPECS, 4: reading and writing x's state -/
def uX (X : Nat → Nat → Nat → Int) (c i f : Nat) (v : Int) : Nat → Nat → Nat → Int := fun c' i' f' => if c' = c ∧ i' = i ∧ f' = f then v else X c' i' f'
theorem uX_at (X : Nat → Nat → Nat → Int) (c i f : Nat) (v : Int) : uX X c i f v c i f = v := if_pos ⟨rfl, rfl, rfl⟩
theorem uX_f {X : Nat → Nat → Nat → Int} {c i f f' : Nat} {v : Int} (n : f' ≠ f) : uX X c i f v c i f' = X c i f' := if_neg (fun z => n z.2.2)
theorem uX_ci {X : Nat → Nat → Nat → Int} {c i f c' i' : Nat} {v : Int} (n : ¬ (c' = c ∧ i' = i)) : uX X c i f v c' i' = X c' i' := funext fun _ => if_neg (fun z => n ⟨z.1, z.2.1⟩)
theorem uX_c {X : Nat → Nat → Nat → Int} {c i f c' : Nat} {v : Int} (n : c' ≠ c) : uX X c i f v c' = X c' := funext fun _ => funext fun _ => if_neg (fun z => n z.1)
theorem fI_lt : ∀ c, c < 12 → ∀ f ∈ fI c, f < 100 := by decide
theorem fI_fR : ∀ c, c < 12 → ∀ f ∈ fI c, ∀ p ∈ fR c, p.1 ≠ f := by decide
theorem fR_lt : ∀ c, c < 12 → ∀ p ∈ fR c, p.1 < 100 := by decide
theorem fR_un : ∀ c, c < 12 → ∀ p ∈ fR c, ∀ q ∈ fR c, p.1 = q.1 → p.2 = q.2 := by decide
theorem fR_fA : ∀ c, c < 12 → ∀ p ∈ fR c, ∀ q ∈ fA c, p.1 ≠ q.1 := by decide
theorem fR_fP : ∀ c, c < 12 → ∀ p ∈ fR c, ∀ q ∈ fP c, p.1 ≠ q.1 := by decide
theorem fR_fZ : ∀ c, c < 12 → ∀ p ∈ fR c, ∀ f ∈ fZ c, p.1 ≠ f := by decide
theorem fA_un : ∀ c, c < 12 → ∀ p ∈ fA c, ∀ q ∈ fA c, p.1 = q.1 → p.2 = q.2 := by decide
theorem fA_fP : ∀ c, c < 12 → ∀ p ∈ fA c, ∀ q ∈ fP c, p.1 ≠ q.1 := by decide
theorem fA_le : ∀ c, c < 12 → ∀ p ∈ fA c, p.2 ≤ 31 := by decide
theorem fP_le : ∀ c, c < 12 → ∀ p ∈ fP c, p.2.1 ≤ 31 := by decide
theorem fP_un : ∀ c, c < 12 → ∀ p ∈ fP c, ∀ q ∈ fP c, p.1 = q.1 → p = q := by decide
section
variable {K : Hp} {own : Ow} {D : Nat} {N M : Nat → Nat} {X : Nat → Nat → Nat → Int} {Z : Nat → Nat → Nat} {C : Nat → Nat → List Int} {Wd : Nat → List Int} {h : Hp}
theorem XR.o (x : XR K own D N M X Z C Wd h) (c i : Nat) (c1 : 1 ≤ c := by decide) (c2 : c ≤ 11 := by decide) (hi : i < M c) : ObjOk M X Z own h c i := x.2.2.1 c c1 c2 i hi
theorem XR.obj (x : XR K own D N M X Z C Wd h) (c i : Nat) (c1 : 1 ≤ c := by decide) (c2 : c ≤ 11 := by decide) (hi : i < M c) : ob h (Z c i) (tgC c) := (x.2.2.1 c c1 c2 i hi).1
theorem XR.ow (x : XR K own D N M X Z C Wd h) (c i : Nat) (c1 : 1 ≤ c := by decide) (c2 : c ≤ 11 := by decide) (hi : i < M c) : own (Z c i) = (c, i + 1, 0) := (x.2.2.1 c c1 c2 i hi).2.1
theorem XR.int (x : XR K own D N M X Z C Wd h) (c i f : Nat) (c1 : 1 ≤ c := by decide) (c2 : c ≤ 11 := by decide) (hi : i < M c) (hf : f ∈ fI c := by decide) : hI h (Z c i) f = X c i f := (x.2.2.1 c c1 c2 i hi).2.2.1 f hf
theorem XR.ref (x : XR K own D N M X Z C Wd h) (c i f t : Nat) (c1 : 1 ≤ c := by decide) (c2 : c ≤ 11 := by decide) (hi : i < M c) (hf : (f, t) ∈ fR c := by decide) : hR h (Z c i) f = rfZ Z t (X c i f) ∧ X c i f < M t := (x.2.2.1 c c1 c2 i hi).2.2.2.1 (f, t) hf
theorem XR.arr (x : XR K own D N M X Z C Wd h) (c i f n : Nat) (c1 : 1 ≤ c := by decide) (c2 : c ≤ 11 := by decide) (hi : i < M c) (hf : (f, n) ∈ fA c := by decide) : ob h (hR h (Z c i) f) 70 ∧ hN h (hR h (Z c i) f) = n ∧ own (hR h (Z c i) f) = (c, i + 1, f + 1) ∧ ∀ j, j < n → hI h (hR h (Z c i) f) j = X c i (af f j) := (x.2.2.1 c c1 c2 i hi).2.2.2.2.1 (f, n) hf
theorem XR.par (x : XR K own D N M X Z C Wd h) (c i f n t : Nat) (c1 : 1 ≤ c := by decide) (c2 : c ≤ 11 := by decide) (hi : i < M c) (hf : (f, n, t) ∈ fP c := by decide) : ob h (hR h (Z c i) f) 75 ∧ hN h (hR h (Z c i) f) = n ∧ own (hR h (Z c i) f) = (c, i + 1, f + 1) ∧ ∀ j, j < n → hR h (hR h (Z c i) f) j = rfZ Z t (X c i (af f j)) ∧ X c i (af f j) < M t := (x.2.2.1 c c1 c2 i hi).2.2.2.2.2.1 (f, n, t) hf
theorem XR.lit (x : XR K own D N M X Z C Wd h) {a : Nat} (ha : a ≤ 158) : own a = (0, a, 0) := x.1.2.2.2.2.2.2 a ha
theorem XR.big (x : XR K own D N M X Z C Wd h) {a c i f : Nat} (c1 : 1 ≤ c) (e : own a = (c, i, f)) : 159 ≤ a := by
  apply Nat.lt_of_not_le
  intro z
  rw [x.lit z] at e
  injection e with e1 _
  omega
theorem XR.ls (x : XR K own D N M X Z C Wd h) (c : Nat) (c1 : 1 ≤ c := by decide) (c2 : c ≤ 11 := by decide) : XLs N M Z own h c := x.2.1 c c1 c2
theorem XR.size (x : XR K own D N M X Z C Wd h) (c : Nat) (c1 : 1 ≤ c := by decide) (c2 : c ≤ 11 := by decide) : vJ2_size (53 + c) h = N c := (x.2.1 c c1 c2).2.2.1.size
theorem XR.osize (x : XR K own D N M X Z C Wd h) (c : Nat) (c1 : 1 ≤ c := by decide) (c2 : c ≤ 11 := by decide) : oJ2_size (53 + c) h := (x.2.1 c c1 c2).2.2.1.osize
theorem XR.get (x : XR K own D N M X Z C Wd h) (c : Nat) {i : Int} (c1 : 1 ≤ c := by decide) (c2 : c ≤ 11 := by decide) (h0 : 0 ≤ i) (h1 : i < N c) : vJ2_get (53 + c) i h = Z c i.toNat := (x.2.1 c c1 c2).2.2.1.get h0 h1
theorem XR.oget (x : XR K own D N M X Z C Wd h) (c : Nat) {i : Int} (c1 : 1 ≤ c := by decide) (c2 : c ≤ 11 := by decide) (h0 : 0 ≤ i) (h1 : i < N c) : oJ2_get (53 + c) i h := (x.2.1 c c1 c2).2.2.1.oget h0 h1
theorem XR.le (x : XR K own D N M X Z C Wd h) (c : Nat) (c1 : 1 ≤ c := by decide) (c2 : c ≤ 11 := by decide) : N c ≤ M c := (x.2.1 c c1 c2).1
theorem XR.sc (x : XR K own D N M X Z C Wd h) (f : Nat) (h1 : 20 ≤ f := by decide) (h2 : f ≤ 27 := by decide) : hI h 50 f = X 0 0 f := x.2.2.2.1.1 f h1 h2
theorem XR.kf (x : XR K own D N M X Z C Wd h) : KF h := x.1.2.2.2.2.1
theorem Fr_sI (own : Ow) (h : Hp) (t j : Nat) (v : Int) : Fr (fun w => w = own t) own h (sI h t j v) := ⟨Nat.le_refl _, fun _ _ => ⟨rfl, rfl⟩, fun a _ n => same_sI (fun z => n (by rw [z]))⟩
theorem Fr_sL (own : Ow) (h : Hp) (t j : Nat) (v : Int) : Fr (fun w => w = own t) own h (sL h t j v) := ⟨Nat.le_refl _, fun _ _ => ⟨rfl, rfl⟩, fun a _ n => same_sL (fun z => n (by rw [z]))⟩
theorem Fr_sR (own : Ow) (h : Hp) (t j v : Nat) : Fr (fun w => w = own t) own h (sR h t j v) := ⟨Nat.le_refl _, fun _ _ => ⟨rfl, rfl⟩, fun a _ n => same_sR (fun z => n (by rw [z]))⟩
theorem Fr_cpI (own : Ow) (h : Hp) (t p b q m : Nat) : Fr (fun w => w = own t) own h (cpI h t p b q m) := ⟨Nat.le_refl _, fun _ _ => ⟨rfl, rfl⟩, fun a _ n => same_cpI (fun z => n (by rw [z]))⟩
/-- a field of an object that is a number -/
theorem XR.setI (x : XR K own D N M X Z C Wd h) (c i f : Nat) (v : Int) (c1 : 1 ≤ c := by decide) (c2 : c ≤ 11 := by decide) (hi : i < M c) (hf : f ∈ fI c := by decide) (n4 : c ≠ 4 := by decide) (n5 : c ≠ 5 := by decide) : XR K own D N M (uX X c i f v) Z C Wd (sI h (Z c i) f v) := by
  have O := x.o c i c1 c2 hi
  have B := x.1
  have e : own (Z c i) = (c, i + 1, 0) := O.2.1
  refine x.frame _ (Fr_sI own h (Z c i) f v) B.2.1 B.2.2.1 B.2.2.2.1 (KF_sI x.kf) ?_ (fun _ _ => rfl) ?_ (fun _ => Nat.le_refl _) (fun _ _ _ => rfl) ?_ ?_ ?_ ?_ ?_
  · intro a z
    rw [e] at z
    injection z with z1 _
    omega
  · intro c' a1 a2
    refine Or.inl ⟨fun z => ?_, fun z => ?_, rfl, Nat.le_refl _⟩
    · rw [e] at z; injection z with z1 _; omega
    · rw [e] at z; injection z with _ z2; injection z2 with z3 _; omega
  · intro c' i' a1 a2 hi'
    by_cases z : c' = c ∧ i' = i
    · obtain ⟨rfl, rfl⟩ := z
      obtain ⟨o1, o2, o3, o4, o5, o6, o7⟩ := O
      refine Or.inr ⟨o1, o2, fun q hq => ?_, fun p hp => ?_, fun p hp => ?_, fun p hp => ?_, fun q hq => o7 q hq⟩
      · rw [hI_sI]
        by_cases y : q = f
        · rw [if_pos ⟨rfl, y⟩, y, uX_at]
        · rw [if_neg (fun w => y w.2), uX_f y]
          exact o3 q hq
      · rw [uX_f (fI_fR c' (by omega) f hf p hp)]
        exact o4 p hp
      · obtain ⟨y1, y2, y3, y4⟩ := o5 p hp
        refine ⟨y1, y2, y3, fun j hj => ?_⟩
        have nz : ¬ (hR h (Z c' i') p.1 = Z c' i') := fun z => by rw [z, o2] at y3; injection y3 with _ y5; injection y5 with _ y6; omega
        have := fI_lt c' (by omega) f hf
        rw [hI_sI, if_neg (fun w => nz w.1), uX_f (by unfold af; omega)]
        exact y4 j hj
      · obtain ⟨y1, y2, y3, y4⟩ := o6 p hp
        refine ⟨y1, y2, y3, fun j hj => ?_⟩
        have := fI_lt c' (by omega) f hf
        rw [uX_f (by unfold af; omega)]
        exact y4 j hj
    · exact Or.inl ⟨hi', uX_ci z, fun q w => z (by rw [e] at w; injection w with w1 w2; injection w2 with w3 _; exact ⟨w1, by omega⟩)⟩
  · refine Or.inl ⟨fun z => ?_, fun z => ?_, fun z => ?_, uX_c (by omega)⟩ <;> (rw [e] at z; injection z with z1 _; omega)
  · intro a _ _ z
    rw [e] at z; injection z with z1 _; omega
  · intro t ht
    refine Or.inl ⟨ht, uX_ci (fun z => n4 z.1.symm), rfl, fun z => ?_, fun _ _ z => ?_⟩ <;> (rw [e] at z; injection z with z1 _; omega)
  · intro t ht
    refine Or.inl ⟨ht, rfl, fun z => ?_, fun _ _ z => ?_⟩ <;> (rw [e] at z; injection z with z1 _; omega)
/-- a field of an object that is an object -/
theorem XR.setR (x : XR K own D N M X Z C Wd h) (c i f t : Nat) (v : Int) (c1 : 1 ≤ c := by decide) (c2 : c ≤ 11 := by decide) (hi : i < M c) (hf : (f, t) ∈ fR c := by decide) (n4 : c ≠ 4 := by decide) (n5 : c ≠ 5 := by decide) (hv : v < M t) : XR K own D N M (uX X c i f v) Z C Wd (sR h (Z c i) f (rfZ Z t v)) := by
  have O := x.o c i c1 c2 hi
  have B := x.1
  have e : own (Z c i) = (c, i + 1, 0) := O.2.1
  have tg : hT h (Z c i) ≠ 1 ∧ hT h (Z c i) ≠ 3 ∧ hT h (Z c i) ≠ 4 := by
    rw [O.1.2.2]
    have : ∀ c, c < 12 → tgC c ≠ 1 ∧ tgC c ≠ 3 ∧ tgC c ≠ 4 := by decide
    exact this c (by omega)
  refine x.frame _ (Fr_sR own h (Z c i) f (rfZ Z t v)) B.2.1 B.2.2.1 B.2.2.2.1 (KF_sR x.kf tg) ?_ (fun _ _ => rfl) ?_ (fun _ => Nat.le_refl _) (fun _ _ _ => rfl) ?_ ?_ ?_ ?_ ?_
  · intro a z
    rw [e] at z
    injection z with z1 _
    omega
  · intro c' a1 a2
    refine Or.inl ⟨fun z => ?_, fun z => ?_, rfl, Nat.le_refl _⟩
    · rw [e] at z; injection z with z1 _; omega
    · rw [e] at z; injection z with _ z2; injection z2 with z3 _; omega
  · intro c' i' a1 a2 hi'
    by_cases z : c' = c ∧ i' = i
    · obtain ⟨rfl, rfl⟩ := z
      obtain ⟨o1, o2, o3, o4, o5, o6, o7⟩ := O
      have hr : ∀ q, q ≠ f → hR (sR h (Z c' i') f (rfZ Z t v)) (Z c' i') q = hR h (Z c' i') q := fun q hq => by rw [hR_sR, if_neg (fun w => hq w.2)]
      refine Or.inr ⟨o1, o2, fun q hq => ?_, fun p hp => ?_, fun p hp => ?_, fun p hp => ?_, fun q hq => ?_⟩
      · rw [uX_f (fun z => fI_fR c' (by omega) q hq _ hf z.symm)]
        exact o3 q hq
      · by_cases y : p.1 = f
        · have y2 : p.2 = t := fR_un c' (by omega) p hp _ hf y
          rw [y, y2, uX_at, hR_sR, if_pos ⟨rfl, rfl⟩]
          exact ⟨rfl, hv⟩
        · rw [uX_f y, hr _ y]
          exact o4 p hp
      · have nf := fR_fA c' (by omega) _ hf p hp
        obtain ⟨y1, y2, y3, y4⟩ := o5 p hp
        have := fR_lt c' (by omega) _ hf
        rw [hr _ (fun z => nf z.symm)]
        refine ⟨y1, y2, y3, fun j hj => ?_⟩
        rw [uX_f (by unfold af; show _ ≠ f; simp only at this; omega)]
        exact y4 j hj
      · have nf := fR_fP c' (by omega) _ hf p hp
        obtain ⟨y1, y2, y3, y4⟩ := o6 p hp
        have := fR_lt c' (by omega) _ hf
        rw [hr _ (fun z => nf z.symm)]
        refine ⟨y1, y2, y3, fun j hj => ?_⟩
        have nz : ¬ (hR h (Z c' i') p.1 = Z c' i') := fun z => by rw [z, o2] at y3; injection y3 with _ y5; injection y5 with _ y6; omega
        rw [uX_f (by unfold af; show _ ≠ f; simp only at this; omega), hR_sR, if_neg (fun w => nz w.1)]
        exact y4 j hj
      · rw [hr _ (fun z => fR_fZ c' (by omega) _ hf q hq z.symm)]
        exact o7 q hq
    · exact Or.inl ⟨hi', uX_ci z, fun q w => z (by rw [e] at w; injection w with w1 w2; injection w2 with w3 _; exact ⟨w1, by omega⟩)⟩
  · refine Or.inl ⟨fun z => ?_, fun z => ?_, fun z => ?_, uX_c (by omega)⟩ <;> (rw [e] at z; injection z with z1 _; omega)
  · intro a _ _ z
    rw [e] at z; injection z with z1 _; omega
  · intro t ht
    refine Or.inl ⟨ht, uX_ci (fun z => n4 z.1.symm), rfl, fun z => ?_, fun _ _ z => ?_⟩ <;> (rw [e] at z; injection z with z1 _; omega)
  · intro t ht
    refine Or.inl ⟨ht, rfl, fun z => ?_, fun _ _ z => ?_⟩ <;> (rw [e] at z; injection z with z1 _; omega)
theorem af_inj {f g i j : Nat} (hi : i < 100) (hj : j < 100) (e : af f i = af g j) : f = g ∧ i = j := by
  unfold af at e
  omega
/-- a cell of an array of numbers -/
theorem XR.setA (x : XR K own D N M X Z C Wd h) (c i f n j : Nat) (v : Int) (c1 : 1 ≤ c := by decide) (c2 : c ≤ 11 := by decide) (hi : i < M c) (hf : (f, n) ∈ fA c := by decide) (n4 : c ≠ 4 := by decide) (n5 : c ≠ 5 := by decide) (hj : j < n) : XR K own D N M (uX X c i (af f j) v) Z C Wd (sI h (hR h (Z c i) f) j v) := by
  have O := x.o c i c1 c2 hi
  have B := x.1
  obtain ⟨A1, A2, A3, A4⟩ := x.arr c i f n c1 c2 hi hf
  have e : own (hR h (Z c i) f) = (c, i + 1, f + 1) := A3
  have nle := fA_le c (by omega) _ hf
  simp only at nle
  refine x.frame _ (Fr_sI own h (hR h (Z c i) f) j v) B.2.1 B.2.2.1 B.2.2.2.1 (KF_sI x.kf) ?_ (fun _ _ => rfl) ?_ (fun _ => Nat.le_refl _) (fun _ _ _ => rfl) ?_ ?_ ?_ ?_ ?_
  · intro a z
    rw [e] at z
    injection z with z1 _
    omega
  · intro c' a1 a2
    refine Or.inl ⟨fun z => ?_, fun z => ?_, rfl, Nat.le_refl _⟩
    · rw [e] at z; injection z with z1 _; omega
    · rw [e] at z; injection z with _ z2; injection z2 with z3 _; omega
  · intro c' i' a1 a2 hi'
    by_cases z : c' = c ∧ i' = i
    · obtain ⟨rfl, rfl⟩ := z
      obtain ⟨o1, o2, o3, o4, o5, o6, o7⟩ := O
      have nz : ¬ (Z c' i' = hR h (Z c' i') f) := fun z => by rw [← z, o2] at A3; injection A3 with _ y5; injection y5 with _ y6; omega
      refine Or.inr ⟨o1, o2, fun q hq => ?_, fun p hp => ?_, fun p hp => ?_, fun p hp => ?_, fun q hq => o7 q hq⟩
      · have := fI_lt c' (by omega) q hq
        rw [hI_sI, if_neg (fun w => nz w.1), uX_f (by unfold af; omega)]
        exact o3 q hq
      · have := fR_lt c' (by omega) p hp
        rw [uX_f (by unfold af; omega)]
        exact o4 p hp
      · obtain ⟨y1, y2, y3, y4⟩ := o5 p hp
        refine ⟨y1, y2, y3, fun j' hj' => ?_⟩
        have pl := fA_le c' (by omega) _ hp
        by_cases y : p.1 = f
        · by_cases w : j' = j
          · rw [y, w, uX_at]
            exact (hI_sI _ _ _ _ _ _).trans (if_pos ⟨rfl, rfl⟩)
          · rw [uX_f (fun z => w (af_inj (by omega) (by omega) z).2)]
            refine ((hI_sI _ _ _ _ _ _).trans (if_neg (fun z => w z.2))).trans ?_
            exact y4 j' hj'
        · have na : ¬ (hR h (Z c' i') p.1 = hR h (Z c' i') f) := fun z => by rw [z, A3] at y3; injection y3 with _ y5; injection y5 with _ y6; omega
          rw [uX_f (fun z => y (af_inj (by omega) (by omega) z).1)]
          exact ((hI_sI _ _ _ _ _ _).trans (if_neg (fun z => na z.1))).trans (y4 j' hj')
      · obtain ⟨y1, y2, y3, y4⟩ := o6 p hp
        have nf := fA_fP c' (by omega) _ hf p hp
        have pl := fP_le c' (by omega) _ hp
        refine ⟨y1, y2, y3, fun j' hj' => ?_⟩
        rw [uX_f (fun z => nf (af_inj (by omega) (by omega) z).1.symm)]
        exact y4 j' hj'
    · exact Or.inl ⟨hi', uX_ci z, fun q w => z (by rw [e] at w; injection w with w1 w2; injection w2 with w3 _; exact ⟨w1, by omega⟩)⟩
  · refine Or.inl ⟨fun z => ?_, fun z => ?_, fun z => ?_, uX_c (by omega)⟩ <;> (rw [e] at z; injection z with z1 _; omega)
  · intro a _ _ z
    rw [e] at z; injection z with z1 _; omega
  · intro t ht
    refine Or.inl ⟨ht, uX_ci (fun z => n4 z.1.symm), rfl, fun z => ?_, fun _ _ z => ?_⟩ <;> (rw [e] at z; injection z with z1 _; omega)
  · intro t ht
    refine Or.inl ⟨ht, rfl, fun z => ?_, fun _ _ z => ?_⟩ <;> (rw [e] at z; injection z with z1 _; omega)
/-- a cell of an array of objects -/
theorem XR.setP (x : XR K own D N M X Z C Wd h) (c i f n t j : Nat) (v : Int) (c1 : 1 ≤ c := by decide) (c2 : c ≤ 11 := by decide) (hi : i < M c) (hf : (f, n, t) ∈ fP c := by decide) (n4 : c ≠ 4 := by decide) (n5 : c ≠ 5 := by decide) (hv : v < M t) (hj : j < n) : XR K own D N M (uX X c i (af f j) v) Z C Wd (sR h (hR h (Z c i) f) j (rfZ Z t v)) := by
  have O := x.o c i c1 c2 hi
  have B := x.1
  obtain ⟨A1, A2, A3, A4⟩ := x.par c i f n t c1 c2 hi hf
  have e : own (hR h (Z c i) f) = (c, i + 1, f + 1) := A3
  have nle := fP_le c (by omega) _ hf
  simp only at nle
  refine x.frame _ (Fr_sR own h (hR h (Z c i) f) j (rfZ Z t v)) B.2.1 B.2.2.1 B.2.2.2.1 (KF_sR x.kf (by rw [A1.2.2]; decide)) ?_ (fun _ _ => rfl) ?_ (fun _ => Nat.le_refl _) (fun _ _ _ => rfl) ?_ ?_ ?_ ?_ ?_
  · intro a z
    rw [e] at z
    injection z with z1 _
    omega
  · intro c' a1 a2
    refine Or.inl ⟨fun z => ?_, fun z => ?_, rfl, Nat.le_refl _⟩
    · rw [e] at z; injection z with z1 _; omega
    · rw [e] at z; injection z with _ z2; injection z2 with z3 _; omega
  · intro c' i' a1 a2 hi'
    by_cases z : c' = c ∧ i' = i
    · obtain ⟨rfl, rfl⟩ := z
      obtain ⟨o1, o2, o3, o4, o5, o6, o7⟩ := O
      have nz : ¬ (Z c' i' = hR h (Z c' i') f) := fun z => by rw [← z, o2] at A3; injection A3 with _ y5; injection y5 with _ y6; omega
      have hr : ∀ q, hR (sR h (hR h (Z c' i') f) j (rfZ Z t v)) (Z c' i') q = hR h (Z c' i') q := fun q => by rw [hR_sR, if_neg (fun w => nz w.1)]
      refine Or.inr ⟨o1, o2, fun q hq => ?_, fun p hp => ?_, fun p hp => ?_, fun p hp => ?_, fun q hq => by rw [hr]; exact o7 q hq⟩
      · have := fI_lt c' (by omega) q hq
        rw [uX_f (by unfold af; omega)]
        exact o3 q hq
      · have := fR_lt c' (by omega) p hp
        rw [uX_f (by unfold af; omega), hr]
        exact o4 p hp
      · obtain ⟨y1, y2, y3, y4⟩ := o5 p hp
        have nf := fA_fP c' (by omega) _ hp _ hf
        have pl := fA_le c' (by omega) _ hp
        rw [hr]
        refine ⟨y1, y2, y3, fun j' hj' => ?_⟩
        rw [uX_f (fun z => nf (af_inj (by omega) (by omega) z).1)]
        exact y4 j' hj'
      · obtain ⟨y1, y2, y3, y4⟩ := o6 p hp
        have pl := fP_le c' (by omega) _ hp
        rw [hr]
        refine ⟨y1, y2, y3, fun j' hj' => ?_⟩
        by_cases y : p.1 = f
        · have ep := fP_un c' (by omega) _ hp _ hf y
          subst ep
          by_cases w : j' = j
          · rw [w, uX_at, hR_sR, if_pos ⟨rfl, rfl⟩]
            exact ⟨rfl, hv⟩
          · rw [uX_f (fun z => w (af_inj (by omega) (by omega) z).2), hR_sR, if_neg (fun z => w z.2)]
            exact y4 j' hj'
        · have na : ¬ (hR h (Z c' i') p.1 = hR h (Z c' i') f) := fun z => by rw [z, A3] at y3; injection y3 with _ y5; injection y5 with _ y6; omega
          rw [uX_f (fun z => y (af_inj (by omega) (by omega) z).1), hR_sR, if_neg (fun z => na z.1)]
          exact y4 j' hj'
    · exact Or.inl ⟨hi', uX_ci z, fun q w => z (by rw [e] at w; injection w with w1 w2; injection w2 with w3 _; exact ⟨w1, by omega⟩)⟩
  · refine Or.inl ⟨fun z => ?_, fun z => ?_, fun z => ?_, uX_c (by omega)⟩ <;> (rw [e] at z; injection z with z1 _; omega)
  · intro a _ _ z
    rw [e] at z; injection z with z1 _; omega
  · intro t ht
    refine Or.inl ⟨ht, uX_ci (fun z => n4 z.1.symm), rfl, fun z => ?_, fun _ _ z => ?_⟩ <;> (rw [e] at z; injection z with z1 _; omega)
  · intro t ht
    refine Or.inl ⟨ht, rfl, fun z => ?_, fun _ _ z => ?_⟩ <;> (rw [e] at z; injection z with z1 _; omega)
/-- a write to an address of a fixed place that isn't read by x's state (the model's, scratch) -/
theorem XR.touch (x : XR K own D N M X Z C Wd h) {k : Hp} {a : Nat} (ha : a ≤ 158) (f : Fr (fun w => w = own a) own h k) (e1 : hn k = hn h) (e2 : hq k = hq h) (kf : KF k) (h50 : 51 ≤ a) (hl : ¬ (54 ≤ a ∧ a ≤ 69)) (h73 : a ≠ 73) : XR K own D N M X Z C Wd k := by
  have B := x.1
  have e := x.lit ha
  have b1 := B.2.1
  have b2 := B.2.2.1
  refine x.frame _ f (by omega) (by omega) B.2.2.2.1 kf ?_ (fun _ _ => rfl) ?_ (fun _ => Nat.le_refl _) (fun _ _ _ => rfl) ?_ ?_ ?_ ?_ ?_
  · intro b z
    rw [e] at z
    injection z with _ z2; injection z2 with z3 _; omega
  · intro c' a1 a2
    refine Or.inl ⟨fun z => ?_, fun z => ?_, rfl, Nat.le_refl _⟩
    · rw [e] at z; injection z with _ z2; injection z2 with z3 _; omega
    · rw [e] at z; injection z with z1 _; omega
  · intro c' i' a1 a2 hi'
    exact Or.inl ⟨hi', rfl, fun q z => by rw [e] at z; injection z with z1 _; omega⟩
  · refine Or.inl ⟨fun z => ?_, fun z => ?_, fun z => ?_, rfl⟩ <;> (rw [e] at z; injection z with _ z2; injection z2 with z3 _; omega)
  · intro b _ _ z
    rw [e] at z; injection z with _ z2; injection z2 with z3 _; omega
  · intro t ht
    refine Or.inl ⟨ht, rfl, rfl, fun z => ?_, fun _ _ z => ?_⟩ <;> (rw [e] at z; injection z with z1 _; omega)
  · intro t ht
    refine Or.inl ⟨ht, rfl, fun z => ?_, fun _ _ z => ?_⟩ <;> (rw [e] at z; injection z with z1 _; omega)
theorem XR.mI (x : XR K own D N M X Z C Wd h) {a i : Nat} {v : Int} (h1 : 75 ≤ a := by decide) (h2 : a ≤ 158 := by decide) : XR K own D N M X Z C Wd (sI h a i v) := x.touch h2 (Fr_sI own h a i v) rfl rfl (KF_sI x.kf) (by omega) (by omega) (by omega)
theorem XR.mL (x : XR K own D N M X Z C Wd h) {a i : Nat} {v : Int} (h1 : 75 ≤ a := by decide) (h2 : a ≤ 158 := by decide) : XR K own D N M X Z C Wd (sL h a i v) := x.touch h2 (Fr_sL own h a i v) rfl rfl (KF_sL x.kf) (by omega) (by omega) (by omega)
/-- scratch of x: 51, 52, 70, 71, 72 -/
theorem XR.tI (x : XR K own D N M X Z C Wd h) {a i : Nat} {v : Int} (h1 : a = 51 ∨ a = 52 ∨ a = 70 ∨ a = 71 ∨ a = 72 := by decide) : XR K own D N M X Z C Wd (sI h a i v) := x.touch (by omega) (Fr_sI own h a i v) rfl rfl (KF_sI x.kf) (by omega) (by omega) (by omega)
theorem XR.t53 (x : XR K own D N M X Z C Wd h) {i v : Nat} : XR K own D N M X Z C Wd (sR h 53 i v) := x.touch (by decide) (Fr_sR own h 53 i v) rfl rfl (KF_sR x.kf (by have := (x.kf.2 (53, 75, 12) (by decide)).1.2.2; simp only at this; omega)) (by decide) (by decide) (by decide)
theorem XR.t74 (x : XR K own D N M X Z C Wd h) {i v : Nat} : XR K own D N M X Z C Wd (sR h 74 i v) := x.touch (by decide) (Fr_sR own h 74 i v) rfl rfl (KF_sR x.kf (by have := (x.kf.2 (74, 76, 60) (by decide)).1.2.2; simp only at this; omega)) (by decide) (by decide) (by decide)
theorem XR.t72 (x : XR K own D N M X Z C Wd h) {p b q m : Nat} : XR K own D N M X Z C Wd (cpI h 72 p b q m) := x.touch (by decide) (Fr_cpI own h 72 p b q m) rfl rfl x.kf (by decide) (by decide) (by decide)
/-- a write to x's own cell, its tape, its week -/
theorem XR.self (x : XR K own D N M X Z C Wd h) {X' : Nat → Nat → Nat → Int} {a i : Nat} {v : Int} (ha : a = 50 ∨ a = 65 ∨ a = 73) (hX : ∀ c, c ≠ 0 → X' c = X c) (s : XSc X' (sI h a i v)) : XR K own D N M X' Z C Wd (sI h a i v) := by
  have B := x.1
  have e := x.lit (a := a) (by omega)
  refine x.frame _ (Fr_sI own h a i v) B.2.1 B.2.2.1 B.2.2.2.1 (KF_sI x.kf) ?_ (fun _ _ => rfl) ?_ (fun _ => Nat.le_refl _) (fun _ _ _ => rfl) ?_ ?_ ?_ ?_ ?_
  · intro b z
    rw [e] at z
    injection z with _ z2; injection z2 with z3 _; omega
  · intro c' a1 a2
    refine Or.inl ⟨fun z => ?_, fun z => ?_, rfl, Nat.le_refl _⟩
    · rw [e] at z; injection z with _ z2; injection z2 with z3 _; omega
    · rw [e] at z; injection z with z1 _; omega
  · intro c' i' a1 a2 hi'
    exact Or.inl ⟨hi', by rw [hX c' (by omega)], fun q z => by rw [e] at z; injection z with z1 _; omega⟩
  · exact Or.inr s
  · intro b _ _ z
    rw [e] at z; injection z with _ z2; injection z2 with z3 _; omega
  · intro t ht
    refine Or.inl ⟨ht, by rw [hX 4 (by decide)], rfl, fun z => ?_, fun _ _ z => ?_⟩ <;> (rw [e] at z; injection z with z1 _; omega)
  · intro t ht
    refine Or.inl ⟨ht, rfl, fun z => ?_, fun _ _ z => ?_⟩ <;> (rw [e] at z; injection z with z1 _; omega)
theorem XR.setS (x : XR K own D N M X Z C Wd h) (f : Nat) (v : Int) : XR K own D N M (uX X 0 0 f v) Z C Wd (sI h 50 f v) := by
  refine x.self (Or.inl rfl) (fun c hc => uX_c hc) ⟨fun q h1 h2 => ?_, fun j hj => ?_, fun j hj => ?_⟩
  · rw [hI_sI]
    by_cases y : q = f
    · rw [if_pos ⟨rfl, y⟩, y, uX_at]
    · rw [if_neg (fun w => y w.2), uX_f y]
      exact x.2.2.2.1.1 q h1 h2
  · rw [hI_sI, if_neg (by omega), uX_ci (by omega)]
    exact x.2.2.2.1.2.1 j hj
  · rw [hI_sI, if_neg (by omega), uX_ci (by omega)]
    exact x.2.2.2.1.2.2 j hj
theorem XR.set3 (x : XR K own D N M X Z C Wd h) (v : Int) : XR K own D N M X Z C Wd (sI h 50 3 v) := by
  refine x.self (Or.inl rfl) (fun c hc => rfl) ⟨fun q h1 h2 => ?_, fun j hj => ?_, fun j hj => ?_⟩
  · rw [hI_sI, if_neg (by omega)]
    exact x.2.2.2.1.1 q h1 h2
  · rw [hI_sI, if_neg (by omega)]
    exact x.2.2.2.1.2.1 j hj
  · rw [hI_sI, if_neg (by omega)]
    exact x.2.2.2.1.2.2 j hj
theorem XR.setTape (x : XR K own D N M X Z C Wd h) (j : Nat) (v : Int) : XR K own D N M (uX X 0 1 j v) Z C Wd (sI h 65 j v) := by
  refine x.self (Or.inr (Or.inl rfl)) (fun c hc => uX_c hc) ⟨fun q h1 h2 => ?_, fun q hq => ?_, fun q hq => ?_⟩
  · rw [hI_sI, if_neg (by omega), uX_ci (by omega)]
    exact x.2.2.2.1.1 q h1 h2
  · rw [hI_sI]
    by_cases y : q = j
    · rw [if_pos ⟨rfl, y⟩, y, uX_at]
    · rw [if_neg (fun w => y w.2), uX_f y]
      exact x.2.2.2.1.2.1 q hq
  · rw [hI_sI, if_neg (by omega), uX_ci (by omega)]
    exact x.2.2.2.1.2.2 q hq
theorem XR.setWeek (x : XR K own D N M X Z C Wd h) (j : Nat) (v : Int) : XR K own D N M (uX X 0 2 j v) Z C Wd (sI h 73 j v) := by
  refine x.self (Or.inr (Or.inr rfl)) (fun c hc => uX_c hc) ⟨fun q h1 h2 => ?_, fun q hq => ?_, fun q hq => ?_⟩
  · rw [hI_sI, if_neg (by omega), uX_ci (by omega)]
    exact x.2.2.2.1.1 q h1 h2
  · rw [hI_sI, if_neg (by omega), uX_ci (by omega)]
    exact x.2.2.2.1.2.1 q hq
  · rw [hI_sI]
    by_cases y : q = j
    · rw [if_pos ⟨rfl, y⟩, y, uX_at]
    · rw [if_neg (fun w => y w.2), uX_f y]
      exact x.2.2.2.1.2.2 q hq
theorem KF_same {h k : Hp} (kf : KF h) (hn1 : hn h ≤ hn k) (s : ∀ a, a ≤ 158 → same h k a) : KF k := by
  refine ⟨fun q hq => ?_, fun q hq => ?_⟩
  · have : ∀ q ∈ kFld, q.1 ≤ 158 := by decide
    rw [(s q.1 (this q hq)).2.2.1]
    exact kf.1 q hq
  · have : ∀ q ∈ kArr, q.1 ≤ 158 := by decide
    obtain ⟨y1, y2⟩ := kf.2 q hq
    have sq := s q.1 (this q hq)
    exact ⟨sq.ob hn1 y1, by rw [sq.2.2.2.2]; exact y2⟩
/-- nothing that was there changes -/
theorem XR.fresh (x : XR K own D N M X Z C Wd h) {k : Hp} {own' : Ow} {D' : Nat} (s : ∀ a, a < hn h → same h k a) (e1 : hn h ≤ hn k) (d1 : hn k ≤ D') (d2 : hq k ≤ 8 * D' + 36000) (d3 : D' ≤ 800000) (ho : ∀ a, a < hn h → own' a = own a) : XR K own' D' N M X Z C Wd k := by
  have b := x.1.1
  refine x.frame (fun _ => False) ⟨e1, fun a ha => ⟨(s a ha).2.2.2.1, (s a ha).2.2.2.2⟩, fun a ha _ => s a ha⟩ d1 d2 d3 (KF_same x.kf e1 (fun a ha => s a (by omega))) (fun _ z => z.elim) ho ?_ (fun _ => Nat.le_refl _) (fun _ _ _ => rfl) ?_ ?_ ?_ ?_ ?_
  · exact fun c _ _ => Or.inl ⟨id, id, rfl, Nat.le_refl _⟩
  · exact fun c i _ _ hi => Or.inl ⟨hi, rfl, fun _ => id⟩
  · exact Or.inl ⟨id, id, id, rfl⟩
  · exact fun _ _ _ => id
  · exact fun t ht => Or.inl ⟨ht, rfl, rfl, id, fun _ _ => id⟩
  · exact fun t ht => Or.inl ⟨ht, rfl, id, fun _ _ => id⟩
end
