set_option maxRecDepth 100000
set_option maxHeartbeats 1000000
set_option linter.unusedSimpArgs false
set_option linter.unusedVariables false
/-! SPECS, 8: an object is made and put behind its list; bounds that grow -/
theorem Rl2.grow {n n1 m1 : Nat} {x : Nat → Nat → Int} {A : Nat → Nat → Int} (r : Rl2 n n1 x A) (h : n1 ≤ m1) : Rl2 n m1 x A := by
  obtain ⟨r1, r2, r3, r4⟩ := r
  refine ⟨r1, r2, fun i hi => ?_, r4⟩
  obtain ⟨y1, y2, y3, y4, y5, y6, y7, y8⟩ := r3 i hi
  exact ⟨y1, y2, y3, y4, ⟨y5.1, y5.2.1, by omega⟩, y6, y7, ⟨y8.1, by omega, y8.2.2⟩⟩
theorem Rl3.grow {n n1 m1 : Nat} {x : Nat → Nat → Int} {d : Int} {A : Nat → Nat → Int} (r : Rl3 n n1 x d A) (h : n1 ≤ m1) : Rl3 n m1 x d A := by
  obtain ⟨r1, r2, r3, r4⟩ := r
  refine ⟨r1, r2, fun i hi => ?_, r4⟩
  obtain ⟨y1, y2, y3, y4, y5, y6⟩ := r3 i hi
  exact ⟨y1, y2, ⟨y3.1, y3.2.1, by omega⟩, ⟨y4.1, y4.2.1, by omega⟩, y5, y6⟩
theorem Rl8.grow {n n1 m1 : Nat} {x : Nat → Nat → Int} {A : Nat → Nat → Int} (r : Rl8 n n1 x A) (h : n1 ≤ m1) : Rl8 n m1 x A := by
  obtain ⟨r1, r2, r3⟩ := r
  refine ⟨r1, r2, fun i hi => ?_⟩
  obtain ⟨y1, y2, y3, y4, y5, y6⟩ := r3 i hi
  refine ⟨y1, y2, y3, y4, ⟨y5.1, y5.2.1, by omega⟩, fun z => ?_⟩
  obtain ⟨b, hb, hb1⟩ := y6 z
  exact ⟨b, by omega, hb1⟩
theorem Rl9.grow {n n1 m1 n2 m2 n3 m3 : Nat} {x : Nat → Nat → Int} {A : Nat → Nat → Int} (r : Rl9 n n1 n2 n3 x A) (h1 : n1 ≤ m1) (h2 : n2 ≤ m2) (h3 : n3 ≤ m3) : Rl9 n m1 m2 m3 x A := by
  obtain ⟨r1, r2, r3⟩ := r
  refine ⟨r1, r2, fun i hi => ?_⟩
  obtain ⟨y1, y2, y3, y4, y5⟩ := r3 i hi
  refine ⟨y1, ⟨y2.1, y2.2.1, by omega⟩, ⟨y3.1, y3.2.1, by omega⟩, ⟨y4.1, y4.2.1, by omega⟩, fun j hj => ?_⟩
  obtain ⟨z1, z2⟩ := y5 j hj
  exact ⟨⟨z1.1, z1.2.1, by omega⟩, z2⟩
theorem Rl10.grow {n n1 m1 : Nat} {x : Nat → Nat → Int} {A : Nat → Nat → Int} (r : Rl10 n n1 x A) (h : n1 ≤ m1) : Rl10 n m1 x A := by
  obtain ⟨r1, r2, r3⟩ := r
  refine ⟨r1, r2, fun i hi => ?_⟩
  obtain ⟨y1, y2⟩ := r3 i hi
  exact ⟨⟨y1.1, y1.2.1, by omega⟩, y2⟩
section
variable {K : Hp} {own : Ow} {D : Nat} {N M : Nat → Nat} {X : Nat → Nat → Nat → Int} {Z : Nat → Nat → Nat} {C : Nat → Nat → List Int} {Wd : Nat → List Int} {A : Nat → Nat → Int} {h : Hp}
theorem XS.size (x : XS K D N M X Z C Wd A h) (c : Nat) (c1 : 1 ≤ c := by decide) (c2 : c ≤ 11 := by decide) : vJ2_size (53 + c) h = N c := by
  obtain ⟨⟨own, x⟩, _⟩ := x
  exact x.size c c1 c2
theorem XS.osize (x : XS K D N M X Z C Wd A h) (c : Nat) (c1 : 1 ≤ c := by decide) (c2 : c ≤ 11 := by decide) : oJ2_size (53 + c) h := by
  obtain ⟨⟨own, x⟩, _⟩ := x
  exact x.osize c c1 c2
theorem XR.make (x : XR K own D N N X Z C Wd h) (c : Nat) {g : Hp} {own' : Ow} {r D' : Nat} {row : Nat → Int} {Q : Rs → Hp → Prop} (o : NewOk N Z own' g c (N c) r row) (s : ∀ a, a < hn h → same h g a) (ho : ∀ a, a < hn h → own' a = own a) (n1 : hn h ≤ hn g) (d1 : hn g ≤ D') (d2 : hq g ≤ 8 * D' + 36000) (d3 : D' + 60 ≤ 800000) (h2 : N c < 200) (k : ∀ h', XS K (D' + 60) (uM N c (N c + 1)) (uM N c (N c + 1)) (uW X c (N c) row) (uZ Z c (N c) r) C Wd (mA h) h' → Q (rV (vI 1)) h') (c1 : 1 ≤ c := by decide) (c2 : c ≤ 11 := by decide) (n4 : c ≠ 4 := by decide) (n5 : c ≠ 5 := by decide) : mJ2_add (53 + c) r g Q := by
  have b1 := x.1.1
  have x1 := x.fresh s n1 d1 d2 (by omega) ho
  have x2 := x1.born c c1 o (C' := C) (Wd' := Wd) (fun _ _ => rfl) (fun _ _ => rfl) (fun z => absurd z n4) (fun z => absurd z n5)
  have l4 := x.ls 4
  have e : uZ Z c (N c) r c (N c) = r := uZ_at _ _ _ _
  have := x2.add c c1 c2 (by rw [uM_at]; omega) h2 l4.2.1 d3 (Q := Q) (fun own2 h' x3 ms => k h' (XS.of x3 ((mA_mS ms).trans (mA_mS (mS.of b1 s)))))
  rw [e] at this
  exact this
end
