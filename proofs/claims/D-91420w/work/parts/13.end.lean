set_option maxRecDepth 100000
set_option maxHeartbeats 4000000
/-! THE END: from the law's body to the claim -/
/-- the same frame, the two objects being made -/
def gT (G : Gx) : Gx := (G.1, G.2.1, G.2.2.1, G.2.2.2.1, G.2.2.2.2.1, G.2.2.2.2.2.1, true)
theorem HR_flag {G : Gx} {h : Hp} {H : Heap} (hH : HR G h H) (hk : KF h) : HR (gT G) h H := by
  obtain ⟨c1, c2, c3, c4, c5, c6, c7, c8, c9, c10, c11, c12⟩ := hH
  exact ⟨c1, c2, c3, c4, c5, c6, c7, c8, c9, fun _ => hk, c11, c12⟩
theorem HR_unflag {G : Gx} {h : Hp} {H : Heap} (hg : gF G = false) (hH : HR (gT G) h H) : HR G h H := by
  obtain ⟨c1, c2, c3, c4, c5, c6, c7, c8, c9, c10, c11, c12⟩ := hH
  exact ⟨c1, c2, c3, c4, c5, c6, c7, c8, c9, fun z => absurd (hg.symm.trans z) (by decide), c11, c12⟩
theorem wc_flag {G : Gx} {y : Mt} {d : Nat} {h0 : Hp} {post : Rs → Hp → Prop} {pc : Nat} {L : List (Option V)} {st : List V} {h : Hp} (hg : gF G = false) (hk : KF h) (w : Wc (gT G) y d h0 post pc L st h) : Wc G y d h0 post pc L st h := by
  intro p e s m args below meth c R H locs ls hC hH hL hs hl hn0 hq0 T hT X
  obtain ⟨t, a1, r, h', Lc, b1, b2, b3, b4, b5, b6, b7, b8, b9, b10⟩ := w p e s m args below meth c R H locs ls hC (HR_flag hH hk) hL hs hl hn0 hq0 T hT X
  exact ⟨t, a1, r, h', Lc, b1, b2, b3, b4, b5, HR_unflag hg b6, b7, b8, b9, b10⟩
/-- what is owed of the law in plain terms -/
def LawOk (L : Nat) (xs : Nat → Int32) : Prop := mL_pre (fun rx rm ro h2 => rx = 50 ∧ rm = 75 ∧ ro = 158 ∧ KF h2 ∧ wh2 (fun C x h => mL_step C x h (fun r _ => r = rV (vI 1))) 0 h2) (hst L xs) (fun r _ => r = rV (vI 1))
theorem law_ct {G : Gx} (hg : gF G = false) {L : Nat} {xs : Nat → Int32} (hm : LawOk L xs) : Ct G tL_law 400 [vR 1] (hst L xs) (fun r _ => r = rV (vI 1)) := by
  refine ct_enter (L0 := [some (vR 1), none, none, none, none, none, none]) rfl rfl ?_
  refine wL_pre (d := 0) hg (fun rx rm ro h2 hC => ?_) hm
  obtain ⟨rfl, rfl, rfl, hk, hw⟩ := hC
  refine wc_flag hg hk ?_
  refine wh2_ind (P := fun (x : Int) (h1 : Hp) => Wc (gT G) tL_law (0 + 400) (hst L xs) (fun r _ => r = rV (vI 1)) 23 [some (vR 1), some (vR 50), some (vR 75), some (vR 158), some (vI x), none, none] [] h1) (fun C ih x h1 hm => ?_) hw
  exact wL_step (G := gT G) rfl ih hm
