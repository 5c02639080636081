set_option maxRecDepth 100000
set_option maxHeartbeats 1000000
/-! OWN LAYER, 8: statics, text constants, exceptions -/
section TH
variable {G : Gx} {y : Mt} {d : Nat} {h0 : Hp} {post : Rs → Hp → Prop} {pc : Nat} {L : List (Option V)} {st : List V} {h : Hp}
theorem wc_gets0 {idx : Nat} {C n ds : String} {v : V} (hd : decode (mB y) pc = .ok (.getstatic idx, 3)) (hlk : Cond.fieldLink (mY y).cls idx C n ds ∈ lw_all) (hz : Gok G → va_Z C n ds (tv G v) (fun z => gB G ≤ z) (gs G) (gs G).heap) (hnv : nv v) (kk : Wc G y d h0 post (pc + 3) L (v :: st) h) : Wc G y d h0 post pc L st h := by
  intro p e s m args below meth c R H locs ls hC hH hL hs hl hn0 hq0
  have hW := hC.2.1
  have g : Gok G := hC.ok
  have hZ := va_Z.moved (U := s) hW.alike (hz g)
  obtain ⟨cf, kf, fi, f, a, cell, h1, h2, h3, h4, h5, h6, h7, h8⟩ := hZ
  exact W.gets hC.1 hC.2.2.2.1 (findC hC.2.2.1) (wd g hW hlk) h1 h2 h3 h4 (by rw [hH.2.2.2.2.1 a (Nat.not_le.mp h8)]; exact h5) (fun e => by rw [e] at h6; cases h6) h7 rfl hd (kk p e s m args below meth c R H locs ls hC hH hL (nvs_cons hnv hs) hl hn0 hq0)
theorem wc_getsR {idx a : Nat} {C n ds : String} (hd : decode (mB y) pc = .ok (.getstatic idx, 3)) (hlk : Cond.fieldLink (mY y).cls idx C n ds ∈ lw_all) (hm : (a, C, n, ds) ∈ kSta) (hk : a < K0) (kk : Wc G y d h0 post (pc + 3) L (vR a :: st) h) : Wc G y d h0 post pc L st h :=
  wc_gets0 (v := vR a) hd hlk (fun g => by rw [show tv G (vR a) = gV G a from if_pos hk]; exact g.2.2.2.2.2.2.1 _ hm) trivial kk
theorem wc_getsI {idx : Nat} {C n ds : String} {v : Int} (hd : decode (mB y) pc = .ok (.getstatic idx, 3)) (hlk : Cond.fieldLink (mY y).cls idx C n ds ∈ lw_all) (hm : (C, n, ds, v) ∈ kSti) (hv : nm v) (kk : Wc G y d h0 post (pc + 3) L (vI v :: st) h) : Wc G y d h0 post pc L st h :=
  wc_gets0 (v := vI v) hd hlk (fun g => g.2.2.2.2.2.2.2.1 _ hm) hv kk
theorem wc_ldcS {idx a : Nat} {tx : String} (hd : decode (mB y) pc = .ok (.ldc idx, 2)) (hm : (a, (mY y).cls, idx, tx) ∈ kStr) (hk : a < K0) (kk : Wc G y d h0 post (pc + 2) L (vR a :: st) h) : Wc G y d h0 post pc L st h := by
  intro p e s m args below meth c R H locs ls hC hH hL hs hl hn0 hq0
  have hW := hC.2.1
  have g : Gok G := hC.ok
  obtain ⟨r, h1, h2⟩ := g.2.2.2.2.2.2.2.2.1 _ hm
  have w := kk p e s m args below meth c R H locs ls hC hH hL (nvs_cons trivial hs) hl hn0 hq0
  rw [List.map_cons, show tv G (vR a) = .ref r from (if_pos hk).trans h1] at w
  exact va_ldcS hC.1 hC.2.2.2.1 (findC hC.2.2.1) (vk_R.warm hW h2) hd w
theorem hout {G : Gx} {y : Mt} {p : Program} {s : State} {m : MethodId} {meth : Method} {c : Code} {R : Room} {d : Nat} {h0 : Hp} (hC : Cx G y p s m meth c R d h0) {pc : Nat} (hh : (mH y).all (fun q => !cov q pc) = true) : ∀ x ∈ c.exceptionTable.toList, covers x pc = false := by
  intro x hx
  have h1 : Hnd x ∈ mH y := by
    rw [← hC.2.2.2.2.2.2.2.1]
    exact List.mem_map.mpr ⟨x, hx, rfl⟩
  have h2 := List.all_eq_true.mp hh _ h1
  have h3 : ¬ (x.startPc ≤ pc ∧ pc < x.endPc) := by
    rintro ⟨z1, z2⟩
    simp [cov, Hnd, z1, z2] at h2
  simp only [covers, Bool.and_eq_false_iff, decide_eq_false_iff_not]
  by_cases z : x.startPc ≤ pc
  · exact Or.inr fun w => h3 ⟨z, w⟩
  · exact Or.inl z
/-- an exception is thrown out of the method -/
theorem wc_athrow {a k : Nat} (hd : decode (mB y) pc = .ok (.athrow, 1)) (hk : k ∈ cLs) (ho : ob h a k) (hh : (mH y).all (fun q => !cov q pc) = true) (hp : post (rX a) h) : Wc G y d h0 post pc L (vR a :: st) h := by
  intro p e s m args below meth c R H locs ls hC hH hL hs hl hn0 hq0 T hT X
  have hlk := hC.2.2.2.2.2.2.1
  have q0 : tr G a = .ref (rho G a) := ob_ref hH ho.2.1 (Or.inl (by rw [ho.2.2]; exact hk))
  obtain ⟨h1, h2, h3, h4, h5⟩ := X.athrowLeaves hC.1 (g := F0 m pc ls ((vR a :: st).map (tv G))) rfl rfl rfl (hout hC hh) (a := rho G a) (rest := st.map (tv G)) (by show (vR a :: st).map (tv G) = _; rw [List.map_cons, show tv G (vR a) = .ref (rho G a) from q0]) (by rw [hC.2.2.2.1]; exact hd)
  exact ⟨_, h1, rX a, h, locs, h2, h3, h4, h5, hl, by show HR G h T.heap; rw [hT]; exact hH, hn0, hq0, trivial, hp⟩
theorem lays_s {G : Gx} {s : State} {A : Array Value} (g : Gok G) (hW : (gs G).WarmedH s.vm) (F1 : ∀ q, q < gB G → s.heap[q]? = (gs G).heap[q]?) {C n ds : String} (hl : Cond.laysStatic C n ds ∈ lw_tbl) : (Cond.laysStatic C n ds).before A s = true := by
  obtain ⟨c, k, i, f, a, cell, hc, hi, hst, ha, hcell, hs, hcls, hlt, hty⟩ := Cond.laysStatic_spec (g.1 _ hl)
  obtain ⟨k', hi', he⟩ := State.fieldFound?_setVm hW.alike hi
  have hlt2 : a < gB G := (Array.getElem?_eq_some_iff.mp hcell).1
  exact Cond.laysStatic_of (c := c) (k := k') (f := f) (cell := cell) (by rw [hW.alike.findClass]; exact hc) hi' hst (by rw [he]; exact ha) (by rw [F1 a hlt2]; exact hcell) hs hcls hlt (by rw [he]; exact hty)
theorem isref_s {G : Gx} {s : State} {A : Array Value} (g : Gok G) (hW : (gs G).WarmedH s.vm) (F1 : ∀ q, q < gB G → s.heap[q]? = (gs G).heap[q]?) {C n ds : String} {a0 : Nat} (hm : (a0, C, n, ds) ∈ kSta) (hk : a0 < K0) : (Cond.isRef (.static C n ds)).before A s = true := by
  have hZ := va_Z.moved (U := s) hW.alike (g.2.2.2.2.2.2.1 _ hm)
  obtain ⟨cf, kf, fi, f, a, cell, h1, h2, h3, h4, h5, h6, h7, h8⟩ := hZ
  have hr := g.2.2.2.2.1 a0 hk
  have he : (Term.static C n ds).eval A s none [] s = some (gV G a0) := by
    have hc : s.heap[a]? = some cell := by rw [F1 a (Nat.not_le.mp h8)]; exact h5
    simp only [] at h1
    simp [Term.eval, State.fieldNamed?, h1, h2, h4, hc, h6, h7]
  simp only [Cond.before, Cond.holds, Cond.value, he]
  cases hv : gV G a0 <;> rw [hv] at hr <;> first | rfl | cases hr
end TH
