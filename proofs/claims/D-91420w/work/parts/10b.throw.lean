set_option maxRecDepth 100000
set_option maxHeartbeats 2000000
/-! OWN LAYER, 9: exceptions that are made and thrown -/
theorem wc_thr {G : Gx} {y : Mt} {d : Nat} {h0 : Hp} {post : Rs → Hp → Prop} {pc : Nat} {L : List (Option V)} {st : List V} {h : Hp} {k ic idx : Nat} {names : List String}
    (hd1 : decode (mB y) pc = .ok (.new idx, 3)) (hd2 : decode (mB y) (pc + 3) = .ok (.dup, 1)) (hd3 : decode (mB y) (pc + 4) = .ok (.invokespecial ic, 3)) (hd4 : decode (mB y) (pc + 7) = .ok (.athrow, 1))
    (hcl : Cond.classLink (mY y).cls idx (cNm k) ∈ lw_all) (hlk : Cond.methodLink (mY y).cls ic (Bundle.init0 (cNm k)) ∈ lw_all) (hin : Cond.instantiable (cNm k) 6 ∈ lw_all) (hini : Cond.initialized (cNm k) ∈ lw_all) (hk : k ∈ cLs) (hk0 : cNf k = 0) (hfit : Bundle.fit (cNm k) = true) (hfits : ∀ n ∈ names, Bundle.fit n = true) (hnl : names.length = 2) (hkm : k < 70)
    (hat : ∀ (s : State) (A : Array Value) (own : String) (ic : Nat), Gok G → (gs G).WarmedH s.vm → (∀ q, q < gB G → s.heap[q]? = (gs G).heap[q]?) → (Cond.methodLink own ic (Bundle.init0 (cNm k))).before A s = true → ∀ a ∈ Bundle.ownAtoms0 own ic (cNm k) names, a.before A s = true)
    (r1 : hn h + 1 ≤ MC) (r2 : hq h + 6 ≤ MS) (hh : (mH y).all (fun q => !cov q (pc + 7)) = true) (hw : st.length ≤ 8) (hp : post (rX (hn h)) (nw h k 0 6)) : Wc G y (d + 8) h0 post pc L st h := by
  intro p e s m args below meth c R H locs ls hC hH hL hs hl hn0 hq0
  have hW := hC.2.1
  have g : Gok G := hC.ok
  have hrm := hp_room hC.room hn0 hq0 r1 r2
  have hkn := kn g hW hk
  have hlks := hC.2.2.2.2.2.2.1
  refine W.newcK hC.1 hC.2.2.2.1 (findC hC.2.2.1) (wd g hW hcl) (wd g hW hin) (wd g hW hini) rfl hd1 hrm.1 hrm.2 hkn.2.1 rfl fun H' kX hkX e1 z1 o1 => ?_
  refine lv_dup hC.1 hC.2.2.2.1 hd2 rfl ?_
  intro W hWh X
  have hrm2 := hC.room
  have htr : e.platform.stackTraces = false := Launch.traces_off g.2.2.2.2.2.1 X.admits
  have hA : ∀ a ∈ Bundle.ownAtoms0 (mY y).cls ic (cNm k) names, a.before args s = true := hat s args _ ic g hW hC.2.2.2.2.2.2.2.2.2.2.2.1 (wd g hW hlk)
  have howns : e.platform.frameOwnsMonitors = true := by rw [X.admits.platform]
  have hfin : e.platform.finalization = false := by rw [X.admits.platform]
  have hpl : e.platform.magicAccessors = ({} : Platform).magicAccessors := by rw [X.admits.platform]
  obtain ⟨T, Z, LT, LZ, Y⟩ := ThrowableC.of_atoms (args := args) howns hfin hpl (fun x hx => hA x (by simp [Bundle.ownAtoms0, hx]))
  obtain ⟨P1, Ps, hlen, L1, hLs, hP1m, hlink1, hlink⟩ := Bundle.chain0 (args := args) hpl Y.init0 names (cNm k) hfit hfits (fun x hx => hA x (by simp [Bundle.ownAtoms0, hx]))
  have hfound : s.vm.findClass (cNm k) = some P1.m.cls := findClass_of_methodNamed hP1m
  have ecls : P1.m.cls = gC G k := Option.some.inj (hfound.symm.trans hkn.2.1)
  obtain ⟨c1, kX', hc1, hkk, hord, -, -, hn6⟩ := Cond.instantiable_spec (hA (.instantiable (cNm k) 6) (by simp [Bundle.ownAtoms0]))
  cases Option.some.inj (hc1.symm.trans hfound)
  have ekX : kX' = kX := by
    rw [ecls] at hkk
    exact Option.some.inj (hkk.symm.trans hkX)
  subst ekX
  have hsel0 : selectMethod e.platform s.vm P1.m.cls T.fill0 = .method T.fill0 := by
    obtain ⟨c2, r2, m2, q1, q2, q3, q4, -⟩ := Cond.selects_spec (hA (.selects (cNm k) Bundle.tFill0 Bundle.tFill0) (by simp [Bundle.ownAtoms0]))
    cases Option.some.inj (q1.symm.trans hfound)
    cases Option.some.inj (q2.symm.trans (State.methodFound?_of_named Y.fill0 (by decide)))
    cases Option.some.inj (q3.symm.trans Y.fill0)
    rw [Launch.admits_selectMethod X.admits]
    exact q4
  have hselF : selectMethod e.platform s.vm P1.m.cls T.fill = .method T.fill := by
    obtain ⟨c2, r2, m2, q1, q2, q3, q4, -⟩ := Cond.selects_spec (hA (.selects (cNm k) Bundle.tFill Bundle.tFill) (by simp [Bundle.ownAtoms0]))
    cases Option.some.inj (q1.symm.trans hfound)
    cases Option.some.inj (q2.symm.trans (State.methodFound?_of_named Y.fill (by decide)))
    cases Option.some.inj (q3.symm.trans Y.fill)
    rw [Launch.admits_selectMethod X.admits]
    exact q4
  obtain ⟨cellS, hcS0, hiss⟩ := Y.statics
  obtain ⟨u0, hu0⟩ := Cond.staticRefV Y.unassigned LT.unassignedStatic LT.statics hcS0 hiss (hA (.isRef (.static Bundle.tN "UNASSIGNED_STACK" Bundle.steD)) (by simp [Bundle.ownAtoms0]))
  obtain ⟨sen, hsen⟩ := Cond.staticRefV Y.sentinel LT.sentinelStatic LT.statics hcS0 hiss (hA (.isRef (.static Bundle.tN "SUPPRESSED_SENTINEL" Bundle.listD)) (by simp [Bundle.ownAtoms0]))
  -- the statics lie below the run's own cells
  have hSlt : T.aS < gB G := by
    rcases Nat.lt_or_ge T.aS (gB G) with z | z
    · exact z
    · have := hC.2.2.2.2.2.2.2.2.2.2.2.2 T.aS cellS z hcS0
      rw [hiss] at this
      cases this
  have hHs := (id hH).2.2.2.1
  have hHk := (id hH).1
  have hle : gB G ≤ H.size := by rw [hHs]; exact Nat.le_add_right _ _
  have hcellS : W.heap[T.aS]? = some cellS := by
    rw [hWh, o1 T.aS (Nat.lt_of_lt_of_le hSlt hle), hH.2.2.2.2.1 T.aS hSlt, ← hC.2.2.2.2.2.2.2.2.2.2.2.1 T.aS hSlt]
    exact hcS0
  have hknownS : cellS.vm ≠ .unknown := fun hu => by rw [hu] at hiss; cases hiss
  have hneS : T.aS ≠ H.size := Nat.ne_of_lt (Nat.lt_of_lt_of_le hSlt hle)
  obtain ⟨ci198, i198, fB, hk198, hg198, ha198, hsB, -, hnB, htB, hffB⟩ := Cond.ownField (t := .object "java/lang/Object") Y.found LT.cls (by decide +kernel) (hA (.fieldLink Bundle.tN 198 Bundle.tN "backtrace" "Ljava/lang/Object;") (by simp [Bundle.ownAtoms0])) (hA (.lays Bundle.tN Bundle.tN "backtrace" "Ljava/lang/Object;") (by simp [Bundle.ownAtoms0])) e.platform hpl
  obtain ⟨tyC, dC, hdC, hdnC⟩ := Cond.laysAt hfound hkk Y.cause (hA (.lays (cNm k) Bundle.tN "cause" "Ljava/lang/Throwable;") (by simp [Bundle.ownAtoms0]))
  obtain ⟨tyS, dS, hdS, hdnS⟩ := Cond.laysAt hfound hkk Y.stack (hA (.lays (cNm k) Bundle.tN "stackTrace" Bundle.steD) (by simp [Bundle.ownAtoms0]))
  obtain ⟨tyP, dP, hdP, hdnP⟩ := Cond.laysAt hfound hkk Y.supp (hA (.lays (cNm k) Bundle.tN "suppressedExceptions" Bundle.listD) (by simp [Bundle.ownAtoms0]))
  obtain ⟨tyB, dB, hdB, hdnB⟩ := Cond.laysAt hfound hkk hffB (hA (.lays (cNm k) Bundle.tN "backtrace" "Ljava/lang/Object;") (by simp [Bundle.ownAtoms0]))
  have bC := Cond.laysApart hdB hdC hdnB hdnC (by rw [hnB, Y.causeName]; decide)
  have bS := Cond.laysApart hdB hdS hdnB hdnS (by rw [hnB, Y.stackName]; decide)
  have bP := Cond.laysApart hdB hdP hdnB hdnP (by rw [hnB, Y.suppName]; decide)
  have hcell : W.heap[H.size]? = some (freshCell P1.m.cls kX') := by
    rw [hWh, ecls]
    exact e1
  have hskip : SkipFacts T e.platform s (fun u => u) u0 ((preparedCellV T.toThrowableT (freshCell P1.m.cls kX') H.size u0 sen).withEntry W.cur) :=
    ⟨{ ci198 := ci198, i198 := i198, fBack := fB }, ⟨hk198, hg198, ha198, hsB⟩, by
      have := fresh_default (c := P1.m.cls) tyB
      rw [htB] at this
      simpa [preparedCellV, Cell.setSlot, Cell.withEntry, Array.getElem?_setIfInBounds, bC, bS, bP, bC.symm, bS.symm, bP.symm, defaultValue] using this, fun _ _ => rfl⟩
  have hd3' : decode c.code (pc + 3 + 1) = .ok (.invokespecial ic, 3) := by rw [hC.2.2.2.1]; exact hd3
  have hd4' : decode c.code (pc + 3 + 1 + 3) = .ok (.athrow, 1) := by rw [hC.2.2.2.1]; exact hd4
  obtain ⟨tm, methC, cdC, kC, vm₁, hnC, -, -, -, -, -, -, -, hW₁, st1⟩ := Steps.initCold (tb := p.tables) (e := e) (below := below) (s := s) (U := W) X.here hC.1 X.warmed hpl (findC hC.2.2.1) (t := Bundle.init0 (cNm k)) rfl rfl (Bundle.fit_spec hfit).2
    (hA (.methodLink (mY y).cls ic (Bundle.init0 (cNm k))) (by simp [Bundle.ownAtoms0])) (hA (.instanceMethod (Bundle.init0 (cNm k))) (by cases names <;> simp [Bundle.ownAtoms0, Bundle.chain0Atoms, Bundle.passAtoms])) (bytes := Bundle.five) (maxL := 1) (hA (.code (Bundle.init0 (cNm k)) Bundle.five 1 none) (by cases names <;> simp [Bundle.ownAtoms0, Bundle.chain0Atoms, Bundle.passAtoms]))
    (f := F0 m (pc + 3 + 1) ls (.ref H.size :: .ref H.size :: st.map (tv G))) rfl (a := H.size) (rest := .ref H.size :: st.map (tv G)) rfl hd3'
  cases Option.some.inj (hnC.symm.trans hP1m)
  have X₁ := X.noted hW₁
  have hcat := catsum G st
  obtain ⟨vm₂, X₂, st2⟩ := X₁.ctorPlainOffV hC.1 (g := F0 m (pc + 3 + 1) ls (.ref H.size :: st.map (tv G))) rfl (by rw [hC.2.2.2.2.1]; exact hL.1) T LT Z LZ (P1 :: Ps)
    (fun P hP => by
      rcases List.mem_cons.mp hP with rfl | hP
      · exact L1
      · exact hLs P hP) ⟨hlink1, hlink⟩ (u0 := u0) (sen := sen) (self := H.size) (cell := freshCell P1.m.cls kX') (cellS := cellS)
    hcell (fun _ => by simp) (by simp) rfl rfl hsel0 hselF hcellS hneS hknownS hu0 hsen
    (Takes.of_laid hkk hord tyC (by rw [Y.causeType]; rfl)) (Takes.of_laid hkk hord tyS (by rw [Y.stackType]; exact fits_refV_array _ u0)) (Takes.of_laid hkk hord tyP (by rw [Y.suppType]; exact fits_refV_object _ sen)) Y.objLocals hskip htr [] hd3'
    (by simp only [List.length_cons, hlen, hnl]; have := hrm2.1; omega) (by
      simp only [List.length_cons, hlen, hnl]
      have := hrm2.2.1
      show 2 * 0 + ((Value.ref H.size :: st.map (tv G)).map fun v => v.category).sum + (13 * (2 + 1) + 41) ≤ R.locals
      rw [List.map_cons, List.sum_cons]
      show 2 * 0 + (1 + ((st.map (tv G)).map fun v => v.category).sum) + (13 * (2 + 1) + 41) ≤ R.locals
      omega)
  obtain ⟨hwalk, hrun, hended, hWU, hsame⟩ := X₂.athrowLeaves hC.1 (g := F0 m (pc + 3 + 1 + 3) ls (.ref H.size :: st.map (tv G))) rfl rfl rfl (hout hC hh) (a := H.size) (rest := st.map (tv G)) rfl hd4'
  have hHR : HR G (nw h k 0 6) (((W.setVm vm₁).setVm vm₂).setCell H.size ((preparedCellV T.toThrowableT (freshCell P1.m.cls kX') H.size u0 sen).setSlot T.fStack.slot u0.v)).heap := by
    have hsz : ((W.setVm vm₁).setVm vm₂).heap.size = H.size + 1 := by
      show W.heap.size = H.size + 1
      rw [hWh]
      exact z1
    have hcc : (((W.setVm vm₁).setVm vm₂).setCell H.size ((preparedCellV T.toThrowableT (freshCell P1.m.cls kX') H.size u0 sen).setSlot T.fStack.slot u0.v)).heap[H.size]? = some ((preparedCellV T.toThrowableT (freshCell P1.m.cls kX') H.size u0 sen).setSlot T.fStack.slot u0.v) := heapAt_setCell_self _ (by rw [hsz]; exact Nat.lt_succ_self _)
    refine hH.push r1 r2 ?_ (fun q hq => ?_) ⟨fun _ => ?_, fun z2 _ => ?_⟩ (fun cl hcl => ?_)
    · simp only [State.setCell]
      rw [← hsz]
      simp
    · have h5 : W.heap[q]? = H[q]? := by rw [hWh]; exact o1 q hq
      rw [← h5]
      simp [State.setCell, State.setVm, Array.getElem?_setIfInBounds, Nat.ne_of_gt hq]
    · rw [show hT (nw h k 0 6) (hn h) = k from by rw [hT_nw, if_pos rfl]]
      refine ⟨_, tr_rho hH.1, by rw [rho_next hH]; exact hcc, ecls, (fun z => by cases z), rfl, fun j hj => ?_, fun _ => rfl⟩
      rw [hk0] at hj
      exact absurd hj (Nat.not_lt_zero j)
    · rw [hT_nw, if_pos rfl] at z2
      omega
    · rw [hcc] at hcl
      cases hcl
      rfl
  have hl' : ∀ q ∈ locs ++ [⟨H.size, T.fCause.slot⟩, ⟨H.size, T.fStack.slot⟩, ⟨H.size, T.fSupp.slot⟩, ⟨H.size, T.fStack.slot⟩], gB G ≤ q.base := by
    intro q hq
    rcases List.mem_append.mp hq with z | z
    · exact hl q z
    · simp only [List.mem_cons, List.not_mem_nil, or_false] at z
      rcases z with rfl | rfl | rfl | rfl <;> exact hle
  have erho : Outcome.threw H.size = oc G (rX (hn h)) := by
    show _ = Outcome.threw (rho G (hn h))
    rw [rho_next hH]
  have hended' := hended
  rw [erho] at hended'
  have en : hn h - hn h0 + 1 = hn (nw h k 0 6) - hn h0 := by rw [hn_nw]; omega
  have eq : hq h - hq h0 + 6 = hq (nw h k 0 6) - hq h0 := by rw [hq_nw]; omega
  rw [en, eq] at hsame
  exact ⟨_, st1 _ (fun acts => by rw [doInvoke_state]; exact st2 _ hwalk), rX (hn h), nw h k 0 6, _, hrun, hended', hWU, hsame, hl', hHR, (by rw [hn_nw]; omega), (by rw [hq_nw]; omega), trivial, hp⟩
theorem xa41 {G : Gx} (s : State) (A : Array Value) (own : String) (ic : Nat) (g : Gok G) (hW : (gs G).WarmedH s.vm) (F1 : ∀ q, q < gB G → s.heap[q]? = (gs G).heap[q]?) (hl : (Cond.methodLink own ic (Bundle.init0 (cNm 41))).before A s = true) : ∀ a ∈ Bundle.ownAtoms0 own ic (cNm 41) ["java/lang/RuntimeException", "java/lang/Exception"], a.before A s = true := by
  intro a ha
  simp only [Bundle.ownAtoms0, Bundle.throwableAtoms, Bundle.chain0Atoms, Bundle.passAtoms, List.mem_append, List.mem_cons, List.not_mem_nil, or_false, or_assoc] at ha
  rcases ha with rfl | rfl | rfl | rfl | rfl | rfl | rfl | rfl | rfl | rfl | rfl | rfl | rfl | rfl | rfl | rfl | rfl | rfl | rfl | rfl | rfl | rfl | rfl | rfl | rfl | rfl | rfl | rfl | rfl | rfl | rfl | rfl | rfl | rfl | rfl | rfl | rfl | rfl | rfl | rfl | rfl | rfl | rfl | rfl | rfl | rfl | rfl | rfl | rfl | rfl | rfl | rfl | rfl
  · exact wd g hW q144
  · exact wd g hW q711
  · exact wd g hW q720
  · exact wd g hW q725
  · exact wd g hW q728
  · exact wd g hW q730
  · exact wd g hW q712
  · exact wd g hW q713
  · exact wd g hW q180
  · exact wd g hW q181
  · exact wd g hW q714
  · exact wd g hW q719
  · exact wd g hW q726
  · exact wd g hW q743
  · exact wd g hW q701
  · exact wd g hW q744
  · exact wd g hW q703
  · exact wd g hW q745
  · exact wd g hW q705
  · exact wd g hW q715
  · exact lays_s g hW F1 q716
  · exact wd g hW q717
  · exact lays_s g hW F1 q718
  · exact wd g hW q707
  · exact wd g hW q732
  · exact wd g hW q733
  · exact wd g hW q734
  · exact wd g hW q735
  · exact va_Nw.use rfl (va_Nw.warmD hW (g.1 _ q692))
  · exact wd g hW q735
  · exact wd g hW q736
  · exact wd g hW q737
  · exact wd g hW q738
  · exact va_Nw.use rfl (va_Nw.warmD hW (g.1 _ q694))
  · exact wd g hW q738
  · exact wd g hW q739
  · exact wd g hW q740
  · exact wd g hW q712
  · exact va_Nw.use rfl (va_Nw.warmD hW (g.1 _ q696))
  · exact hl
  · exact wd g hW q690
  · exact va_Nw.use rfl (va_Nw.warmC hW (g.1 _ q691))
  · exact wd g hW q698
  · exact wd g hW q699
  · exact wd g hW q700
  · exact wd g hW q702
  · exact wd g hW q704
  · exact wd g hW q706
  · exact isref_s g hW F1 (a0 := 3) (by decide +kernel) (by decide)
  · exact isref_s g hW F1 (a0 := 4) (by decide +kernel) (by decide)
  · exact wd g hW q710
  · exact wd g hW q709
  · exact wd g hW q708
theorem wc_throw41 {G : Gx} {y : Mt} {d : Nat} {h0 : Hp} {post : Rs → Hp → Prop} {pc : Nat} {L : List (Option V)} {st : List V} {h : Hp} {ic idx : Nat}
    (hd1 : decode (mB y) pc = .ok (.new idx, 3)) (hd2 : decode (mB y) (pc + 3) = .ok (.dup, 1)) (hd3 : decode (mB y) (pc + 4) = .ok (.invokespecial ic, 3)) (hd4 : decode (mB y) (pc + 7) = .ok (.athrow, 1))
    (hcl : Cond.classLink (mY y).cls idx (cNm 41) ∈ lw_all) (hlk : Cond.methodLink (mY y).cls ic (Bundle.init0 (cNm 41)) ∈ lw_all) (r1 : hn h + 1 ≤ 878547) (r2 : hq h + 6 ≤ 6460613) (hh : (mH y).all (fun q => !cov q (pc + 7)) = true) (hw : st.length ≤ 8) (hp : post (rX (hn h)) (nw h 41 0 6)) : Wc G y (d + 8) h0 post pc L st h :=
  wc_thr (names := ["java/lang/RuntimeException", "java/lang/Exception"]) hd1 hd2 hd3 hd4 hcl hlk q690 q147 (by decide) rfl (by decide) (by decide) rfl (by decide) xa41 r1 r2 hh hw hp
theorem xa42 {G : Gx} (s : State) (A : Array Value) (own : String) (ic : Nat) (g : Gok G) (hW : (gs G).WarmedH s.vm) (F1 : ∀ q, q < gB G → s.heap[q]? = (gs G).heap[q]?) (hl : (Cond.methodLink own ic (Bundle.init0 (cNm 42))).before A s = true) : ∀ a ∈ Bundle.ownAtoms0 own ic (cNm 42) ["java/lang/RuntimeException", "java/lang/Exception"], a.before A s = true := by
  intro a ha
  simp only [Bundle.ownAtoms0, Bundle.throwableAtoms, Bundle.chain0Atoms, Bundle.passAtoms, List.mem_append, List.mem_cons, List.not_mem_nil, or_false, or_assoc] at ha
  rcases ha with rfl | rfl | rfl | rfl | rfl | rfl | rfl | rfl | rfl | rfl | rfl | rfl | rfl | rfl | rfl | rfl | rfl | rfl | rfl | rfl | rfl | rfl | rfl | rfl | rfl | rfl | rfl | rfl | rfl | rfl | rfl | rfl | rfl | rfl | rfl | rfl | rfl | rfl | rfl | rfl | rfl | rfl | rfl | rfl | rfl | rfl | rfl | rfl | rfl | rfl | rfl | rfl | rfl
  · exact wd g hW q144
  · exact wd g hW q711
  · exact wd g hW q720
  · exact wd g hW q725
  · exact wd g hW q728
  · exact wd g hW q730
  · exact wd g hW q712
  · exact wd g hW q713
  · exact wd g hW q180
  · exact wd g hW q181
  · exact wd g hW q714
  · exact wd g hW q719
  · exact wd g hW q726
  · exact wd g hW q743
  · exact wd g hW q701
  · exact wd g hW q744
  · exact wd g hW q703
  · exact wd g hW q745
  · exact wd g hW q705
  · exact wd g hW q715
  · exact lays_s g hW F1 q716
  · exact wd g hW q717
  · exact lays_s g hW F1 q718
  · exact wd g hW q707
  · exact wd g hW q767
  · exact wd g hW q768
  · exact wd g hW q769
  · exact wd g hW q735
  · exact va_Nw.use rfl (va_Nw.warmD hW (g.1 _ q692))
  · exact wd g hW q735
  · exact wd g hW q736
  · exact wd g hW q737
  · exact wd g hW q738
  · exact va_Nw.use rfl (va_Nw.warmD hW (g.1 _ q694))
  · exact wd g hW q738
  · exact wd g hW q739
  · exact wd g hW q740
  · exact wd g hW q712
  · exact va_Nw.use rfl (va_Nw.warmD hW (g.1 _ q696))
  · exact hl
  · exact wd g hW q758
  · exact va_Nw.use rfl (va_Nw.warmC hW (g.1 _ q759))
  · exact wd g hW q760
  · exact wd g hW q723
  · exact wd g hW q761
  · exact wd g hW q762
  · exact wd g hW q763
  · exact wd g hW q764
  · exact isref_s g hW F1 (a0 := 3) (by decide +kernel) (by decide)
  · exact isref_s g hW F1 (a0 := 4) (by decide +kernel) (by decide)
  · exact wd g hW q710
  · exact wd g hW q709
  · exact wd g hW q765
theorem wc_throw42 {G : Gx} {y : Mt} {d : Nat} {h0 : Hp} {post : Rs → Hp → Prop} {pc : Nat} {L : List (Option V)} {st : List V} {h : Hp} {ic idx : Nat}
    (hd1 : decode (mB y) pc = .ok (.new idx, 3)) (hd2 : decode (mB y) (pc + 3) = .ok (.dup, 1)) (hd3 : decode (mB y) (pc + 4) = .ok (.invokespecial ic, 3)) (hd4 : decode (mB y) (pc + 7) = .ok (.athrow, 1))
    (hcl : Cond.classLink (mY y).cls idx (cNm 42) ∈ lw_all) (hlk : Cond.methodLink (mY y).cls ic (Bundle.init0 (cNm 42)) ∈ lw_all) (r1 : hn h + 1 ≤ 878547) (r2 : hq h + 6 ≤ 6460613) (hh : (mH y).all (fun q => !cov q (pc + 7)) = true) (hw : st.length ≤ 8) (hp : post (rX (hn h)) (nw h 42 0 6)) : Wc G y (d + 8) h0 post pc L st h :=
  wc_thr (names := ["java/lang/RuntimeException", "java/lang/Exception"]) hd1 hd2 hd3 hd4 hcl hlk q758 q148 (by decide) rfl (by decide) (by decide) rfl (by decide) xa42 r1 r2 hh hw hp
theorem xa50 {G : Gx} (s : State) (A : Array Value) (own : String) (ic : Nat) (g : Gok G) (hW : (gs G).WarmedH s.vm) (F1 : ∀ q, q < gB G → s.heap[q]? = (gs G).heap[q]?) (hl : (Cond.methodLink own ic (Bundle.init0 (cNm 50))).before A s = true) : ∀ a ∈ Bundle.ownAtoms0 own ic (cNm 50) ["java/lang/RuntimeException", "java/lang/Exception"], a.before A s = true := by
  intro a ha
  simp only [Bundle.ownAtoms0, Bundle.throwableAtoms, Bundle.chain0Atoms, Bundle.passAtoms, List.mem_append, List.mem_cons, List.not_mem_nil, or_false, or_assoc] at ha
  rcases ha with rfl | rfl | rfl | rfl | rfl | rfl | rfl | rfl | rfl | rfl | rfl | rfl | rfl | rfl | rfl | rfl | rfl | rfl | rfl | rfl | rfl | rfl | rfl | rfl | rfl | rfl | rfl | rfl | rfl | rfl | rfl | rfl | rfl | rfl | rfl | rfl | rfl | rfl | rfl | rfl | rfl | rfl | rfl | rfl | rfl | rfl | rfl | rfl | rfl | rfl | rfl | rfl | rfl
  · exact wd g hW q144
  · exact wd g hW q711
  · exact wd g hW q720
  · exact wd g hW q725
  · exact wd g hW q728
  · exact wd g hW q730
  · exact wd g hW q712
  · exact wd g hW q713
  · exact wd g hW q180
  · exact wd g hW q181
  · exact wd g hW q714
  · exact wd g hW q719
  · exact wd g hW q726
  · exact wd g hW q743
  · exact wd g hW q701
  · exact wd g hW q744
  · exact wd g hW q703
  · exact wd g hW q745
  · exact wd g hW q705
  · exact wd g hW q715
  · exact lays_s g hW F1 q716
  · exact wd g hW q717
  · exact lays_s g hW F1 q718
  · exact wd g hW q707
  · exact wd g hW q1744
  · exact wd g hW q1745
  · exact wd g hW q1746
  · exact wd g hW q735
  · exact va_Nw.use rfl (va_Nw.warmD hW (g.1 _ q692))
  · exact wd g hW q735
  · exact wd g hW q736
  · exact wd g hW q737
  · exact wd g hW q738
  · exact va_Nw.use rfl (va_Nw.warmD hW (g.1 _ q694))
  · exact wd g hW q738
  · exact wd g hW q739
  · exact wd g hW q740
  · exact wd g hW q712
  · exact va_Nw.use rfl (va_Nw.warmD hW (g.1 _ q696))
  · exact hl
  · exact wd g hW q1735
  · exact va_Nw.use rfl (va_Nw.warmC hW (g.1 _ q1736))
  · exact wd g hW q1737
  · exact wd g hW q724
  · exact wd g hW q1738
  · exact wd g hW q1739
  · exact wd g hW q1740
  · exact wd g hW q1741
  · exact isref_s g hW F1 (a0 := 3) (by decide +kernel) (by decide)
  · exact isref_s g hW F1 (a0 := 4) (by decide +kernel) (by decide)
  · exact wd g hW q710
  · exact wd g hW q709
  · exact wd g hW q1742
theorem wc_throw50 {G : Gx} {y : Mt} {d : Nat} {h0 : Hp} {post : Rs → Hp → Prop} {pc : Nat} {L : List (Option V)} {st : List V} {h : Hp} {ic idx : Nat}
    (hd1 : decode (mB y) pc = .ok (.new idx, 3)) (hd2 : decode (mB y) (pc + 3) = .ok (.dup, 1)) (hd3 : decode (mB y) (pc + 4) = .ok (.invokespecial ic, 3)) (hd4 : decode (mB y) (pc + 7) = .ok (.athrow, 1))
    (hcl : Cond.classLink (mY y).cls idx (cNm 50) ∈ lw_all) (hlk : Cond.methodLink (mY y).cls ic (Bundle.init0 (cNm 50)) ∈ lw_all) (r1 : hn h + 1 ≤ 878547) (r2 : hq h + 6 ≤ 6460613) (hh : (mH y).all (fun q => !cov q (pc + 7)) = true) (hw : st.length ≤ 8) (hp : post (rX (hn h)) (nw h 50 0 6)) : Wc G y (d + 8) h0 post pc L st h :=
  wc_thr (names := ["java/lang/RuntimeException", "java/lang/Exception"]) hd1 hd2 hd3 hd4 hcl hlk q1735 q169 (by decide) rfl (by decide) (by decide) rfl (by decide) xa50 r1 r2 hh hw hp
