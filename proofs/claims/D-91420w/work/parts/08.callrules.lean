set_option maxRecDepth 100000
set_option maxHeartbeats 1000000
/-! OWN LAYER, 6: rules for the instructions that call -/
/-- a method with so many arguments (the receiver apart), as the tables have it -/
def MethOk (y : Mt) (n : Nat) : Prop := Cw y ∧ plainFor (mY y) = true ∧ ((mY y).cls ≠ "java/lang/invoke/MethodHandle" ∧ (mY y).cls ≠ "java/lang/invoke/VarHandle") ∧ (parseMethodDescriptor (mY y).desc).map (fun d => d.parameters.length) = some n
theorem MethOk.len {y : Mt} {n : Nat} (h : MethOk y n) : ∀ sig, parseMethodDescriptor (mY y).desc = some sig → n = sig.parameters.length := by
  intro sig hs
  have := h.2.2.2
  rw [hs] at this
  exact (Option.some.inj this).symm
def Lk (own : String) (idx : Nat) (x : MethodName) : Prop := Cond.methodLink own idx x ∈ lw_all ∨ ∃ host, Cond.methodLinkNest own idx x host ∈ lw_tbl
theorem obj_at {G : Gx} {h : Hp} {H : Heap} (hH : HR G h H) {a k : Nat} (ho : ob h a k) (hk : k ∈ cLs) {s : State} (g : Gok G) (hW : (gs G).WarmedH s.vm) :
    ∃ cell : Cell, tr G a = .ref (rho G a) ∧ H[rho G a]? = some cell ∧ cell.vm.isStatics = false ∧ s.vm.findClass (cNm k) = some cell.cls ∧ ∃ kB, s.vm.classes[cell.cls]? = some kB := by
  obtain ⟨cell, q0, q1, q2, q3, q4, q5, q6⟩ := (hH.2.2.2.2.2.2.1 a ho.2.1).1 (by rw [ho.2.2]; exact hk)
  rw [ho.2.2] at q2
  obtain ⟨-, hfk, kC, hkC, -⟩ := kn g hW hk
  exact ⟨cell, q0, q1, q4, by rw [q2]; exact hfk, kC, by rw [q2]; exact hkC⟩
section RC
variable {G : Gx} {y : Mt} {d : Nat} {h0 : Hp} {post : Rs → Hp → Prop} {pc : Nat} {L : List (Option V)} {st stk : List V} {h : Hp} {y' : Mt} {av : List V} {P : Rs → Hp → Prop}
theorem map_rev (G : Gx) (av : List V) : (av.reverse).map (tv G) = (av.map (tv G)).reverse := by simp
theorem nvs_app {a b : List V} (h : nvs (a ++ b)) : nvs a ∧ nvs b := ⟨fun v hv => h v (List.mem_append_left _ hv), fun v hv => h v (List.mem_append_right _ hv)⟩
theorem nvs_rev {a : List V} (h : nvs a.reverse) : nvs a := fun v hv => h v (List.mem_reverse.mpr hv)
theorem wc_callS {idx n : Nat} (hd : decode (mB y) pc = .ok (.invokestatic idx, 3)) (hlk : Lk (mY y).cls idx (mY y')) (hmo : MethOk y' n) (hstat : Cond.static (mY y') ∈ lw_all) (hini : Cond.initialized (mY y').cls ∈ lw_all) (hn : av.length = n) (hst : stk = av.reverse ++ st) (hw : 2 * st.length + mX y' ≤ 89)
    (hct : Ct G y' d av h P) (kr : ∀ v h', P (.inl v) h' → Wc G y (d + 1) h0 post (pc + 3) L (v.toList ++ st) h') (kx : ∀ a h', P (.inr a) h' → Wx G y (d + 1) h0 post pc L h' a) : Wc G y (d + 1) h0 post pc L stk h := by
  subst hst
  intro p e s m args below meth c R H locs ls hC hH hL hs hl hn0 hq0 T hT X
  have hW := hC.2.1
  have g : Gok G := hC.ok
  obtain ⟨mk, methk, ck, f1, f2, f3, f4, f5, f6, f7, f8, f9, f10⟩ := callee g hW hmo.1
  have hstatic : methk.isStatic = true := Cond.static_spec f1 f2 (wd (A := args) g hW hstat)
  obtain ⟨kP, hkP, -⟩ := className_of_methodNamed f1
  have hinitP : kP.init = .initialized := Cond.initialized_spec (findClass_of_methodNamed f1) hkP (wd (A := args) g hW hini)
  have hlen : (av.map (tv G)).length = methk.sig.parameters.length := by rw [List.length_map, hn]; exact hmo.len _ f10
  have hdg : decode c.code pc = .ok (.invokestatic idx, 3) := by rw [hC.2.2.2.1]; exact hd
  rw [List.map_append, map_rev]
  rcases hlk with h1 | ⟨host, h1⟩
  · obtain ⟨vm₁, X₁, stp⟩ := X.invokestatic hC.1 (findC hC.2.2.1) (wd g hW h1) f1 f2 hstatic hkP hinitP hmo.2.2.1 (g := F0 m pc ls ((av.map (tv G)).reverse ++ st.map (tv G))) rfl (argsL := av.map (tv G)) (rest := st.map (tv G)) hlen rfl hdg
    obtain ⟨t, a1, b1⟩ := call_core hct kr kx hC hH hL (nvs_app hs).2 (nvs_rev (nvs_app hs).1) hl hn0 hq0 (T₁ := T.setVm vm₁) hT X₁ hdg f1 hmo.1 hmo.2.1 hw
    exact ⟨t, stp t fun acts => by rw [doInvoke_state]; exact a1, b1⟩
  · obtain ⟨vm₁, X₁, stp⟩ := X.invokestaticNest hC.1 (findC hC.2.2.1) (va_Nw.use rfl (va_Nw.warmM hW (g.1 _ h1))) f1 f2 hstatic hkP hinitP hmo.2.2.1 (g := F0 m pc ls ((av.map (tv G)).reverse ++ st.map (tv G))) rfl (argsL := av.map (tv G)) (rest := st.map (tv G)) hlen rfl hdg
    obtain ⟨t, a1, b1⟩ := call_core hct kr kx hC hH hL (nvs_app hs).2 (nvs_rev (nvs_app hs).1) hl hn0 hq0 (T₁ := T.setVm vm₁) hT X₁ hdg f1 hmo.1 hmo.2.1 hw
    exact ⟨t, stp t fun acts => by rw [doInvoke_state]; exact a1, b1⟩
theorem wc_callV {idx n a k : Nat} (hd : decode (mB y) pc = .ok (.invokevirtual idx, 3)) (hlk : Lk (mY y).cls idx (mY y')) (hmo : MethOk y' n) (hinst : Cond.instanceMethod (mY y') ∈ lw_all) (hsel : Cond.selects (cNm k) (mY y') (mY y') ∈ lw_all) (hk : k ∈ cLs) (ho : ob h a k) (hn : av.length = n) (hst : stk = av.reverse ++ vR a :: st) (hw : 2 * st.length + mX y' ≤ 89)
    (hct : Ct G y' d (vR a :: av) h P) (kr : ∀ v h', P (.inl v) h' → Wc G y (d + 1) h0 post (pc + 3) L (v.toList ++ st) h') (kx : ∀ a h', P (.inr a) h' → Wx G y (d + 1) h0 post pc L h' a) : Wc G y (d + 1) h0 post pc L stk h := by
  subst hst
  intro p e s m args below meth c R H locs ls hC hH hL hs hl hn0 hq0 T hT X
  have hW := hC.2.1
  have g : Gok G := hC.ok
  obtain ⟨mk, methk, ck, f1, f2, f3, f4, f5, f6, f7, f8, f9, f10⟩ := callee g hW hmo.1
  obtain ⟨mk2, methM, hnamed, hmethM, hstM, habM⟩ := Cond.instanceMethod_spec (wd (A := args) g hW hinst)
  cases f1.symm.trans hnamed
  cases f2.symm.trans hmethM
  obtain ⟨cellB, q0, hcell, hobj, hcls, kB, hkB⟩ := obj_at hH ho hk g hW
  obtain ⟨c2, r2, m2, q1, q2, q3, q4, kP, hkP, hkPi⟩ := Cond.selects_spec (wd (A := args) g hW hsel)
  cases hcls.symm.trans q1
  cases (State.methodFound?_of_named hnamed hmo.2.2.1).symm.trans q2
  cases hnamed.symm.trans q3
  have hselP : selectMethod e.platform s.vm cellB.cls mk = .method mk := by rw [Launch.admits_selectMethod X.admits]; exact q4
  have hlen : (av.map (tv G)).length = methk.sig.parameters.length := by rw [List.length_map, hn]; exact hmo.len _ f10
  have hdg : decode c.code pc = .ok (.invokevirtual idx, 3) := by rw [hC.2.2.2.1]; exact hd
  have hav : ((vR a :: av).map (tv G)).toArray = (Value.ref (rho G a) :: av.map (tv G)).toArray := by rw [List.map_cons, show tv G (vR a) = .ref (rho G a) from q0]
  rw [List.map_append, map_rev, List.map_cons, show tv G (vR a) = .ref (rho G a) from q0]
  have hsa := nvs_app hs
  rcases hlk with h1 | ⟨host, h1⟩
  · obtain ⟨vm₁, X₁, stp⟩ := X.invokevirtual hC.1 (findC hC.2.2.1) (wd g hW h1) hnamed hmethM hstM hkP hkPi hmo.2.2.1 (a := rho G a) (cell := cellB) (by rw [hT]; exact hcell)
      (fun z h => by rw [h] at hobj; cases hobj) hselP hmethM habM hkP hkPi (g := F0 m pc ls ((av.map (tv G)).reverse ++ .ref (rho G a) :: st.map (tv G))) rfl (argsL := av.map (tv G)) (rest := st.map (tv G)) hlen rfl hdg
    obtain ⟨t, a1, b1⟩ := call_core hct kr kx hC hH hL (nvs_tl hsa.2) (nvs_cons trivial (nvs_rev hsa.1)) hl hn0 hq0 (T₁ := T.setVm vm₁) hT X₁ hdg f1 hmo.1 hmo.2.1 hw
    rw [hav] at a1
    exact ⟨t, stp t fun acts => by rw [doInvoke_state]; exact a1, b1⟩
  · obtain ⟨vm₁, X₁, stp⟩ := X.invokevirtualNest hC.1 (findC hC.2.2.1) (va_Nw.use rfl (va_Nw.warmM hW (g.1 _ h1))) hnamed hmethM hstM hkP hkPi hmo.2.2.1 (a := rho G a) (cell := cellB) (by rw [hT]; exact hcell)
      (fun z h => by rw [h] at hobj; cases hobj) hselP hmethM habM hkP hkPi (g := F0 m pc ls ((av.map (tv G)).reverse ++ .ref (rho G a) :: st.map (tv G))) rfl (argsL := av.map (tv G)) (rest := st.map (tv G)) hlen rfl hdg
    obtain ⟨t, a1, b1⟩ := call_core hct kr kx hC hH hL (nvs_tl hsa.2) (nvs_cons trivial (nvs_rev hsa.1)) hl hn0 hq0 (T₁ := T.setVm vm₁) hT X₁ hdg f1 hmo.1 hmo.2.1 hw
    rw [hav] at a1
    exact ⟨t, stp t fun acts => by rw [doInvoke_state]; exact a1, b1⟩
/-- a method of the name x (of a class above, or abstract) that comes out as y' for the receiver's class -/
theorem wc_callU {idx n a k : Nat} {x : MethodName} {owner : String} (hd : decode (mB y) pc = .ok (.invokevirtual idx, 3)) (hlk : Cond.methodLink (mY y).cls idx x ∈ lw_all) (hsame : Cond.sameMethod x.cls owner x.name x.desc ∈ lw_all) (hdecl : Cond.declares ⟨owner, x.name, x.desc⟩ ∈ lw_tbl ∨ ∃ b m r, Cond.instanceMethod ⟨owner, x.name, x.desc⟩ ∈ lw_all ∧ Cond.code ⟨owner, x.name, x.desc⟩ b m r ∈ lw_all) (hown2 : owner ≠ "java/lang/invoke/MethodHandle" ∧ owner ≠ "java/lang/invoke/VarHandle") (hmo : MethOk y' n) (hdesc : x.desc = (mY y').desc) (hinst : Cond.instanceMethod (mY y') ∈ lw_all) (hsel : Cond.selects (cNm k) x (mY y') ∈ lw_all) (hk : k ∈ cLs) (ho : ob h a k) (hn : av.length = n) (hst : stk = av.reverse ++ vR a :: st) (hw : 2 * st.length + mX y' ≤ 89)
    (hct : Ct G y' d (vR a :: av) h P) (kr : ∀ v h', P (.inl v) h' → Wc G y (d + 1) h0 post (pc + 3) L (v.toList ++ st) h') (kx : ∀ a h', P (.inr a) h' → Wx G y (d + 1) h0 post pc L h' a) : Wc G y (d + 1) h0 post pc L stk h := by
  subst hst
  intro p e s m args below meth c R H locs ls hC hH hL hs hl hn0 hq0 T hT X
  have hW := hC.2.1
  have g : Gok G := hC.ok
  obtain ⟨mk, methk, ck, f1, f2, f3, f4, f5, f6, f7, f8, f9, f10⟩ := callee g hW hmo.1
  have hd0 : va_Decl s ⟨owner, x.name, x.desc⟩ := by
    rcases hdecl with z | z
    · exact va_Decl.abs (va_Nw.warmD hW (g.1 _ z))
    · obtain ⟨b, m, r, z1, z2⟩ := z
      exact va_Decl.of (wd (A := args) g hW z1) (wd (A := args) g hW z2)
  obtain ⟨r0, r, hn0', hrm, hstR, hsigR⟩ := hd0
  obtain ⟨cn, ck2, r1, hcn, hck, hni, hf, hn1⟩ := Cond.sameMethod_found (wd (A := args) g hW hsame)
  cases hn0'.symm.trans hn1
  obtain ⟨mk2, methM, hnamed, hmethM, -, habM⟩ := Cond.instanceMethod_spec (wd (A := args) g hW hinst)
  cases f1.symm.trans hnamed
  cases f2.symm.trans hmethM
  obtain ⟨cellB, q0, hcell, hobj, hcls, kB, hkB⟩ := obj_at hH ho hk g hW
  obtain ⟨c2, r2, m2, q1, q2, q3, q4, kP, hkP, hkPi⟩ := Cond.selects_spec (wd (A := args) g hW hsel)
  cases hcls.symm.trans q1
  cases hf.symm.trans q2
  cases hnamed.symm.trans q3
  have hselP : selectMethod e.platform s.vm cellB.cls r0 = .method mk := by rw [Launch.admits_selectMethod X.admits]; exact q4
  have hlen : (av.map (tv G)).length = r.sig.parameters.length := by
    rw [List.length_map, hn]
    exact hmo.len _ (by rw [← hdesc]; exact hsigR)
  have hdg : decode c.code pc = .ok (.invokevirtual idx, 3) := by rw [hC.2.2.2.1]; exact hd
  have hav : ((vR a :: av).map (tv G)).toArray = (Value.ref (rho G a) :: av.map (tv G)).toArray := by rw [List.map_cons, show tv G (vR a) = .ref (rho G a) from q0]
  rw [List.map_append, map_rev, List.map_cons, show tv G (vR a) = .ref (rho G a) from q0]
  have hsa := nvs_app hs
  obtain ⟨vm₁, X₁, stp⟩ := X.invokevirtualUp hC.1 (findC hC.2.2.1) (wd g hW hlk) (wd g hW hsame) hown2 hn0' hrm hstR (a := rho G a) (cell := cellB) (by rw [hT]; exact hcell)
    (fun z h => by rw [h] at hobj; cases hobj) hselP hmethM habM hkP hkPi (g := F0 m pc ls ((av.map (tv G)).reverse ++ .ref (rho G a) :: st.map (tv G))) rfl (argsL := av.map (tv G)) (rest := st.map (tv G)) hlen rfl hdg
  obtain ⟨t, a1, b1⟩ := call_core hct kr kx hC hH hL (nvs_tl hsa.2) (nvs_cons trivial (nvs_rev hsa.1)) hl hn0 hq0 (T₁ := T.setVm vm₁) hT X₁ hdg f1 hmo.1 hmo.2.1 hw
  rw [hav] at a1
  exact ⟨t, stp t fun acts => by rw [doInvoke_state]; exact a1, b1⟩
/-- a constructor -/
theorem wc_callI {idx n a : Nat} (hd : decode (mB y) pc = .ok (.invokespecial idx, 3)) (hlk : Lk (mY y).cls idx (mY y')) (hmo : MethOk y' n) (hinst : Cond.instanceMethod (mY y') ∈ lw_all) (hnm : (mY y').name = "<init>") (hcode : Cond.code (mY y') (mB y') (mX y') none ∈ lw_all) (hk : K0 ≤ a) (hn : av.length = n) (hst : stk = av.reverse ++ vR a :: st) (hw : 2 * st.length + mX y' ≤ 89)
    (hct : Ct G y' d (vR a :: av) h P) (kr : ∀ v h', P (.inl v) h' → Wc G y (d + 1) h0 post (pc + 3) L (v.toList ++ st) h') (kx : ∀ a h', P (.inr a) h' → Wx G y (d + 1) h0 post pc L h' a) : Wc G y (d + 1) h0 post pc L stk h := by
  subst hst
  intro p e s m args below meth c R H locs ls hC hH hL hs hl hn0 hq0 T hT X
  have hW := hC.2.1
  have g : Gok G := hC.ok
  have hpl : e.platform.magicAccessors = ({} : Platform).magicAccessors := by rw [X.admits.platform]
  have hdg : decode c.code pc = .ok (.invokespecial idx, 3) := by rw [hC.2.2.2.1]; exact hd
  have q0 : tr G a = .ref (rho G a) := tr_rho hk
  have hav : ((vR a :: av).map (tv G)).toArray = (Value.ref (rho G a) :: av.map (tv G)).toArray := by rw [List.map_cons, show tv G (vR a) = .ref (rho G a) from q0]
  rw [List.map_append, map_rev, List.map_cons, show tv G (vR a) = .ref (rho G a) from q0]
  have hsa := nvs_app hs
  have hlen : ∀ sig, parseMethodDescriptor (mY y').desc = some sig → (av.map (tv G)).length = sig.parameters.length := fun sig hs => by rw [List.length_map, hn]; exact hmo.len _ hs
  rcases hlk with h1 | ⟨host, h1⟩
  · obtain ⟨mk, methM, cM, kP, vm₁, hnamed, hmethM, hcodeM, -, hlocalsM, -, hkP, -, hW₁, stp⟩ := Steps.initColdArgs (e := e) X.here hC.1 X.warmed hpl (findC hC.2.2.1) hnm hmo.2.2.1 (wd (A := args) g hW h1) (wd (A := args) g hW hinst) (wd (A := args) g hW hcode) (f := F0 m pc ls ((av.map (tv G)).reverse ++ .ref (rho G a) :: st.map (tv G))) rfl hlen rfl hdg
    have X₁ := X.noted hW₁
    obtain ⟨t, a1, b1⟩ := call_core hct kr kx hC hH hL (nvs_tl hsa.2) (nvs_cons trivial (nvs_rev hsa.1)) hl hn0 hq0 (T₁ := T.setVm vm₁) hT X₁ hdg hnamed hmo.1 hmo.2.1 hw
    rw [hav] at a1
    exact ⟨t, stp t fun acts => by rw [doInvoke_state]; exact a1, b1⟩
  · obtain ⟨mk, methM, cM, kP, vm₁, hnamed, hmethM, hcodeM, -, hlocalsM, -, hkP, -, hW₁, stp⟩ := Steps.initColdArgsNest (e := e) X.here hC.1 X.warmed hpl (findC hC.2.2.1) hnm hmo.2.2.1 (va_Nw.use (A := args) rfl (va_Nw.warmM hW (g.1 _ h1))) (wd (A := args) g hW hinst) (wd (A := args) g hW hcode) (f := F0 m pc ls ((av.map (tv G)).reverse ++ .ref (rho G a) :: st.map (tv G))) rfl hlen rfl hdg
    have X₁ := X.noted hW₁
    obtain ⟨t, a1, b1⟩ := call_core hct kr kx hC hH hL (nvs_tl hsa.2) (nvs_cons trivial (nvs_rev hsa.1)) hl hn0 hq0 (T₁ := T.setVm vm₁) hT X₁ hdg hnamed hmo.1 hmo.2.1 hw
    rw [hav] at a1
    exact ⟨t, stp t fun acts => by rw [doInvoke_state]; exact a1, b1⟩
/-- a method of an interface -/
theorem wc_callF {idx n a k cnt : Nat} {x : MethodName} (hd : decode (mB y) pc = .ok (.invokeinterface idx cnt, 5)) (hlk : Cond.methodLink (mY y).cls idx x ∈ lw_all) (hdecl : Cond.declares x ∈ lw_tbl) (hface : Cond.interfaceMethod x.cls x.cls x.name x.desc ∈ lw_tbl) (hx : x.cls ≠ "java/lang/invoke/MethodHandle" ∧ x.cls ≠ "java/lang/invoke/VarHandle") (hmo : MethOk y' n) (hdesc : x.desc = (mY y').desc) (hinst : Cond.instanceMethod (mY y') ∈ lw_all) (hpub : Cond.publicMethod (mY y') ∈ lw_tbl) (hunh : Cond.unhidden (cNm k) x.name x.desc ∈ lw_tbl) (hcast : Cond.castable (cNm k) x.cls ∈ lw_tbl) (hsel : Cond.selects (cNm k) x (mY y') ∈ lw_all) (hk : k ∈ cLs) (ho : ob h a k) (hn : av.length = n) (hst : stk = av.reverse ++ vR a :: st) (hw : 2 * st.length + mX y' ≤ 89)
    (hct : Ct G y' d (vR a :: av) h P) (kr : ∀ v h', P (.inl v) h' → Wc G y (d + 1) h0 post (pc + 5) L (v.toList ++ st) h') (kx : ∀ a h', P (.inr a) h' → Wx G y (d + 1) h0 post pc L h' a) : Wc G y (d + 1) h0 post pc L stk h := by
  subst hst
  intro p e s m args below meth c R H locs ls hC hH hL hs hl hn0 hq0 T hT X
  have hW := hC.2.1
  have g : Gok G := hC.ok
  obtain ⟨mk, methk, ck, f1, f2, f3, f4, f5, f6, f7, f8, f9, f10⟩ := callee g hW hmo.1
  have hF : va_Fw (cNm k) x (mY y') s := va_Fw.moved hx hW.alike (va_Fw.of (A := #[]) (g.1 _ hdecl) (g.1 _ hface) (g.1 _ hpub) (g.1 _ hunh) (g.1 _ hcast))
  obtain ⟨w1, w2, w3, w4, w5⟩ := hF
  obtain ⟨r0, r, hn0', hrm, hstR, hsigR⟩ := Cond.declares_spec w1
  obtain ⟨cL, kL, r1, hcL, hkL, hiL, hfoundL, hn1⟩ := Cond.interfaceMethod_spec w2
  cases hn0'.symm.trans hn1
  have hr0cls : r0.cls = cL := Option.some.inj ((findClass_of_methodNamed hn0').symm.trans hcL)
  obtain ⟨hnameR, hdescR⟩ := name_of_methodNamed hn0' hrm
  obtain ⟨mk2, methM, hnamed, hmethM, -, habM⟩ := Cond.instanceMethod_spec (wd (A := args) g hW hinst)
  cases f1.symm.trans hnamed
  cases f2.symm.trans hmethM
  obtain ⟨cellB, q0, hcell, hobj, hcls, kB, hkB⟩ := obj_at hH ho hk g hW
  obtain ⟨c2, r2, m2, q1, q2, q3, q4, -⟩ := Cond.selects_spec (wd (A := args) g hW hsel)
  cases hcls.symm.trans q1
  cases hfoundL.symm.trans q2
  cases hnamed.symm.trans q3
  have hselP : selectMethod e.platform s.vm cellB.cls r0 = .method mk := by rw [Launch.admits_selectMethod X.admits]; exact q4
  have hpubM : hasFlag methk.accessFlags Acc.public_ = true := Cond.publicMethod_spec hnamed hmethM w3
  have hway : ((cellB.cls :: s.vm.superclasses cellB.cls).any fun k => (declaredIn s.vm r.name r.desc k).any fun (_, z) => z.isPrivate || z.isStatic) = false := by
    rw [hnameR, hdescR]
    exact Cond.unhidden_spec hcls w4
  obtain ⟨c3, t3, u1, u2, u3⟩ := Cond.castable_spec w5
  cases hcls.symm.trans u1
  cases hcL.symm.trans u2
  have hlen : (av.map (tv G)).length = r.sig.parameters.length := by
    rw [List.length_map, hn]
    exact hmo.len _ (by rw [← hdesc]; exact hsigR)
  have hdg : decode c.code pc = .ok (.invokeinterface idx cnt, 5) := by rw [hC.2.2.2.1]; exact hd
  have hav : ((vR a :: av).map (tv G)).toArray = (Value.ref (rho G a) :: av.map (tv G)).toArray := by rw [List.map_cons, show tv G (vR a) = .ref (rho G a) from q0]
  rw [List.map_append, map_rev, List.map_cons, show tv G (vR a) = .ref (rho G a) from q0]
  have hsa := nvs_app hs
  obtain ⟨vm₁, X₁, stp⟩ := X.invokeinterface hC.1 (findC hC.2.2.1) (wd g hW hlk) hn0' hrm hstR (by rw [hr0cls]; exact hkL) hiL hx (a := rho G a) (cell := cellB) (kcell := kB) (by rw [hT]; exact hcell)
    (fun z h => by rw [h] at hobj; cases hobj) hkB (by rw [hr0cls]; exact u3) hselP hmethM hway hpubM habM (g := F0 m pc ls ((av.map (tv G)).reverse ++ .ref (rho G a) :: st.map (tv G))) rfl (argsL := av.map (tv G)) (rest := st.map (tv G)) hlen rfl hdg
  obtain ⟨t, a1, b1⟩ := call_core hct kr kx hC hH hL (nvs_tl hsa.2) (nvs_cons trivial (nvs_rev hsa.1)) hl hn0 hq0 (T₁ := T.setVm vm₁) hT X₁ hdg f1 hmo.1 hmo.2.1 hw
  rw [hav] at a1
  exact ⟨t, stp t fun acts => by rw [doInvoke_state]; exact a1, b1⟩
/-- Object's constructor -/
theorem wc_obj {idx a : Nat} (hd : decode (mB y) pc = .ok (.invokespecial idx, 3)) (hlk : Cond.methodLink (mY y).cls idx Lib.objectInit ∈ lw_all) (hinst : Cond.instanceMethod Lib.objectInit ∈ lw_all) (hcode : Cond.code Lib.objectInit ⟨#[0xb1]⟩ 1 none ∈ lw_all) (hk : K0 ≤ a) (hw : st.length ≤ 20) (kk : Wc G y (d + 1) h0 post (pc + 3) L st h) : Wc G y (d + 1) h0 post pc L (vR a :: st) h := by
  intro p e s m args below meth c R H locs ls hC hH hL hs hl hn0 hq0
  have hW := hC.2.1
  have g : Gok G := hC.ok
  have hrm := hC.room
  have hcat := catsum G st
  rw [List.map_cons, show tv G (vR a) = .ref (rho G a) from tr_rho hk]
  exact W.objInit hC.1 hC.2.2.2.1 (findC hC.2.2.1) (wd g hW hlk) (wd g hW hinst) (wd g hW hcode) rfl (by rw [hC.2.2.2.2.1]; exact hL.1) rfl hd (by have := hrm.1; omega) (by have := hrm.2.1; show 2 * 0 + ((st.map (tv G)).map fun v => v.category).sum + 12 ≤ R.locals; omega) (kk p e s m args below meth c R H locs ls hC hH hL (nvs_tl hs) hl hn0 hq0)
theorem enL_len {G : Gx} (g : Gok G) : ∀ (av : List V) (n : Nat), (lg_sl (av.map (tv G))).length ≤ (enL n av).length := by
  intro av
  induction av with
  | nil => intro n; simp [lg_sl]
  | cons v vs ih =>
    intro n
    have hc := tv_cat g v
    rcases v with x | x | x
    · have h2 : ¬ (tv G (.inl x)).category = 2 := fun z => by obtain ⟨w, hw⟩ := hc.mp z; cases hw
      have := ih (n - 1)
      simp only [List.map_cons, lg_sl, List.flatMap_cons, if_neg h2, enL, List.length_cons, List.length_append, List.length_nil] at *
      omega
    · have h2 : (tv G (.inr (.inl x))).category = 2 := hc.mpr ⟨x, rfl⟩
      have := ih (n - 2)
      simp only [List.map_cons, lg_sl, List.flatMap_cons, if_pos h2, enL, List.length_cons, List.length_append, List.length_nil] at *
      omega
    · have h2 : ¬ (tv G (.inr (.inr x))).category = 2 := fun z => by obtain ⟨w, hw⟩ := hc.mp z; cases hw
      have := ih (n - 1)
      simp only [List.map_cons, lg_sl, List.flatMap_cons, if_neg h2, enL, List.length_cons, List.length_append, List.length_nil] at *
      omega
theorem enL_at {G : Gx} (g : Gok G) : ∀ (av : List V) (n off i : Nat) (v : V), (enL n av)[i]? = some (some v) → (off + i, tv G v) ∈ lv_args off (av.map (tv G)) ∧ v ∈ av := by
  intro av
  induction av with
  | nil =>
    intro n off i v h
    simp only [enL] at h
    have := List.eq_of_mem_replicate (List.mem_of_getElem? h)
    cases this
  | cons w vs ih =>
    intro n off i v h
    have hc := tv_cat g w
    have one : ∀ (m : Nat), ¬ (tv G w).category = 2 → enL n (w :: vs) = some w :: enL m vs → (off + i, tv G v) ∈ lv_args off ((w :: vs).map (tv G)) ∧ v ∈ w :: vs := by
      intro m h2 he
      rw [he] at h
      simp only [List.map_cons, lv_args, if_neg h2]
      cases i with
      | zero =>
        have : w = v := by simpa using h
        subst this
        exact ⟨List.mem_cons_self, List.mem_cons_self⟩
      | succ i =>
        have h3 : (enL m vs)[i]? = some (some v) := by simpa using h
        have h4 := ih m (off + 1) i v h3
        refine ⟨List.mem_cons_of_mem _ ?_, List.mem_cons_of_mem _ h4.2⟩
        have e : off + (i + 1) = off + 1 + i := by omega
        rw [e]
        exact h4.1
    rcases w with x | x | x
    · exact one (n - 1) (fun z => by obtain ⟨w, hw⟩ := hc.mp z; cases hw) rfl
    · have h2 : (tv G (.inr (.inl x))).category = 2 := hc.mpr ⟨x, rfl⟩
      simp only [enL] at h
      simp only [List.map_cons, lv_args, if_pos h2]
      cases i with
      | zero =>
        have : (vL x : V) = v := by simpa using h
        subst this
        exact ⟨List.mem_cons_self, List.mem_cons_self⟩
      | succ i =>
        cases i with
        | zero => simp at h
        | succ i =>
          have h3 : (enL (n - 2) vs)[i]? = some (some v) := by simpa using h
          have h4 := ih (n - 2) (off + 2) i v h3
          refine ⟨List.mem_cons_of_mem _ ?_, List.mem_cons_of_mem _ h4.2⟩
          have e : off + (i + 1 + 1) = off + 2 + i := by omega
          rw [e]
          exact h4.1
    · exact one (n - 1) (fun z => by obtain ⟨w, hw⟩ := hc.mp z; cases hw) rfl
/-- the entry of a method -/
theorem ct_enter {L0 : List (Option V)} (hL0 : enL (mX y) av = L0) (hlen : L0.length = mX y) (w : Wc G y d h P 0 L0 [] h) : Ct G y d av h P := by
  intro p e s m below meth c R hC hH ha
  have g : Gok G := hC.ok
  have hl : (lg_sl (av.map (tv G))).length ≤ mX y := by
    have := enL_len g av (mX y)
    rw [hL0, hlen] at this
    exact this
  have he := lv_entry (av.map (tv G)) hl
  rw [lg_entry_eq]
  have hLr : Lr G ((lg_sl (av.map (tv G)) ++ List.replicate (mX y - (lg_sl (av.map (tv G))).length) Slot.unset).toArray) (mX y) L0 := by
    refine ⟨he.1, hlen, he.2.1, fun i v hv => ?_⟩
    rw [← hL0] at hv
    have h9 := enL_at g av (mX y) 0 i v hv
    rw [Nat.zero_add] at h9
    exact ⟨he.2.2 _ h9.1, ha _ h9.2⟩
  have w' := w p e s m (av.map (tv G)).toArray below meth c R s.heap [] _ hC hH hLr nvs_nil (fun q hq => by cases hq) (Nat.le_refl _) (Nat.le_refl _)
  rw [Nat.sub_self, Nat.sub_self] at w'
  exact w'
end RC
