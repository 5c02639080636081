set_option maxRecDepth 100000
set_option maxHeartbeats 1000000
/-! OWN LAYER, 11: exceptions that are caught -/
/-- what the search for a handler gives, and the tables that it leaves -/
def FindsV (e : Env) (s : State) (f : JFrame) (a : Addr) (h : Handler) (vm' : Vm) : Prop :=
  ∀ (Q : Handler → Pre) (E : CtlPost) (d : Bool) (acts : List Action), wp (findHandler f a) Q E e d acts s ↔ Q h d acts (s.setVm vm')
theorem go_hit {Q : Handler → Pre} {E : CtlPost} {e : Env} {d : Bool} {acts : List Action} {s : State} {f : JFrame} {a : Addr} {x : ExceptionTableEntry} {t : List ExceptionTableEntry} {c : ClassId} {cell : Cell} (hx : covers x f.pc = true) (h0 : x.catchType ≠ 0)
    (hl : s.vm.ClassLinks e.platform f.method.cls x.catchType c) (hcell : s.heap[a]? = some cell) (hobj : ∀ k, cell.vm ≠ .statics k) (hk : ∃ k, s.vm.classes[cell.cls]? = some k) (hc : ∃ k, s.vm.classes[c]? = some k) (hfit : s.vm.assignable cell.cls c = true) :
    wp (findHandler.go f a (x :: t)) Q E e d acts s ↔ Q (.found x.handlerPc) d acts (s.setVm (s.vm.noted f.method.cls x.catchType (.cls c))) := by
  simp only [covers] at hx
  obtain ⟨ha, ht⟩ := (resolveClass_links e.toSetting hl).op (op := VmOp.resolveClass f.method.cls x.catchType) rfl
  have hal : s.vm.Alike (s.vm.noted f.method.cls x.catchType (.cls c)) := (Vm.Alike.refl s.vm).noted _ _ _
  obtain ⟨k1, hk1⟩ := hk
  obtain ⟨k2, hk2⟩ := hc
  obtain ⟨k1', hk1', -⟩ := hal.2.2 _ _ hk1
  obtain ⟨k2', hk2', -⟩ := hal.2.2 _ _ hk2
  have hfit' : (s.vm.noted f.method.cls x.catchType (.cls c)).assignable cell.cls c = true := by rw [hal.assignable]; exact hfit
  simp [findHandler.go, hx, h0, ha, ht, hcell, hobj, hk1', hk2', hfit', VmOp.dirties, VmOp.acts]
theorem go_miss {Q : Handler → Pre} {E : CtlPost} {e : Env} {d : Bool} {acts : List Action} {s : State} {f : JFrame} {a : Addr} {x : ExceptionTableEntry} {t : List ExceptionTableEntry} {c : ClassId} {cell : Cell} (hx : covers x f.pc = true) (h0 : x.catchType ≠ 0)
    (hl : s.vm.ClassLinks e.platform f.method.cls x.catchType c) (hcell : s.heap[a]? = some cell) (hobj : ∀ k, cell.vm ≠ .statics k) (hk : ∃ k, s.vm.classes[cell.cls]? = some k) (hc : ∃ k, s.vm.classes[c]? = some k) (hfit : s.vm.assignable cell.cls c = false) :
    wp (findHandler.go f a (x :: t)) Q E e d acts s ↔ wp (findHandler.go f a t) Q E e d acts (s.setVm (s.vm.noted f.method.cls x.catchType (.cls c))) := by
  simp only [covers] at hx
  obtain ⟨ha, ht⟩ := (resolveClass_links e.toSetting hl).op (op := VmOp.resolveClass f.method.cls x.catchType) rfl
  have hal : s.vm.Alike (s.vm.noted f.method.cls x.catchType (.cls c)) := (Vm.Alike.refl s.vm).noted _ _ _
  obtain ⟨k1, hk1⟩ := hk
  obtain ⟨k2, hk2⟩ := hc
  obtain ⟨k1', hk1', -⟩ := hal.2.2 _ _ hk1
  obtain ⟨k2', hk2', -⟩ := hal.2.2 _ _ hk2
  have hfit' : (s.vm.noted f.method.cls x.catchType (.cls c)).assignable cell.cls c = false := by rw [hal.assignable]; exact hfit
  simp [findHandler.go, hx, h0, ha, ht, hcell, hobj, hk1', hk2', hfit', VmOp.dirties, VmOp.acts]
theorem throwing_found {e : Env} {s : State} {a : Addr} {f : JFrame} {r : List Frame} {pc : Nat} {vm' : Vm} (hfind : FindsV e s f a (.found pc) vm') :
    (stepThrowing e s a (.java f :: r)).Is ((s.setVm vm').setFrames (.java { f with pc := pc, stack := [.ref a] } :: r)) [] := by
  simp only [stepThrowing, searchFrame, vmDo]
  generalize hr : Sem.go _ e false [] s = res
  obtain ⟨as, rfl, ha⟩ := Sem.eq_ok_of hr (a := Handler.found pc) (s' := s.setVm vm') (acts' := []) (by simp [hfind _ _ _ _])
  exact ⟨rfl, ha⟩
theorem frames_vm_frames (u : State) (vm' : Vm) (F F2 : List Frame) : ((u.setFrames F).setVm vm').setFrames F2 = (u.setVm vm').setFrames F2 := by
  have h1 : (u.setFrames F).setVm vm' = (u.setVm vm').setFrames F := rfl
  rw [h1, State.setFrames_setFrames]
theorem steps_caught {tb : Tables} {e : Env} {s target : State} {g : JFrame} {c : Code} {below : List Frame} {a : Addr} (h : At s g.method c below) {pc : Nat} {vm' : Vm}
    (hfind : FindsV e ((s.setTop g).pushFrame (.throwing a)) g a (.found pc) vm') (hrest : Steps tb e below ((s.setVm vm').setTop { g with pc := pc, stack := [.ref a] }) target) : Steps tb e below ((s.setTop g).pushFrame (.throwing a)) target := by
  obtain ⟨hgo, hw⟩ := h.throwing a
  refine Steps.head hgo hw ?_
  rw [stepThread_throwing (frames_entered h.top _), (throwing_found (s := (s.setTop g).pushFrame (.throwing a)) hfind).1]
  obtain ⟨g₀, hg⟩ := Option.isSome_iff_exists.mp h.top
  obtain ⟨r, hr⟩ := State.topJava?_eq_some.mp hg
  have hr' : (s.setVm vm').frames = .java g₀ :: r := hr
  rw [State.setTop_of_frames _ hr'] at hrest
  rw [hr, List.tail_cons, State.pushFrame, frames_vm_frames, State.setTop_of_frames _ hr, frames_vm_frames]
  exact hrest
section CA
variable {G : Gx} {y : Mt} {d : Nat} {h0 : Hp} {post : Rs → Hp → Prop} {pc : Nat} {L : List (Option V)} {h : Hp} {a k : Nat}
theorem table_of {G : Gx} {y : Mt} {p : Program} {s : State} {m : MethodId} {meth : Method} {c : Code} {R : Room} {d : Nat} {h0 : Hp} (hC : Cx G y p s m meth c R d h0) {q : Nat × Nat × Nat × Nat} {r : List (Nat × Nat × Nat × Nat)} (hh : mH y = q :: r) : ∃ x xs, c.exceptionTable.toList = x :: xs ∧ Hnd x = q ∧ xs.map Hnd = r := by
  have h1 := hC.2.2.2.2.2.2.2.1
  rw [hh] at h1
  cases hl : c.exceptionTable.toList with
  | nil => rw [hl] at h1; cases h1
  | cons x xs =>
    rw [hl, List.map_cons] at h1
    exact ⟨x, xs, rfl, (List.cons.inj h1).1, (List.cons.inj h1).2⟩
/-- the first handler of the table catches it -/
theorem wx_hit {q : Nat × Nat × Nat × Nat} {r : List (Nat × Nat × Nat × Nat)} {C : String} (hh : mH y = q :: r) (hcv : cov q pc = true) (hc0 : q.2.2.2 ≠ 0) (hlk : Cond.classLink (mY y).cls q.2.2.2 C ∈ lw_all) (hk : k ∈ cLs) (ho : ob h a k) (hnm : cNm k = C) (kk : Wc G y d h0 post q.2.2.1 L [vR a] h) : Wx G y d h0 post pc L h a := by
  intro p e s m args below meth c R H locs ls sk hC hH hL hl hn0 hq0 T hT X
  have hW := hC.2.1
  have g : Gok G := hC.ok
  obtain ⟨x, xs, t1, t2, t3⟩ := table_of hC hh
  subst t2
  have hx : covers x (F0 m pc ls sk).pc = true := by
    simp only [cov, Hnd, Bool.and_eq_true, decide_eq_true_eq] at hcv
    simp only [covers, Bool.and_eq_true, decide_eq_true_eq]
    exact ⟨of_decide_eq_true hcv.1, of_decide_eq_true hcv.2⟩
  have hpl : e.platform.magicAccessors = ({} : Platform).magicAccessors := by rw [X.admits.platform]
  obtain ⟨cell, q0, q1, q2, q3, kB, q4⟩ := obj_at hH ho hk g hW
  obtain ⟨c', hc', hcl⟩ := Cond.classLink_spec (findC hC.2.2.1) (wd (A := args) g hW hlk) e.platform hpl
  rw [hnm] at q3
  cases q3.symm.trans hc'
  obtain ⟨dk, _, _, kt, hdd, _, _, _, _, hkt, _, hopen⟩ := hcl.here
  have hcl₀ := X.warmed.classLinks hcl
  have hW' : s.WarmedH (T.vm.noted m.cls x.catchType (.cls cell.cls)) := X.warmed.noted hdd hopen (State.rightAt_cls hcl)
  have hal := X.warmed.alike
  obtain ⟨kt', hkt', -⟩ := hal.2.2 _ _ hkt
  have X' := X.noted hW'
  have w := kk p e s m args below meth c R H locs ls hC hH hL (nvs_cons trivial nvs_nil) hl hn0 hq0
  rw [List.map_cons, List.map_nil, show tv G (vR a) = .ref (rho G a) from q0] at w
  obtain ⟨t, a1, b1⟩ := w (T.setVm (T.vm.noted m.cls x.catchType (.cls cell.cls))) hT X'
  refine ⟨t, steps_caught (g := F0 m pc ls sk) (pc := x.handlerPc) X.here (fun Q E dd acts => ?_) a1, b1⟩
  rw [W.findHandler_eq (meth := meth) (code := c) X.method' X.code, t1]
  exact go_hit (s := (T.setTop (F0 m pc ls sk)).pushFrame (.throwing (rho G a))) hx hc0 hcl₀ (by show T.heap[rho G a]? = _; rw [hT]; exact q1) (VmData.ne_statics_of q2) ⟨kt', hkt'⟩ ⟨kt', hkt'⟩ (va_asg _ _)
/-- the first handler doesn't, the second does -/
theorem wx_hit2 {q q2 : Nat × Nat × Nat × Nat} {r : List (Nat × Nat × Nat × Nat)} {C1 C : String} (hh : mH y = q :: q2 :: r) (hcv : cov q pc = true) (hcv2 : cov q2 pc = true) (hc0 : q.2.2.2 ≠ 0) (hc2 : q2.2.2.2 ≠ 0) (hlk1 : Cond.classLink (mY y).cls q.2.2.2 C1 ∈ lw_all) (hlk : Cond.classLink (mY y).cls q2.2.2.2 C ∈ lw_all) (hno : (C, C1) ∈ kNot) (hk : k ∈ cLs) (ho : ob h a k) (hnm : cNm k = C) (kk : Wc G y d h0 post q2.2.2.1 L [vR a] h) : Wx G y d h0 post pc L h a := by
  intro p e s m args below meth c R H locs ls sk hC hH hL hl hn0 hq0 T hT X
  have hW := hC.2.1
  have g : Gok G := hC.ok
  obtain ⟨x, xs, t1, t2, t3⟩ := table_of hC hh
  subst t2
  cases xs with
  | nil => cases t3
  | cons x2 xs =>
  rw [List.map_cons] at t3
  have t4 := (List.cons.inj t3).1
  subst t4
  have cvr : ∀ {z : ExceptionTableEntry}, cov (Hnd z) pc = true → covers z (F0 m pc ls sk).pc = true := fun {z} hz => by
    simp only [cov, Hnd, Bool.and_eq_true, decide_eq_true_eq] at hz
    simp only [covers, Bool.and_eq_true, decide_eq_true_eq]
    exact ⟨of_decide_eq_true hz.1, of_decide_eq_true hz.2⟩
  have hpl : e.platform.magicAccessors = ({} : Platform).magicAccessors := by rw [X.admits.platform]
  obtain ⟨cell, q0, q1, q2, q3, kB, q4⟩ := obj_at hH ho hk g hW
  obtain ⟨c', hc', hcl⟩ := Cond.classLink_spec (findC hC.2.2.1) (wd (A := args) g hW hlk) e.platform hpl
  obtain ⟨d', hd', hdl⟩ := Cond.classLink_spec (findC hC.2.2.1) (wd (A := args) g hW hlk1) e.platform hpl
  rw [hnm] at q3
  cases q3.symm.trans hc'
  obtain ⟨dk, _, _, kt, hdd, _, _, _, _, hkt, _, hopen⟩ := hcl.here
  obtain ⟨dk2, _, _, kt2, hdd2, _, _, _, _, hkt2, _, hopen2⟩ := hdl.here
  have hW1 : s.WarmedH (T.vm.noted m.cls x.catchType (.cls d')) := X.warmed.noted hdd2 hopen2 (State.rightAt_cls hdl)
  have hW' : s.WarmedH ((T.vm.noted m.cls x.catchType (.cls d')).noted m.cls x2.catchType (.cls cell.cls)) := hW1.noted hdd hopen (State.rightAt_cls hcl)
  have hdl₀ := X.warmed.classLinks hdl
  have hcl₁ := hW1.classLinks hcl
  obtain ⟨kt', hkt', -⟩ := X.warmed.alike.2.2 _ _ hkt
  obtain ⟨kt2', hkt2', -⟩ := X.warmed.alike.2.2 _ _ hkt2
  obtain ⟨kt1, hkt1, -⟩ := hW1.alike.2.2 _ _ hkt
  have hnot : T.vm.assignable cell.cls d' = false := by
    rw [X.warmed.alike.assignable, hW.alike.assignable]
    refine g.2.2.2.2.2.2.2.2.2.2.1 _ hno _ _ ?_ ?_
    · rw [← hW.alike.findClass]; exact q3
    · rw [← hW.alike.findClass]; exact hd'
  have X' := X.noted hW'
  have w := kk p e s m args below meth c R H locs ls hC hH hL (nvs_cons trivial nvs_nil) hl hn0 hq0
  rw [List.map_cons, List.map_nil, show tv G (vR a) = .ref (rho G a) from q0] at w
  obtain ⟨t, a1, b1⟩ := w (T.setVm ((T.vm.noted m.cls x.catchType (.cls d')).noted m.cls x2.catchType (.cls cell.cls))) hT X'
  refine ⟨t, steps_caught (g := F0 m pc ls sk) (pc := x2.handlerPc) X.here (fun Q E dd acts => ?_) a1, b1⟩
  rw [W.findHandler_eq (meth := meth) (code := c) X.method' X.code, t1]
  refine (go_miss (s := (T.setTop (F0 m pc ls sk)).pushFrame (.throwing (rho G a))) (cvr hcv) hc0 hdl₀ (by show T.heap[rho G a]? = _; rw [hT]; exact q1) (VmData.ne_statics_of q2) ⟨kt', hkt'⟩ ⟨kt2', hkt2'⟩ hnot).trans ?_
  exact go_hit (s := ((T.setTop (F0 m pc ls sk)).pushFrame (.throwing (rho G a))).setVm (T.vm.noted m.cls x.catchType (.cls d'))) (cvr hcv2) hc2 hcl₁ (by show T.heap[rho G a]? = _; rw [hT]; exact q1) (VmData.ne_statics_of q2) ⟨kt1, hkt1⟩ ⟨kt1, hkt1⟩ (va_asg _ _)
end CA
