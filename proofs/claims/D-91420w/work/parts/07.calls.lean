set_option maxRecDepth 100000
set_option maxHeartbeats 1000000
/-! OWN LAYER, 5: calls -/
theorem Steps_under {tb : Tables} {e : Env} {f : Frame} {below : List Frame} {s t : State} (h : Steps tb e (f :: below) s t) : Steps tb e below s t := by
  obtain ⟨n, h1, h2⟩ := h
  refine ⟨n, h1, fun k hk => ?_⟩
  obtain ⟨ab, q1, q2, q3⟩ := h2 k hk
  refine ⟨ab ++ [f], by rw [q1]; simp, by simp, fun a z => ?_⟩
  cases ab with
  | nil => exact q2 rfl
  | cons b r =>
    have := congrArg List.length z
    simp at this
/-- the code of a method is as its row says -/
def Cw (y : Mt) : Prop := (mH y = [] ∧ Cond.code (mY y) (mB y) (mX y) (mR y) ∈ lw_all) ∨ Cond.codeWith (mY y) (mB y) (mX y) (mR y) (mH y) ∈ lw_all
theorem callee {G : Gx} (g : Gok G) {U : State} (hW : (gs G).WarmedH U.vm) {y : Mt} (hc : Cw y) : ∃ (mk : MethodId) (meth : Method) (c : Code), U.methodNamed? (mY y) = some mk ∧ U.vm.method? mk = some meth ∧ meth.code = some c ∧ c.code = mB y ∧ c.maxLocals = mX y ∧ meth.sig.returnType = mR y ∧ meth.locks = false ∧ c.exceptionTable.toList.map Hnd = mH y ∧ meth.name = (mY y).name ∧ parseMethodDescriptor (mY y).desc = some meth.sig := by
  rcases hc with ⟨h0, h1⟩ | h1
  · have hw := wd (A := #[]) g hW h1
    obtain ⟨mk, hn⟩ := Cond.code_named hw
    obtain ⟨meth, c, q1, q2, q3, q4, q5, q6, q7, q8⟩ := Cond.code_spec hn hw
    refine ⟨mk, meth, c, hn, q1, q2, q3, q4, q5, q6, ?_, (name_of_methodNamed hn q1).1, q8⟩
    rw [h0, List.map_eq_nil_iff]
    simpa using q7
  · have hw := wd (A := #[]) g hW h1
    obtain ⟨mk, meth, c, hn, q1, q2, q3, q4, q5, q6, q7, q8⟩ := Cond.codeWith_spec hw
    exact ⟨mk, meth, c, hn, q1, q2, q3, q4, q6, q7, q5, (name_of_methodNamed hn q1).1, q8⟩
/-- an exception is on its way, the frame of the method y being on top -/
def Wx (G : Gx) (y : Mt) (d : Nat) (h0 : Hp) (post : Rs → Hp → Prop) (pc : Nat) (L : List (Option V)) (h : Hp) (a : Nat) : Prop :=
  ∀ (p : Program) (e : Env) (s : State) (m : MethodId) (args : Array Value) (below : List Frame) (meth : Method) (c : Code) (R : Room) (H : Heap) (locs : List Loc) (ls : Array Slot) (sk : List Value),
    Cx G y p s m meth c R d h0 → HR G h H → Lr G ls (mX y) L → (∀ q ∈ locs, gB G ≤ q.base) → hn h0 ≤ hn h → hq h0 ≤ hq h →
    ∀ T : State, T.heap = H → Stand p (gl G) e R s m args below meth c T locs (hn h - hn h0) (hq h - hq h0) → ∃ t, Steps p.tables e below ((T.setTop (F0 m pc ls sk)).pushFrame (.throwing (rho G a))) t ∧ MQx G h0 s below post t
def cov (q : Nat × Nat × Nat × Nat) (pc : Nat) : Bool := decide (q.1 ≤ pc) && decide (pc < q.2.1)
/-- no handler: the method throws -/
theorem wx_out {G : Gx} {y : Mt} {d : Nat} {h0 : Hp} {post : Rs → Hp → Prop} {pc : Nat} {L : List (Option V)} {h : Hp} {a : Nat} (hh : (mH y).all (fun q => !cov q pc) = true) (hp : post (rX a) h) : Wx G y d h0 post pc L h a := by
  intro p e s m args below meth c R H locs ls sk hC hH hL hl hn0 hq0 T hT X
  have hlk := hC.2.2.2.2.2.2.1
  have hout : ∀ x ∈ c.exceptionTable.toList, covers x (F0 m pc ls sk).pc = false := by
    intro x hx
    have h1 : Hnd x ∈ mH y := by
      rw [← hC.2.2.2.2.2.2.2.1]
      exact List.mem_map.mpr ⟨x, hx, rfl⟩
    have h2 := List.all_eq_true.mp hh _ h1
    have h3 : ¬ (x.startPc ≤ pc ∧ pc < x.endPc) := by
      rintro ⟨z1, z2⟩
      simp [cov, Hnd, z1, z2] at h2
    simp only [covers, Bool.and_eq_false_iff, decide_eq_false_iff_not]
    by_cases z : x.startPc ≤ pc
    · exact Or.inr fun w => h3 ⟨z, w⟩
    · exact Or.inl z
  obtain ⟨h1, h2, h3, h4, h5⟩ := X.leaveThrown (rho G a) (g := F0 m pc ls sk) rfl rfl rfl hout
  exact ⟨_, h1, rX a, h, locs, h2, h3, h4, h5, hl, by show HR G h T.heap; rw [hT]; exact hH, hn0, hq0, trivial, hp⟩
theorem catsum (G : Gx) (st : List V) : (((st.map (tv G)).map fun v => v.category).sum) ≤ 2 * st.length := by
  induction st with
  | nil => simp
  | cons v st ih =>
    have h1 : (tv G v).category ≤ 2 := by
      cases hv : tv G v <;> simp [Value.category]
    simp only [List.map_cons, List.sum_cons, List.length_cons]
    omega
/-- the way into a method by its contract, and back -/
theorem call_core {G : Gx} {y : Mt} {d : Nat} {h0 h : Hp} {post : Rs → Hp → Prop} {pc len : Nat} {L : List (Option V)} {st : List V} {y' : Mt} {av : List V} {P : Rs → Hp → Prop}
    (hct : Ct G y' d av h P) (kr : ∀ v h', P (.inl v) h' → Wc G y (d + 1) h0 post (pc + len) L (v.toList ++ st) h') (kx : ∀ a h', P (.inr a) h' → Wx G y (d + 1) h0 post pc L h' a)
    {p : Program} {e : Env} {s : State} {m : MethodId} {args : Array Value} {below : List Frame} {meth : Method} {c : Code} {R : Room} {H : Heap} {locs : List Loc} {ls : Array Slot}
    (hC : Cx G y p s m meth c R (d + 1) h0) (hH : HR G h H) (hL : Lr G ls (mX y) L) (hs : nvs st) (ha : nvs av) (hl : ∀ q ∈ locs, gB G ≤ q.base) (hn0 : hn h0 ≤ hn h) (hq0 : hq h0 ≤ hq h)
    {T₁ : State} (hT : T₁.heap = H) (X₁ : Stand p (gl G) e R s m args below meth c T₁ locs (hn h - hn h0) (hq h - hq h0))
    {ig : Instr} (hdg : decode c.code pc = .ok (ig, len)) {mk : MethodId} (hnamed : s.methodNamed? (mY y') = some mk) (hcw : Cw y') (hpl : plainFor (mY y') = true) (hw : 2 * st.length + mX y' ≤ 89) :
    ∃ t, Steps p.tables e below (doInvoke e (T₁.setTop (F0 m pc ls (st.map (tv G)))) [] mk (av.map (tv G)).toArray).1 t ∧ MQx G h0 s below post t := by
  have g : Gok G := hC.ok
  have hWT : (gs G).WarmedH T₁.vm := State.WarmedH.trans hC.2.1 X₁.warmed
  obtain ⟨mk2, methk, ck, f1, f2, f3, f4, f5, f6, f7, f8, f9, f10⟩ := callee g hWT hcw
  have hmk : mk2 = mk := by
    exact Option.some.inj (f1.symm.trans (X₁.named hnamed))
  subst hmk
  have hrm := hC.room
  have hcat := catsum G st
  have hcells := (id hH).2.1
  have hsl := (id hH).2.2.1
  obtain ⟨Y, hent⟩ := X₁.into (g := F0 m pc ls (st.map (tv G))) rfl (by rw [hC.2.2.2.2.1]; exact hL.1) hdg (mk := mk2) (methk := methk) (ck := ck) (av.map (tv G)).toArray
    (R' := { frames := d, cells := R.cells - (hn h - hn h0), slots := R.slots - (hq h - hq h0), locals := 100 * d }) f2 f3 f7 (State.plainMethod.of_named hpl f1 f2)
    (by have := hrm.1; show d + 1 ≤ R.frames; omega) (by have := hrm.2.1; show 2 * 0 + ((st.map (tv G)).map fun v => v.category).sum + (ck.maxLocals + 11) + 100 * d ≤ R.locals; rw [f5]; omega) (by have := hrm.2.2.1; show hn h - hn h0 + (R.cells - (hn h - hn h0)) ≤ R.cells; omega) (by have := hrm.2.2.2; show hq h - hq h0 + (R.slots - (hq h - hq h0)) ≤ R.slots; omega)
  have hC' : Cx G y' p (T₁.calling (F0 m pc ls (st.map (tv G))) mk2 (av.map (tv G)).toArray) mk2 methk ck { frames := d, cells := R.cells - (hn h - hn h0), slots := R.slots - (hq h - hq h0), locals := 100 * d } d h := by
    refine ⟨hC.1, hWT, ?_, f4, f5, f6, f7, f8, f9, ⟨Nat.le_refl _, Nat.le_refl _, ?_, ?_⟩, g, fun q hq => ?_, fun q cell hq hc => ?_⟩
    · exact f1
    · have := hrm.2.2.1
      show R.cells - (hn h - hn h0) + hn h = MC
      omega
    · have := hrm.2.2.2
      show R.slots - (hq h - hq h0) + hq h = MS
      omega
    · show T₁.heap[q]? = _
      rw [hT]
      exact hH.2.2.2.2.1 q hq
    · have hc' : T₁.heap[q]? = some cell := hc
      rw [hT] at hc'
      exact hH.2.2.2.2.2.2.2.2.2.2.2 q cell hq hc'
  obtain ⟨t, b1, r, h', Lc, b2, b3, b4, b5, b6, b7, b8, b9, b10, b11⟩ := hct p e _ mk2 _ methk ck _ hC' (by show HR G h T₁.heap; rw [hT]; exact hH) ha _ (by rfl) Y
  have b1' : Steps p.tables e below (doInvoke e (T₁.setTop (F0 m pc ls (st.map (tv G)))) [] mk2 (av.map (tv G)).toArray).1 t := by
    rw [hent]
    rw [← f5] at b1
    exact Steps_under b1
  have hl2 : ∀ q ∈ locs ++ Lc, gB G ≤ q.base := fun q hq => by
    rcases List.mem_append.mp hq with z | z
    · exact hl q z
    · exact b6 q z
  have e1 : hn h - hn h0 + (hn h' - hn h) = hn h' - hn h0 := by omega
  have e2 : hq h - hq h0 + (hq h' - hq h) = hq h' - hq h0 := by omega
  cases r with
  | inl v =>
    obtain ⟨T', X', w1, w2, w3⟩ := X₁.outOf (g := F0 m pc ls (st.map (tv G))) rfl hdg b3 b4 b5
    rw [e1, e2] at X'
    have hH' : HR G h' T'.heap := by
      have : t.heap = T'.heap := by rw [w3]; rfl
      rw [← this]
      exact b7
    have hs2 : nvs (v.toList ++ st) := by
      cases v with
      | none => exact hs
      | some v => exact nvs_cons b10 hs
    have hmap : (v.toList ++ st).map (tv G) = (v.map (tv G)).toList ++ st.map (tv G) := by cases v <;> simp
    obtain ⟨t2, c1, c2⟩ := kr v h' b11 p e s m args below meth c R T'.heap (locs ++ Lc) ls hC hH' hL hs2 hl2 (by omega) (by omega) T' rfl X'
    rw [hmap] at c1
    refine ⟨t2, b1'.trans ?_, c2⟩
    rw [w3]
    exact c1
  | inr a =>
    obtain ⟨T', X', w1, w2, w3⟩ := X₁.outOfThrown (g := F0 m pc ls (st.map (tv G))) rfl b3 b4 b5
    rw [e1, e2] at X'
    have hH' : HR G h' T'.heap := by
      have : t.heap = T'.heap := by rw [w3]; rfl
      rw [← this]
      exact b7
    obtain ⟨t2, c1, c2⟩ := kx a h' b11 p e s m args below meth c R T'.heap (locs ++ Lc) ls (st.map (tv G)) hC hH' hL hl2 (by omega) (by omega) T' rfl X'
    refine ⟨t2, b1'.trans ?_, c2⟩
    rw [w3]
    exact c1
