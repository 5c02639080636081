set_option maxRecDepth 100000
set_option maxHeartbeats 1000000
/-! OWN LAYER, 14: rows of rows of ints (multianewarray of two dimensions) -/
/-- the pure memory with the outer row and the first i inner ones -/
def fm (h : Hp) (n m : Nat) : Nat → Hp
  | 0 => nw h 77 n n
  | i + 1 => sR (nw (fm h n m i) 70 m m) (hn h) i (hn h + 1 + i)
theorem hn_fm (h : Hp) (n m : Nat) : ∀ i, hn (fm h n m i) = hn h + 1 + i
  | 0 => rfl
  | i + 1 => by
    show hn (fm h n m i) + 1 = _
    rw [hn_fm h n m i]
    omega
theorem hq_fm (h : Hp) (n m : Nat) : ∀ i, hq (fm h n m i) = hq h + n + i * m
  | 0 => by show hq h + n = _; omega
  | i + 1 => by
    show hq (fm h n m i) + m = _
    rw [hq_fm h n m i, Nat.succ_mul]
    omega
theorem hT_fm0 (h : Hp) (n m : Nat) : ∀ i, hT (fm h n m i) (hn h) = 77
  | 0 => by show hT (nw h 77 n n) (hn h) = 77; rw [hT_nw, if_pos rfl]
  | i + 1 => by
    show hT (nw (fm h n m i) 70 m m) (hn h) = 77
    rw [hT_nw, if_neg (by rw [hn_fm]; omega)]
    exact hT_fm0 h n m i
theorem hN_fm0 (h : Hp) (n m : Nat) : ∀ i, hN (fm h n m i) (hn h) = n
  | 0 => by show hN (nw h 77 n n) (hn h) = n; rw [hN_nw, if_pos rfl]
  | i + 1 => by
    show hN (nw (fm h n m i) 70 m m) (hn h) = n
    rw [hN_nw, if_neg (by rw [hn_fm]; omega)]
    exact hN_fm0 h n m i
theorem ob_fm (h : Hp) (n m i : Nat) (hk : K0 ≤ hn h) : ob (fm h n m i) (hn h) 77 := ⟨Nat.lt_of_lt_of_le (by decide) hk, by rw [hn_fm]; omega, hT_fm0 h n m i⟩
/-- a new row of default values -/
theorem hp_row {G : Gx} {h : Hp} {H : Heap} (g : Gok G) (hH : HR G h H) {t n : Nat} (ht : 70 ≤ t ∧ t ≤ 77) (hty : isI (aY t) = true ∨ isA (aY t) = true ∨ aY t = .long) (r1 : hn h + 1 ≤ MC) (r2 : hq h + n ≤ MS) : HR G (nw h t n n) (H.push { cls := gA G t, slots := Array.replicate n (defaultValue (aY t)), vm := .none }) := by
  refine hH.push r1 r2 (by simp) (fun q hq => by simp [Array.getElem?_push, Nat.ne_of_lt hq]) ⟨fun z => ?_, fun _ _ => ?_⟩ (fun cl hcl => by simp at hcl; rw [← hcl]; rfl)
  · rw [hT_nw, if_pos rfl] at z
    exfalso
    have : ∀ k ∈ cLs, ¬ 70 ≤ k := by decide
    exact this t z ht.1
  · rw [show hT (nw h t n n) (hn h) = t from by rw [hT_nw, if_pos rfl]]
    have hNn : hN (nw h t n n) (hn h) = n := by rw [hN_nw, if_pos rfl]
    obtain ⟨kA, comp, k1, k2, k3, k4⟩ := g.2.2.1 t ht.1 ht.2
    refine ⟨{ cls := gA G t, slots := Array.replicate n (defaultValue (aY t)), vm := .none }, tr_rho hH.1, by rw [rho_next hH]; simp, ⟨(fun z hz => by cases hz), kA, k2, comp, k3⟩, (by intro z; cases z), lz_of (by rw [hNn]; simp), fun j hj => ?_, fun _ => ⟨rfl, rfl⟩⟩
    rw [hNn] at hj
    rw [fv_nw g _ hty]
    simp [hj]
/-- the machine's states on the way -/
def ms (T : State) (cA cI : ClassId) (n m : Nat) : Nat → State
  | 0 => T.pushCell { cls := cA, slots := Array.replicate n .null, vm := .none }
  | i + 1 => match (ms T cA cI n m i).heap[T.heap.size]? with
    | some cl => ((ms T cA cI n m i).pushCell { cls := cI, slots := Array.replicate m (.int 0), vm := .none }).setCell T.heap.size (cl.setSlot i (.ref (ms T cA cI n m i).heap.size))
    | none => ms T cA cI n m i
theorem ms_top (T : State) (f : JFrame) (cA cI : ClassId) (n m : Nat) : ∀ i, ms (T.setTop f) cA cI n m i = (ms T cA cI n m i).setTop f
  | 0 => rfl
  | i + 1 => by
    have e : (T.setTop f).heap = T.heap := State.heap_setTop _ _
    unfold ms
    rw [ms_top T f cA cI n m i, e, State.heap_setTop]
    cases (ms T cA cI n m i).heap[T.heap.size]? with
    | none => rfl
    | some cl => simp only [State.pushCell_setTop, State.setCell_setTop]
theorem over_int {G : Gx} (g : Gok G) (hov : Cond.arrayOver (.array .int) ∈ lw_tbl) : ∃ kA, (gs G).vm.classes[gA G 77]? = some kA ∧ kA.kind = .array (gA G 70) (.array .int) := by
  obtain ⟨kA, comp, k1, k2, k3, -⟩ := g.2.2.1 77 (by decide) (by decide)
  obtain ⟨kI, compI, j1, j2, j3, -⟩ := g.2.2.1 70 (by decide) (by decide)
  have h := g.1 _ hov
  have e1 : "[" ++ (aY 70).toString = (FieldType.array .int).toString := by decide +kernel
  have e2 : "[" ++ (aY 77).toString = "[" ++ (FieldType.array .int).toString := by decide +kernel
  rw [e1] at j1
  rw [e2] at k1
  simp only [Cond.before, Cond.holds, Cond.value, beq_iff_eq, j1, Option.bind_some, Option.bind_eq_some_iff, Option.map_eq_some_iff] at h
  obtain ⟨c, hi, k, hk, hb⟩ := h
  obtain ⟨hlt, hp, -⟩ := Array.findIdx?_eq_some_iff_getElem.mp hi
  have hkk : (gs G).vm.classes[c] = k := (Array.getElem?_eq_some_iff.mp hk).2
  rw [hkk] at hp
  cases hkind : k.kind with
  | array component ty =>
    rw [hkind] at hb hp
    simp at hb hp
    have ec : c = gA G 77 := Option.some.inj (hb.2.symm.trans k1)
    subst ec
    exact ⟨k, hk, by rw [hkind, hp, hb.1]⟩
  | _ => rw [hkind] at hb; simp at hb
theorem ms_ok {G : Gx} (g : Gok G) {p : Program} {e : Env} {R : Room} {s : State} {mm : MethodId} {args : Array Value} {below : List Frame} {meth : Method} {c : Code} {T : State} {locs : List Loc} {h h0 : Hp} {n m : Nat} (hH : HR G h T.heap) (r1 : hn h + (1 + n) ≤ MC) (r2 : hq h + (n + n * m) ≤ MS)
    (X : Stand p (gl G) e R s mm args below meth c T locs (hn h - hn h0) (hq h - hq h0)) (hl : ∀ q ∈ locs, gB G ≤ q.base) (hn0 : hn h0 ≤ hn h) (hq0 : hq h0 ≤ hq h) : ∀ i, i ≤ n → ∃ lc, Stand p (gl G) e R s mm args below meth c (ms T (gA G 77) (gA G 70) n m i) lc (hn (fm h n m i) - hn h0) (hq (fm h n m i) - hq h0) ∧ HR G (fm h n m i) (ms T (gA G 77) (gA G 70) n m i).heap ∧ (ms T (gA G 77) (gA G 70) n m i).vm = T.vm ∧ ∀ q ∈ lc, gB G ≤ q.base
  | 0, _ => by
    have X1 := X.pushed { cls := gA G 77, slots := Array.replicate n .null, vm := .none }
    have e1 : hn h - hn h0 + 1 = hn (fm h n m 0) - hn h0 := by rw [hn_fm]; omega
    have e2 : hq h - hq h0 + (Array.replicate n Value.null).size = hq (fm h n m 0) - hq h0 := by rw [hq_fm, Array.size_replicate]; omega
    rw [e1, e2] at X1
    exact ⟨locs, X1, hp_row g hH (t := 77) ⟨by decide, by decide⟩ (Or.inr (Or.inl rfl)) (by omega) (by omega), rfl, hl⟩
  | i + 1, hi => by
    obtain ⟨lc, Xi, Hi, vi, li⟩ := ms_ok g hH r1 r2 X hl hn0 hq0 i (by omega)
    have hk := hH.1
    have hmul : i * m + m ≤ n * m := by
      have := Nat.mul_le_mul_right m (show i + 1 ≤ n from hi)
      rw [Nat.succ_mul] at this
      exact this
    have hnf := hn_fm h n m i
    have hqf := hq_fm h n m i
    have Hp := hp_row g Hi (t := 70) (n := m) ⟨by decide, by decide⟩ (Or.inl rfl) (by rw [hnf]; omega) (by rw [hqf]; omega)
    have oP : ob (nw (fm h n m i) 70 m m) (hn h) 77 := ob_nw rfl (ob_fm h n m i hk)
    obtain ⟨cell, q0, q1, q2, q3, q4, q5, q6⟩ := arr_at Hp oP (by decide) (by decide) (State.WarmedH.refl (gs G))
    have er : rho G (hn h) = T.heap.size := rho_next hH
    have hsz : T.heap.size < (ms T (gA G 77) (gA G 70) n m i).heap.size := by
      have a1 := Hi.2.2.2.1
      have a2 := hH.2.2.2.1
      rw [hnf] at a1
      omega
    have hcell : (ms T (gA G 77) (gA G 70) n m i).heap[T.heap.size]? = some cell := by
      rw [er, Array.getElem?_push_lt hsz] at q1
      rw [Array.getElem?_eq_getElem hsz]
      exact q1
    have X1 := Xi.pushed { cls := gA G 70, slots := Array.replicate m (.int 0), vm := .none }
    have hcell1 : ((ms T (gA G 77) (gA G 70) n m i).pushCell { cls := gA G 70, slots := Array.replicate m (.int 0), vm := .none }).heap[T.heap.size]? = some cell := by
      rw [er] at q1
      exact q1
    have X2 := X1.stored hcell1 i (.ref (ms T (gA G 77) (gA G 70) n m i).heap.size)
    have e1 : hn (fm h n m i) - hn h0 + 1 = hn (fm h n m (i + 1)) - hn h0 := by rw [hn_fm, hn_fm]; omega
    have e2 : hq (fm h n m i) - hq h0 + (Array.replicate m (Value.int 0)).size = hq (fm h n m (i + 1)) - hq h0 := by rw [hq_fm, hq_fm, Array.size_replicate, Nat.succ_mul]; omega
    rw [e1, e2] at X2
    have ems : ms T (gA G 77) (gA G 70) n m (i + 1) = ((ms T (gA G 77) (gA G 70) n m i).pushCell { cls := gA G 70, slots := Array.replicate m (.int 0), vm := .none }).setCell T.heap.size (cell.setSlot i (.ref (ms T (gA G 77) (gA G 70) n m i).heap.size)) := by
      conv => lhs; unfold ms
      rw [hcell]
    rw [ems]
    refine ⟨_, X2, ?_, vi, fun q hq => ?_⟩
    · have hNo : hN (nw (fm h n m i) 70 m m) (hn h) = n := by
        rw [hN_nw, if_neg (by rw [hnf]; omega)]
        exact hN_fm0 h n m i
      have hlt : T.heap.size < ((ms T (gA G 77) (gA G 70) n m i).pushCell { cls := gA G 70, slots := Array.replicate m (.int 0), vm := .none }).heap.size := by
        show _ < (Array.push _ _).size
        rw [Array.size_push]
        omega
      refine hp_aset (h' := fm h n m (i + 1)) Hp oP (by decide) (by decide) hk (i := i) (by rw [hNo]; omega) q0 q2 q3 (q4.2.2 hk) q5 (q6 hk) rfl rfl (fun _ => rfl) (fun _ => rfl) (fun b ty j hb => fv_sR (fun z => hb z.1)) (fun ty j hj => fv_sR (fun z => hj z.2)) ?_ Hp.2.2.2.2.2.2.2.1 Hp.2.2.2.2.2.2.2.2.1 (fun _ z => KF_sR z (by rw [oP.2.2]; omega)) (by rw [er]; exact heapAt_setCell_self _ hlt) (by simp [State.setCell]) (fun q hq => ?_)
      · rw [fv_A rfl, show hR (fm h n m (i + 1)) (hn h) i = hn h + 1 + i from by show hR (sR _ _ _ _) _ _ = _; rw [hR_sR, if_pos ⟨rfl, rfl⟩], ← hnf, show tv G (vR (hn (fm h n m i))) = tr G (hn (fm h n m i)) from rfl, tr_rho Hi.1, rho_next Hi]
      · rw [er] at hq
        simp [State.setCell, Array.getElem?_setIfInBounds, Ne.symm hq]
        rfl
    · rcases List.mem_append.mp hq with z | z
      · exact li q z
      · rw [List.mem_singleton.mp z, ← er]
        exact rho_ge hk
section MU
variable {E : CtlPost} {e : Env} {d : Bool} {acts : List Action} {s : State}
/-- one inner row -/
theorem wp_mk1 {cI cc : ClassId} {kI : Class} {m : Int32} (hkI : s.vm.classes[cI]? = some kI) (hkind : kI.kind = .array cc .int) (hm : ¬ m < 0) (hl : ¬ m.toNatClampNeg > e.platform.arrayLengthLimit) (hh : ¬ m.toNatClampNeg * componentBytes .int > e.platform.maxHeapBytes)
    (h1 : s.heap.size < e.platform.maxCells) (h2 : s.slotsUsed + m.toNatClampNeg ≤ e.platform.maxSlots) {Q : Addr → Pre} (hq : ∀ acts', Q s.heap.size d acts' (s.pushCell { cls := cI, slots := Array.replicate m.toNatClampNeg (.int 0), vm := .none })) : wp (multianewarray.make cI [m]) Q E e d acts s := by
  rw [multianewarray.make]
  simp only [wp_bind', W.ite, hm, if_false, wp_pure', W.theClass, hkI, hkind, Option.some.injEq, exists_eq_left']
  exact W.newArray_of hkI hkind hl hh h1 h2 rfl hq
end MU
/-- all of it: the states on the way are those of 'ms' -/
theorem wp_mk2 {G : Gx} (g : Gok G) {p : Program} {e : Env} {R : Room} {s : State} {mm : MethodId} {args : Array Value} {below : List Frame} {meth : Method} {c : Code} {T : State} {locs : List Loc} {h h0 : Hp} {n m : Nat} (hH : HR G h T.heap) (n1 : n ≤ 1000) (m1 : m ≤ 1000) (r1 : hn h + (1 + n) ≤ MC) (r2 : hq h + (n + n * m) ≤ MS)
    (X : Stand p (gl G) e R s mm args below meth c T locs (hn h - hn h0) (hq h - hq h0)) (hl : ∀ q ∈ locs, gB G ≤ q.base) (hn0 : hn h0 ≤ hn h) (hq0 : hq h0 ≤ hq h) (hrc : R.cells + hn h0 = MC) (hrs : R.slots + hq h0 = MS)
    {kA kI : Class} {cc : ClassId} (hkA : T.vm.classes[gA G 77]? = some kA) (hkindA : kA.kind = .array (gA G 70) (.array .int)) (hkI : T.vm.classes[gA G 70]? = some kI) (hkindI : kI.kind = .array cc .int) {E : CtlPost} {d : Bool} {acts : List Action} {f : JFrame} {Q : Addr → Pre}
    (hQ : ∀ d' acts', Q T.heap.size d' acts' ((ms T (gA G 77) (gA G 70) n m n).setTop f)) : wp (multianewarray.make (gA G 77) [Int32.ofInt n, Int32.ofInt m]) Q E e d acts (T.setTop f) := by
  have nn : nm (n : Int) := ⟨by omega, by omega⟩
  have nM : nm (m : Int) := ⟨by omega, by omega⟩
  have en : (Int32.ofInt (n : Int)).toNatClampNeg = n := by rw [ix nn]; simp
  have em : (Int32.ofInt (m : Int)).toNatClampNeg = m := by rw [ix nM]; simp
  have hneg : ¬ Int32.ofInt (n : Int) < 0 := nnI nn (by omega)
  have hnegM : ¬ Int32.ofInt (m : Int) < 0 := nnI nM (by omega)
  have hlim : e.platform.arrayLengthLimit = _ := Launch.admits_arrayLengthLimit X.admits
  have hby : e.platform.maxHeapBytes = _ := Launch.admits_maxHeapBytes X.admits
  have room : ∀ i, i ≤ n → ∀ (U : State) (lc : List Loc), Stand p (gl G) e R s mm args below meth c U lc (hn (fm h n m i) - hn h0) (hq (fm h n m i) - hq h0) → i < n → U.heap.size + 1 ≤ e.platform.maxCells ∧ U.slotsUsed + m ≤ e.platform.maxSlots := by
    intro i hi U lc XU hlt
    refine XU.roomAbove ?_ ?_
    · rw [hn_fm]; omega
    · have hmul : i * m + m ≤ n * m := by
        have := Nat.mul_le_mul_right m (show i + 1 ≤ n from hlt)
        rw [Nat.succ_mul] at this
        exact this
      rw [hq_fm]
      omega
  obtain ⟨ra, rb⟩ := X.roomAbove (a := 1) (b := n) (by omega) (by omega)
  have hfind : ([Int32.ofInt (m : Int)].find? (· < 0)) = none := by simp [hnegM]
  rw [multianewarray.make]
  simp only [wp_bind', W.ite, hneg, if_false, wp_pure', W.theClass, show (T.setTop f).vm = T.vm from rfl, hkA, hkindA, Option.some.injEq, exists_eq_left']
  refine W.newArray_of (s := T.setTop f) hkA hkindA (by rw [hlim, en]; omega) (by rw [hby, en]; show ¬ n * 4 > 536870912; omega) (by rw [State.heap_setTop]; omega) (by rw [en]; exact rb) rfl (fun acts' => ?_)
  simp only [hfind]
  rw [ite_self, wp_bind', Std.Legacy.Range.forIn_eq_forIn_range']
  have hsz : ([:(Int32.ofInt (n : Int)).toNatClampNeg] : Std.Legacy.Range).size = n := by simp [Std.Legacy.Range.size, en]
  rw [hsz]
  show wp (forIn (List.range' 0 n 1) PUnit.unit _) _ E e d acts' _
  refine wp_forIn_inv (fun rest s' => ∃ i, i ≤ n ∧ rest = List.range' i (n - i) ∧ s' = (ms T (gA G 77) (gA G 70) n m i).setTop f) _ _ ⟨0, Nat.zero_le _, rfl, ?_⟩ ?_ ?_
  · rw [en]
    rfl
  · rintro x rest s' d' acts2 Q' ⟨i, hi, hl2, rfl⟩ hnext
    have hlt : i < n := by
      rcases Nat.lt_or_ge i n with z | z
      · exact z
      · rw [show n - i = 0 from by omega] at hl2
        simp at hl2
    obtain ⟨rfl, hrest⟩ : x = i ∧ rest = List.range' (i + 1) (n - (i + 1)) := by
      rw [show n - i = (n - (i + 1)) + 1 from by omega, List.range'_succ] at hl2
      exact ⟨(List.cons.inj hl2).1, (List.cons.inj hl2).2⟩
    obtain ⟨lc, Xi, Hi, vi, li⟩ := ms_ok g hH r1 r2 X hl hn0 hq0 x (by omega)
    obtain ⟨rc, rd⟩ := room x hi _ _ Xi hlt
    have hk := hH.1
    obtain ⟨cell, q0, q1, q2, q3, q4, q5, q6⟩ := arr_at Hi (ob_fm h n m x hk) (by decide) (by decide) (State.WarmedH.refl (gs G))
    rw [rho_next hH] at q1
    simp only [wp_bind']
    refine wp_mk1 (s := (ms T (gA G 77) (gA G 70) n m x).setTop f) (by show (ms T (gA G 77) (gA G 70) n m x).vm.classes[gA G 70]? = _; rw [vi]; exact hkI) hkindI hnegM (by rw [hlim, em]; omega) (by rw [hby, em]; show ¬ m * 4 > 536870912; omega) (by rw [State.heap_setTop]; omega) (by rw [em]; exact rd) (fun acts3 => ?_)
    have hlt0 : T.heap.size < (ms T (gA G 77) (gA G 70) n m x).heap.size := (Array.getElem?_eq_some_iff.mp q1).1
    simp only [wp_bind', W.writeLoc, wp_pure']
    refine ⟨cell, ?_, q3, by rw [q4.2.2 hk, hN_fm0]; exact hlt, ?_, hnext _ _ _ ⟨x + 1, hlt, hrest, ?_⟩⟩
    · rw [State.pushCell_setTop, State.heap_setTop]
      show (Array.push _ _)[T.heap.size]? = some cell
      rw [Array.getElem?_push_lt hlt0, ← Array.getElem?_eq_getElem hlt0]
      exact q1
    · rw [(q6 hk).1, (q6 hk).2]
      simp [State.fitsSlot, State.slotType?, State.pushCell_setTop, vi, hkA, hkindA, fits]
    · conv => rhs; unfold ms
      rw [q1]
      simp only [State.pushCell_setTop, State.setCell_setTop, State.heap_setTop, em]
  · rintro s' d' acts2 ⟨i, hi, hl2, rfl⟩
    have hiN : i = n := by
      rcases Nat.lt_or_ge i n with z | z
      · rw [show n - i = (n - (i + 1)) + 1 from by omega, List.range'_succ] at hl2
        cases hl2
      · omega
    subst hiN
    simp only [wp_pure']
    exact hQ _ _
theorem wc_multi {G : Gx} {y : Mt} {d : Nat} {h0 : Hp} {post : Rs → Hp → Prop} {pc : Nat} {L : List (Option V)} {st : List V} {h : Hp} {idx n m : Nat} (hd : decode (mB y) pc = .ok (.multianewarray idx 2, 4)) (hcl : Cond.classLink (mY y).cls idx "[[I" ∈ lw_all) (hov : Cond.arrayOver (.array .int) ∈ lw_tbl) (n1 : n ≤ 1000) (m1 : m ≤ 1000) (r1 : hn h + (1 + n) ≤ MC) (r2 : hq h + (n + n * m) ≤ MS)
    (kk : Wc G y d h0 post (pc + 4) L (vR (hn h) :: st) (fm h n m n)) : Wc G y d h0 post pc L (vI m :: vI n :: st) h := by
  intro p e s mm args below meth c R H locs ls hC hH hL hs hl hn0 hq0 T hT X
  subst hT
  have hW := hC.2.1
  have g : Gok G := hC.ok
  have hrm := hC.room
  have hpl : e.platform.magicAccessors = ({} : Platform).magicAccessors := by rw [X.admits.platform]
  obtain ⟨kA, hkA, hkindA⟩ := over_int g hov
  obtain ⟨kI, cc, j1, j2, j3, -⟩ := g.2.2.1 70 (by decide) (by decide)
  obtain ⟨kA0, comp, k1, k2, k3, -⟩ := g.2.2.1 77 (by decide) (by decide)
  have hnm : "[" ++ (aY 77).toString = "[[I" := by decide +kernel
  rw [hnm] at k1
  obtain ⟨c0, hfc0, hcl'⟩ := Cond.classLink_spec (findC hC.2.2.1) (wd (A := args) g hW hcl) e.platform hpl
  have ec : c0 = gA G 77 := by
    rw [hW.alike.findClass, k1] at hfc0
    exact (Option.some.inj hfc0).symm
  subst ec
  obtain ⟨hg₁, hwarm₁, hready₁⟩ := State.classEntry (e := e) X.warmed hcl'
  have X₁ := X.noted hwarm₁
  generalize hvm : T.vm.noted mm.cls idx (.cls (gA G 77)) = vm₁ at hg₁ hwarm₁ hready₁ X₁
  have hal : (gs G).vm.Alike vm₁ := hW.alike.trans hwarm₁.alike
  obtain ⟨kA₁, hkA₁, heA⟩ := hal.2.2 _ _ hkA
  obtain ⟨kI₁, hkI₁, heI⟩ := hal.2.2 _ _ j2
  obtain ⟨lc, Xn, Hn, vn, ln⟩ := ms_ok g (T := T.setVm vm₁) hH r1 r2 X₁ hl hn0 hq0 n (Nat.le_refl _)
  have w := kk p e s mm args below meth c R _ lc ls hC Hn hL (nvs_cons trivial (nvs_tl (nvs_tl hs))) ln (by rw [hn_fm]; omega) (by rw [hq_fm]; omega)
  rw [List.map_cons, show tv G (vR (hn h)) = .ref T.heap.size from by rw [← rho_next hH]; exact tr_rho hH.1] at w
  obtain ⟨t, a1, b1⟩ := w _ rfl Xn
  refine ⟨t, ?_, b1⟩
  have hdg : decode c.code pc = .ok (.multianewarray idx 2, 4) := by rw [hC.2.2.2.1]; exact hd
  obtain ⟨gf, hgf⟩ : ∃ gf, gf = F0 mm pc ls ((vI m :: vI n :: st).map (tv G)) := ⟨_, rfl⟩
  rw [← hgf]
  have f1 : gf.method = mm := by rw [hgf]
  have f2 : gf.pc = pc := by rw [hgf]
  have f3 : gf.stack = .int (Int32.ofInt m) :: .int (Int32.ofInt n) :: st.map (tv G) := by rw [hgf]; rfl
  have f4 : ({ gf with stack := st.map (tv G) } : JFrame) = F0 mm pc ls (st.map (tv G)) := by rw [hgf]
  have hdg' : decode c.code gf.pc = .ok (.multianewarray idx 2, 4) := by rw [f2]; exact hdg
  have hhere := X.here
  rw [← f1] at hhere hg₁
  jvm_step hhere [hC.1, hdg']
  simp only [multianewarray.sem, wp_bind', W.resolveClassAt_links (State.method?_setTop gf X.here.top) hg₁]
  rw [W.popN, if_neg (by decide)]
  refine ⟨gf, State.topJava?_setTop' (s := T.setVm vm₁) gf X.here.top, [.int (Int32.ofInt n), .int (Int32.ofInt m)], st.map (tv G), rfl, f3, ?_⟩
  simp only [List.mapM_cons, List.mapM_nil, wp_bind', wp_pure']
  have eS : ((T.setTop gf).setVm vm₁).setTop { gf with stack := st.map (tv G) } = (T.setVm vm₁).setTop (F0 mm pc ls (st.map (tv G))) := by
    show ((T.setVm vm₁).setTop _).setTop _ = _
    rw [State.setTop_setTop, f4]
  rw [eS]
  refine wp_mk2 g (T := T.setVm vm₁) (f := F0 mm pc ls (st.map (tv G))) hH n1 m1 r1 r2 X₁ hl hn0 hq0 hrm.2.2.1 hrm.2.2.2 hkA₁ (by rw [heA]; exact hkindA) hkI₁ (by rw [heI]; exact j3) (fun d' acts' => ?_)
  simp only [wp_bind', W.mark, W.pushRef, State.topJava?_setTop' _ Xn.here.top, Option.some.injEq, exists_eq_left', State.setTop_setTop]
  intro acts
  simp [jvm, Xn.here.top]
  exact a1
theorem ob_fmk {h h1 : Hp} {n m i b k : Nat} (e : h1 = fm h n m i) (o : ob h b k) : ob h1 b k := by
  subst e
  induction i with
  | zero => exact ob_nw rfl o
  | succ i ih => exact ob_sR rfl (ob_nw rfl ih)
theorem ob_fma {h h1 : Hp} {a n m i : Nat} (ea : a = hn h) (e : h1 = fm h n m i) (k : 50 ≤ hn h) : ob h1 a 77 := by
  subst e
  subst ea
  exact ob_fm h n m i k
