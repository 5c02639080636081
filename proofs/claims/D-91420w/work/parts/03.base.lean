set_option maxRecDepth 100000
set_option maxHeartbeats 1000000
/-! OWN LAYER, 1: pure memory (whole numbers, addresses), its tie to the machine's heap, the judgements of a walk (Wc) and of a contract (Ct) -/
abbrev V : Type := Int ⊕ (Int ⊕ Nat)
abbrev vI (x : Int) : V := Sum.inl x
abbrev vL (x : Int) : V := Sum.inr (Sum.inl x)
abbrev vR (x : Nat) : V := Sum.inr (Sum.inr x)
/-- how a method ended: returned (nothing, or a value), or threw the object at an address -/
abbrev Rs : Type := Option V ⊕ Nat
abbrev rV (v : V) : Rs := Sum.inl (some v)
abbrev rN : Rs := Sum.inl none
abbrev rX (a : Nat) : Rs := Sum.inr a
def nm (x : Int) : Prop := -2147483648 ≤ x ∧ x ≤ 2147483647
def nl (x : Int) : Prop := -9223372036854775808 ≤ x ∧ x ≤ 9223372036854775807
def nv (v : V) : Prop := match v with
  | .inl x => nm x
  | .inr (.inl x) => nl x
  | .inr (.inr _) => True
def rnv (r : Rs) : Prop := match r with
  | .inl (some v) => nv v
  | _ => True
/-- pure memory: ints, longs, references by address and place; tag and length by address; the next address; slots used -/
abbrev Hp : Type := (Nat → Nat → Int) × (Nat → Nat → Int) × (Nat → Nat → Nat) × (Nat → Nat) × (Nat → Nat) × Nat × Nat
def hI (h : Hp) (a i : Nat) : Int := h.1 a i
def hL (h : Hp) (a i : Nat) : Int := h.2.1 a i
def hR (h : Hp) (a i : Nat) : Nat := h.2.2.1 a i
def hT (h : Hp) (a : Nat) : Nat := h.2.2.2.1 a
def hN (h : Hp) (a : Nat) : Nat := h.2.2.2.2.1 a
def hn (h : Hp) : Nat := h.2.2.2.2.2.1
def hq (h : Hp) : Nat := h.2.2.2.2.2.2
def sI (h : Hp) (a i : Nat) (v : Int) : Hp := (fun b j => if b = a ∧ j = i then v else h.1 b j, h.2)
def sL (h : Hp) (a i : Nat) (v : Int) : Hp := (h.1, fun b j => if b = a ∧ j = i then v else h.2.1 b j, h.2.2)
def sR (h : Hp) (a i : Nat) (v : Nat) : Hp := (h.1, h.2.1, fun b j => if b = a ∧ j = i then v else h.2.2.1 b j, h.2.2.2)
/-- a new cell at the next address: tag t, length m, q slots, all zero -/
def nw (h : Hp) (t m q : Nat) : Hp := (fun b j => if b = hn h then 0 else h.1 b j, fun b j => if b = hn h then 0 else h.2.1 b j, fun b j => if b = hn h then 0 else h.2.2.1 b j, fun b => if b = hn h then t else h.2.2.2.1 b, fun b => if b = hn h then m else h.2.2.2.2.1 b, hn h + 1, hq h + q)
theorem hI_sI (h : Hp) (a i : Nat) (v : Int) (b j : Nat) : hI (sI h a i v) b j = if b = a ∧ j = i then v else hI h b j := rfl
theorem hI_sL (h : Hp) (a i : Nat) (v : Int) (b j : Nat) : hI (sL h a i v) b j = hI h b j := rfl
theorem hI_sR (h : Hp) (a i : Nat) (v : Nat) (b j : Nat) : hI (sR h a i v) b j = hI h b j := rfl
theorem hI_nw (h : Hp) (t m q b j : Nat) : hI (nw h t m q) b j = if b = hn h then 0 else hI h b j := rfl
theorem hL_sI (h : Hp) (a i : Nat) (v : Int) (b j : Nat) : hL (sI h a i v) b j = hL h b j := rfl
theorem hL_sL (h : Hp) (a i : Nat) (v : Int) (b j : Nat) : hL (sL h a i v) b j = if b = a ∧ j = i then v else hL h b j := rfl
theorem hL_sR (h : Hp) (a i : Nat) (v : Nat) (b j : Nat) : hL (sR h a i v) b j = hL h b j := rfl
theorem hL_nw (h : Hp) (t m q b j : Nat) : hL (nw h t m q) b j = if b = hn h then 0 else hL h b j := rfl
theorem hR_sI (h : Hp) (a i : Nat) (v : Int) (b j : Nat) : hR (sI h a i v) b j = hR h b j := rfl
theorem hR_sL (h : Hp) (a i : Nat) (v : Int) (b j : Nat) : hR (sL h a i v) b j = hR h b j := rfl
theorem hR_sR (h : Hp) (a i : Nat) (v : Nat) (b j : Nat) : hR (sR h a i v) b j = if b = a ∧ j = i then v else hR h b j := rfl
theorem hR_nw (h : Hp) (t m q b j : Nat) : hR (nw h t m q) b j = if b = hn h then 0 else hR h b j := rfl
theorem hT_sI (h : Hp) (a i : Nat) (v : Int) (b : Nat) : hT (sI h a i v) b = hT h b := rfl
theorem hT_sL (h : Hp) (a i : Nat) (v : Int) (b : Nat) : hT (sL h a i v) b = hT h b := rfl
theorem hT_sR (h : Hp) (a i : Nat) (v : Nat) (b : Nat) : hT (sR h a i v) b = hT h b := rfl
theorem hT_nw (h : Hp) (t m q b : Nat) : hT (nw h t m q) b = if b = hn h then t else hT h b := rfl
theorem hN_sI (h : Hp) (a i : Nat) (v : Int) (b : Nat) : hN (sI h a i v) b = hN h b := rfl
theorem hN_sL (h : Hp) (a i : Nat) (v : Int) (b : Nat) : hN (sL h a i v) b = hN h b := rfl
theorem hN_sR (h : Hp) (a i : Nat) (v : Nat) (b : Nat) : hN (sR h a i v) b = hN h b := rfl
theorem hN_nw (h : Hp) (t m q b : Nat) : hN (nw h t m q) b = if b = hn h then m else hN h b := rfl
theorem hn_sI (h : Hp) (a i : Nat) (v : Int) : hn (sI h a i v) = hn h := rfl
theorem hn_sL (h : Hp) (a i : Nat) (v : Int) : hn (sL h a i v) = hn h := rfl
theorem hn_sR (h : Hp) (a i : Nat) (v : Nat) : hn (sR h a i v) = hn h := rfl
theorem hn_nw (h : Hp) (t m q : Nat) : hn (nw h t m q) = hn h + 1 := rfl
theorem hq_sI (h : Hp) (a i : Nat) (v : Int) : hq (sI h a i v) = hq h := rfl
theorem hq_sL (h : Hp) (a i : Nat) (v : Int) : hq (sL h a i v) = hq h := rfl
theorem hq_sR (h : Hp) (a i : Nat) (v : Nat) : hq (sR h a i v) = hq h := rfl
theorem hq_nw (h : Hp) (t m q : Nat) : hq (nw h t m q) = hq h + q := rfl
/-- addresses below are constants of the start: never written -/
abbrev K0 : Nat := 50
/-- all the cells and slots that the law may make -/
abbrev MC : Nat := 878547
abbrev MS : Nat := 6460613
/-- the object (or array) at an address is there, with this tag -/
def ob (h : Hp) (a k : Nat) : Prop := 0 < a ∧ a < hn h ∧ hT h a = k
/-- what never changes once the two objects are made: final fields, tags and lengths -/
def KF (h : Hp) : Prop := (∀ q ∈ kFld, hR h q.1 q.2.1 = q.2.2) ∧ (∀ q ∈ kArr, ob h q.1 q.2.1 ∧ hN h q.1 = q.2.2)
/-- tags of the constants: the script, the empty array of objects, texts, their bytes -/
def kTag (a : Nat) : Nat := if a = 1 then 70 else if a = 2 then 74 else if a < 10 then 0 else if a < 27 then 43 else if a < 44 then 71 else 0
/-- statics that hold references, by the constants' addresses -/
def kSta : List (Nat × String × String × String) := [(2, "java/util/ArrayList", "DEFAULTCAPACITY_EMPTY_ELEMENTDATA", "[Ljava/lang/Object;"), (3, "java/lang/Throwable", "UNASSIGNED_STACK", "[Ljava/lang/StackTraceElement;"), (4, "java/lang/Throwable", "SUPPRESSED_SENTINEL", "Ljava/util/List;"), (5, "jdk/internal/util/Preconditions", "SIOOBE_FORMATTER", "Ljava/util/function/BiFunction;")]
/-- statics that hold numbers -/
def kSti : List (String × String × String × Int) := [("java/lang/String", "COMPACT_STRINGS", "Z", 1)]
/-- text constants: address, class, entry, text -/
def kStr : List (Nat × String × Nat × String) := [(10, "java/util/Arrays", 337, " > "), (11, "FlyingDoctors$Reader", 67, ";()+-*/<="), (12, "FlyingDoctors$Reader", 243, "word"), (13, "FlyingDoctors$Reader", 245, "first"), (14, "FlyingDoctors$Reader", 247, "fly"), (15, "FlyingDoctors$Reader", 249, "chest"), (16, "FlyingDoctors$Reader", 251, "set"), (17, "FlyingDoctors$Reader", 206, " word first fly chest doctor nurse any if set and or not "), (18, "FlyingDoctors$Reader", 164, " rest duty reserve ground fetch "), (19, "FlyingDoctors$Reader", 156, " wet strip needs lamps night miles fuel flown waits left "), (20, "FlyingDoctors$Reader", 190, "not"), (21, "FlyingDoctors$Reader", 200, "and"), (22, "FlyingDoctors$Reader", 204, "or"), (23, "FlyingDoctors$Reader", 217, "doctor"), (24, "FlyingDoctors$Reader", 219, "nurse"), (25, "FlyingDoctors$Reader", 221, "any"), (26, "FlyingDoctors$Reader", 228, "if")]
/-- classes of exceptions that aren't of others' -/
def kNot : List (String × String) := [("java/lang/IllegalArgumentException", "java/util/NoSuchElementException"), ("java/lang/IllegalStateException", "java/util/NoSuchElementException")]
/-- the global frame of a run: the law's first state, the launch, numbers of classes and places of fields, of array classes, values of constants; whether the two objects are made -/
abbrev Gx : Type := State × Launch × (Nat → ClassId) × (Nat → Nat → Nat) × (Nat → ClassId) × (Nat → Value) × Bool
abbrev gs (G : Gx) : State := G.1
abbrev gl (G : Gx) : Launch := G.2.1
abbrev gC (G : Gx) : Nat → ClassId := G.2.2.1
abbrev gI (G : Gx) : Nat → Nat → Nat := G.2.2.2.1
abbrev gA (G : Gx) : Nat → ClassId := G.2.2.2.2.1
abbrev gV (G : Gx) : Nat → Value := G.2.2.2.2.2.1
abbrev gF (G : Gx) : Bool := G.2.2.2.2.2.2
abbrev gB (G : Gx) : Nat := (gs G).heap.size
/-- a reference as the machine has it -/
def tr (G : Gx) (a : Nat) : Value := if a < K0 then gV G a else .ref (gB G + (a - K0))
/-- the machine's address -/
def rho (G : Gx) (a : Nat) : Nat := match tr G a with
  | .ref r => r
  | _ => 0
def tv (G : Gx) (v : V) : Value := match v with
  | .inl x => .int (Int32.ofInt x)
  | .inr (.inl x) => .long (Int64.ofInt x)
  | .inr (.inr r) => tr G r
/-- component types of array tags: 70 int, 71 byte, 72 boolean, 73 long, 74 Object, 75 Place, 76 Call, 77 int[] -/
def aY (t : Nat) : FieldType := match t with
  | 70 => .int
  | 71 => .byte
  | 72 => .boolean
  | 73 => .long
  | 74 => .object "java/lang/Object"
  | 75 => .object "FlyingDoctors$Place"
  | 76 => .object "FlyingDoctors$Call"
  | 77 => .array .int
  | _ => .char
/-- what a slot of a type holds -/
def fv (G : Gx) (h : Hp) (a : Nat) (ty : FieldType) (j : Nat) : Value := match ty with
  | .long => .long (Int64.ofInt (hL h a j))
  | .object _ => tr G (hR h a j)
  | .array _ => tr G (hR h a j)
  | _ => .int (Int32.ofInt (hI h a j))
def obR (G : Gx) (h : Hp) (k a : Nat) (H : Heap) : Prop := ∃ cell : Cell, tr G a = .ref (rho G a) ∧ H[rho G a]? = some cell ∧ cell.cls = gC G k ∧ cell.vm ≠ .unknown ∧ cell.vm.isStatics = false ∧ (∀ j, j < cNf k → cell.slots[gI G k j]? = some (fv G h a (cTy k j) j)) ∧ (K0 ≤ a → cell.vm = .none)
/-- the length of an array (of the start's arrays but as the machine tells it) -/
def lz (a n m : Nat) : Prop := m ≤ n ∧ n.toInt32 = Int32.ofNat m ∧ (K0 ≤ a → n = m)
theorem lz_of {a n m : Nat} (h : n = m) : lz a n m := by
  subst h
  exact ⟨Nat.le_refl _, rfl, fun _ => rfl⟩
def arR (G : Gx) (h : Hp) (t a : Nat) (H : Heap) : Prop := ∃ cell : Cell, tr G a = .ref (rho G a) ∧ H[rho G a]? = some cell ∧ (gs G).isArrayOf cell (aY t) ∧ cell.vm ≠ .unknown ∧ lz a cell.slots.size (hN h a) ∧ (∀ j, j < hN h a → cell.slots[j]? = some (fv G h a (aY t) j)) ∧ (K0 ≤ a → cell.vm = .none ∧ cell.cls = gA G t)
/-- a cell of the machine's heap is as the pure memory has it -/
def cellR (G : Gx) (h : Hp) (a : Nat) (H : Heap) : Prop := (hT h a ∈ cLs → obR G h (hT h a) a H) ∧ (70 ≤ hT h a → hT h a ≤ 77 → arR G h (hT h a) a H)
def HR (G : Gx) (h : Hp) (H : Heap) : Prop := K0 ≤ hn h ∧ hn h ≤ MC ∧ hq h ≤ MS ∧ H.size = gB G + (hn h - K0) ∧ (∀ q, q < gB G → H[q]? = (gs G).heap[q]?) ∧ (∀ a, a < K0 → hT h a ≠ 0 → rho G a < gB G) ∧ (∀ a, a < hn h → cellR G h a H) ∧ (∀ a j, nm (hI h a j)) ∧ (∀ a j, nl (hL h a j)) ∧ (gF G = true → KF h) ∧ (∀ a, a < K0 → hT h a = kTag a) ∧ (∀ q cell, gB G ≤ q → H[q]? = some cell → cell.vm.isStatics = false)
/-- the class of the arrays of a tag -/
def aK (G : Gx) (t : Nat) : Prop := ∃ (kA : Class) (comp : ClassId), (gs G).vm.findClass ("[" ++ (aY t).toString) = some (gA G t) ∧ (gs G).vm.classes[gA G t]? = some kA ∧ kA.kind = .array comp (aY t) ∧ ∀ C, aY t = .object C → (gs G).vm.findClass C = some comp
/-- what is known of the start: the tables' words, the classes, the array classes, the constants -/
def Gok (G : Gx) : Prop := (∀ w ∈ lw_tbl, w.before #[] (gs G) = true) ∧ (∀ k ∈ cLs, u_Kn (gs G) (cNm k) (cTb k) (cNf k) (gC G k) (gI G k)) ∧ (∀ t, 70 ≤ t → t ≤ 77 → aK G t) ∧ gV G 0 = .null ∧ (∀ a, a < K0 → (gV G a).isRef = true) ∧ (gl G).flags = flags0 ∧ (∀ q ∈ kSta, va_Z q.2.1 q.2.2.1 q.2.2.2 (gV G q.1) (fun z => gB G ≤ z) (gs G) (gs G).heap) ∧ (∀ q ∈ kSti, va_Z q.1 q.2.1 q.2.2.1 (.int (Int32.ofInt q.2.2.2)) (fun z => gB G ≤ z) (gs G) (gs G).heap) ∧ (∀ q ∈ kStr, ∃ r, gV G q.1 = .ref r ∧ vk_R q.2.1 q.2.2.1 q.2.2.2 r (gs G)) ∧ (∃ r, gV G 6 = .ref r ∧ va_Mi "[Ljava/lang/Object;" r (gs G)) ∧ (∀ q ∈ kNot, ∀ c t, (gs G).vm.findClass q.1 = some c → (gs G).vm.findClass q.2 = some t → (gs G).vm.assignable c t = false) ∧ ∃ (r : Nat) (cell : Cell), gV G 2 = .ref r ∧ r < gB G ∧ (gs G).heap[r]? = some cell ∧ cell.vm.isStatics = false ∧ cell.cls = gA G 74
/-- a method: its name, bytes, number of locals, answer, handlers -/
abbrev Mt : Type := MethodName × ByteArray × Nat × Option FieldType × List (Nat × Nat × Nat × Nat)
abbrev mY (y : Mt) : MethodName := y.1
abbrev mB (y : Mt) : ByteArray := y.2.1
abbrev mX (y : Mt) : Nat := y.2.2.1
abbrev mR (y : Mt) : Option FieldType := y.2.2.2.1
abbrev mH (y : Mt) : List (Nat × Nat × Nat × Nat) := y.2.2.2.2
def RmOk (R : Room) (d : Nat) (h0 : Hp) : Prop := d ≤ R.frames ∧ 100 * d ≤ R.locals ∧ R.cells + hn h0 = MC ∧ R.slots + hq h0 = MS
def Hnd (x : ExceptionTableEntry) : Nat × Nat × Nat × Nat := (x.startPc, x.endPc, x.handlerPc, x.catchType)
/-- the surroundings of a walk of the method y -/
def Cx (G : Gx) (y : Mt) (p : Program) (s : State) (m : MethodId) (meth : Method) (c : Code) (R : Room) (d : Nat) (h0 : Hp) : Prop :=
  p.tables.exec = Jvm.exec ∧ (gs G).WarmedH s.vm ∧ s.methodNamed? (mY y) = some m ∧ c.code = mB y ∧ c.maxLocals = mX y ∧ meth.sig.returnType = mR y ∧ meth.locks = false ∧ c.exceptionTable.toList.map Hnd = mH y ∧ meth.name = (mY y).name ∧ RmOk R d h0 ∧ Gok G ∧ (∀ q, q < gB G → s.heap[q]? = (gs G).heap[q]?) ∧ (∀ q cell, gB G ≤ q → s.heap[q]? = some cell → cell.vm.isStatics = false)
def oc (G : Gx) (r : Rs) : Outcome := match r with
  | .inl v => .returned (v.map (tv G))
  | .inr a => .threw (rho G a)
/-- the end of a walk -/
def MQx (G : Gx) (h0 : Hp) (s : State) (below : List Frame) (post : Rs → Hp → Prop) : State → Prop := fun t =>
  ∃ (r : Rs) (h : Hp) (L : List Loc), t.status = .running ∧ Ended t below (oc G r) ∧ s.WarmedH t.vm ∧ s.sameButNew ({ t with vm := s.vm } : State) L (hn h - hn h0) (hq h - hq h0) ∧ (∀ q ∈ L, gB G ≤ q.base) ∧ HR G h t.heap ∧ hn h0 ≤ hn h ∧ hq h0 ≤ hq h ∧ rnv r ∧ post r h
def Lr (G : Gx) (ls : Array Slot) (n : Nat) (L : List (Option V)) : Prop := ls.size = n ∧ L.length = n ∧ lv_wf ls ∧ ∀ (i : Nat) (v : V), L[i]? = some (some v) → ls[i]? = some (.val (tv G v)) ∧ nv v
def nvs (st : List V) : Prop := ∀ v ∈ st, nv v
/-- THE WALK of the method y (d frames of room; h0: the memory at its entry), now at pc with these locals, this stack, this memory: it comes to an end of which post holds -/
def Wc (G : Gx) (y : Mt) (d : Nat) (h0 : Hp) (post : Rs → Hp → Prop) (pc : Nat) (L : List (Option V)) (st : List V) (h : Hp) : Prop :=
  ∀ (p : Program) (e : Env) (s : State) (m : MethodId) (args : Array Value) (below : List Frame) (meth : Method) (c : Code) (R : Room) (H : Heap) (locs : List Loc) (ls : Array Slot),
    Cx G y p s m meth c R d h0 → HR G h H → Lr G ls (mX y) L → nvs st → (∀ q ∈ locs, gB G ≤ q.base) → hn h0 ≤ hn h → hq h0 ≤ hq h →
    W p (gl G) e R s m args below meth c H locs (hn h - hn h0) (hq h - hq h0) (MQx G h0 s below post) (F0 m pc ls (st.map (tv G)))
/-- THE CONTRACT: the method y called with these values in this memory comes to an end of which post holds -/
def Ct (G : Gx) (y : Mt) (d : Nat) (av : List V) (h : Hp) (post : Rs → Hp → Prop) : Prop :=
  ∀ (p : Program) (e : Env) (s : State) (m : MethodId) (below : List Frame) (meth : Method) (c : Code) (R : Room),
    Cx G y p s m meth c R d h → HR G h s.heap → nvs av → W p (gl G) e R s m (av.map (tv G)).toArray below meth c s.heap [] 0 0 (MQx G h s below post) (entryFrame m (av.map (tv G)).toArray (mX y))
theorem MQx.mono {G : Gx} {h0 : Hp} {s : State} {below : List Frame} {post post' : Rs → Hp → Prop} (hp : ∀ r h, post r h → post' r h) {t : State} (h : MQx G h0 s below post t) : MQx G h0 s below post' t := by
  obtain ⟨r, h, L, a1, a2, a3, a4, a5, a6, a7, a8, a9, a10⟩ := h
  exact ⟨r, h, L, a1, a2, a3, a4, a5, a6, a7, a8, a9, hp _ _ a10⟩
theorem Wc.mono {G : Gx} {y : Mt} {d : Nat} {h0 : Hp} {post post' : Rs → Hp → Prop} {pc : Nat} {L : List (Option V)} {st : List V} {h : Hp} (w : Wc G y d h0 post pc L st h) (hp : ∀ r h, post r h → post' r h) : Wc G y d h0 post' pc L st h := by
  intro p e s m args below meth c R H locs ls hC hH hL hs hl hn hq T hT X
  obtain ⟨t, a, b⟩ := w p e s m args below meth c R H locs ls hC hH hL hs hl hn hq T hT X
  exact ⟨t, a, b.mono hp⟩
theorem Ct.mono {G : Gx} {y : Mt} {d : Nat} {av : List V} {h : Hp} {post post' : Rs → Hp → Prop} (w : Ct G y d av h post) (hp : ∀ r h, post r h → post' r h) : Ct G y d av h post' := by
  intro p e s m below meth c R hC hH hs T hT X
  obtain ⟨t, a, b⟩ := w p e s m below meth c R hC hH hs T hT X
  exact ⟨t, a, b.mono hp⟩
theorem RmOk.mono {R : Room} {d d' : Nat} {h0 : Hp} (hd : d ≤ d') (h : RmOk R d' h0) : RmOk R d h0 := ⟨by have := h.1; omega, by have := h.2.1; omega, h.2.2.1, h.2.2.2⟩
theorem Ct.deep {G : Gx} {y : Mt} {d d' : Nat} {av : List V} {h : Hp} {post : Rs → Hp → Prop} (w : Ct G y d av h post) (hd : d ≤ d') : Ct G y d' av h post := by
  intro p e s m below meth c R hC hH
  obtain ⟨c1, c2, c3, c4, c5, c6, c7, c8, c9, c10, c11⟩ := hC
  exact w p e s m below meth c R ⟨c1, c2, c3, c4, c5, c6, c7, c8, c9, c10.mono hd, c11⟩ hH
theorem Wc.deep {G : Gx} {y : Mt} {d d' : Nat} {h0 : Hp} {post : Rs → Hp → Prop} {pc : Nat} {L : List (Option V)} {st : List V} {h : Hp} (w : Wc G y d h0 post pc L st h) (hd : d ≤ d') : Wc G y d' h0 post pc L st h := by
  intro p e s m args below meth c R H locs ls hC
  obtain ⟨c1, c2, c3, c4, c5, c6, c7, c8, c9, c10, c11⟩ := hC
  exact w p e s m args below meth c R H locs ls ⟨c1, c2, c3, c4, c5, c6, c7, c8, c9, c10.mono hd, c11⟩
/-- the locals at the entry -/
def enL : Nat → List V → List (Option V)
  | n, [] => List.replicate n none
  | n, .inr (.inl x) :: vs => some (vL x) :: none :: enL (n - 2) vs
  | n, v :: vs => some v :: enL (n - 1) vs
theorem gV_ref {G : Gx} (g : Gok G) (a : Nat) : (tr G a).isRef = true := by
  unfold tr
  split
  · exact g.2.2.2.2.1 a (by assumption)
  · rfl
theorem tr_cases {G : Gx} (g : Gok G) (a : Nat) : tr G a = .null ∨ ∃ r, tr G a = .ref r := by
  have h := gV_ref g a
  cases hv : tr G a <;> rw [hv] at h <;> first | exact Or.inl rfl | exact Or.inr ⟨_, rfl⟩ | cases h
theorem tr_0 {G : Gx} (g : Gok G) : tr G 0 = .null := by
  unfold tr
  rw [if_pos (by decide)]
  exact g.2.2.2.1
theorem tv_cat {G : Gx} (g : Gok G) (v : V) : (tv G v).category = 2 ↔ ∃ x, v = vL x := by
  rcases v with x | x | x
  · simp [tv, Value.category]
  · simp [tv, Value.category]
  · rcases tr_cases g x with h | ⟨r, h⟩ <;> simp [tv, h, Value.category]
def clr (L : List (Option V)) (i : Nat) : List (Option V) := match i with
  | 0 => L
  | i + 1 => match L[i]? with
    | some (some (.inr (.inl _))) => L.set i none
    | _ => L
def st1 (L : List (Option V)) (i : Nat) (v : V) : List (Option V) := (clr L i).set i (some v)
def st2 (L : List (Option V)) (i : Nat) (v : V) : List (Option V) := ((clr L i).set i (some v)).set (i + 1) none
theorem clr_len (L : List (Option V)) (i : Nat) : (clr L i).length = L.length := by
  unfold clr
  split
  · rfl
  · split <;> simp
theorem clr_at {L : List (Option V)} {i j : Nat} {w : V} (h : (clr L i)[j]? = some (some w)) : L[j]? = some (some w) ∧ ¬ (j + 1 = i ∧ ∃ x, w = vL x) := by
  unfold clr at h
  split at h
  · exact ⟨h, fun q => by have := q.1; omega⟩
  · rename_i i'
    split at h
    · rename_i x hx
      by_cases hj : j = i'
      · subst hj
        rw [List.getElem?_set_self' ] at h
        rw [hx] at h
        simp at h
      · rw [List.getElem?_set_ne (fun q => hj q.symm)] at h
        exact ⟨h, fun q => hj (by have := q.1; omega)⟩
    · rename_i hx
      refine ⟨h, fun q => ?_⟩
      obtain ⟨q1, x, q2⟩ := q
      have : j = i' := by omega
      subst this
      subst q2
      exact hx x h
theorem nvs_hd {v : V} {st : List V} (h : nvs (v :: st)) : nv v := h v List.mem_cons_self
theorem nvs_tl {v : V} {st : List V} (h : nvs (v :: st)) : nvs st := fun w hw => h w (List.mem_cons_of_mem _ hw)
theorem nvs_cons {v : V} {st : List V} (h : nv v) (hs : nvs st) : nvs (v :: st) := fun w hw => by
  rcases List.mem_cons.mp hw with rfl | hw
  · exact h
  · exact hs w hw
theorem nvs_nil : nvs [] := fun w hw => by cases hw
/-- numbers: the machine's and whole ones -/
theorem toI {x : Int} (h : nm x) : (Int32.ofInt x).toInt = x := Int32.toInt_ofInt_of_le (by have := h.1; simpa using this) (by have := h.2; simp; omega)
theorem toL {x : Int} (h : nl x) : (Int64.ofInt x).toInt = x := Int64.toInt_ofInt_of_le (by have := h.1; simpa using this) (by have := h.2; simp; omega)
theorem ofI (x : Int32) : Int32.ofInt x.toInt = x := Int32.ofInt_toInt x
theorem ofL (x : Int64) : Int64.ofInt x.toInt = x := Int64.ofInt_toInt x
theorem nm_toInt (x : Int32) : nm x.toInt := ⟨by have := Int32.le_toInt x; simpa using this, by have := Int32.toInt_lt x; simp at this; omega⟩
theorem nl_toInt (x : Int64) : nl x.toInt := ⟨by have := Int64.le_toInt x; simpa using this, by have := Int64.toInt_lt x; simp at this; omega⟩
theorem I_lt {x y : Int} (hx : nm x) (hy : nm y) : Int32.ofInt x < Int32.ofInt y ↔ x < y := by rw [Int32.lt_iff_toInt_lt, toI hx, toI hy]
theorem I_le {x y : Int} (hx : nm x) (hy : nm y) : Int32.ofInt x ≤ Int32.ofInt y ↔ x ≤ y := by rw [Int32.le_iff_toInt_le, toI hx, toI hy]
theorem I_eq {x y : Int} (hx : nm x) (hy : nm y) : Int32.ofInt x = Int32.ofInt y ↔ x = y := by rw [← Int32.toInt_inj, toI hx, toI hy]
theorem nm_0 : nm 0 := ⟨by decide, by decide⟩
theorem nm_1 : nm 1 := ⟨by decide, by decide⟩
theorem nm_m1 : nm (-1) := ⟨by decide, by decide⟩
/-- wrapped numbers and bits -/
def wr (x : Int) : Int := (Int32.ofInt x).toInt
def wl (x : Int) : Int := (Int64.ofInt x).toInt
def iand (a b : Int) : Int := (Int32.ofInt a &&& Int32.ofInt b).toInt
def ior (a b : Int) : Int := (Int32.ofInt a ||| Int32.ofInt b).toInt
def ixor (a b : Int) : Int := (Int32.ofInt a ^^^ Int32.ofInt b).toInt
def ishl (a b : Int) : Int := (Int32.ofInt a <<< (Int32.ofInt b &&& 31)).toInt
def ishr (a b : Int) : Int := (Int32.ofInt a >>> (Int32.ofInt b &&& 31)).toInt
def lor (a b : Int) : Int := (Int64.ofInt a ||| Int64.ofInt b).toInt
def lshl (a b : Int) : Int := (Int64.ofInt a <<< ((Int32.ofInt b).toInt64 &&& 63)).toInt
def i2b (a : Int) : Int := (Int32.ofInt a).toInt8.toInt32.toInt
def i2c (a : Int) : Int := ((Int32.ofInt a).toUInt32 % 65536).toInt32.toInt
def l2i (a : Int) : Int := (Int64.ofInt a).toInt32.toInt
def b2i (c : Prop) [Decidable c] : Int := if c then 1 else 0
theorem wr_id {x : Int} (h : nm x) : wr x = x := toI h
theorem wl_id {x : Int} (h : nl x) : wl x = x := toL h
theorem nm_wr (x : Int) : nm (wr x) := nm_toInt _
theorem nl_wl (x : Int) : nl (wl x) := nl_toInt _
