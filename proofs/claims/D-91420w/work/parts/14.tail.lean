set_option maxRecDepth 100000
set_option maxHeartbeats 4000000
/-! THE CLAIM out of LawOk (rows of SKELETON.whole, turned to this claim) -/
def R_law : String := "FlyingDoctorsLaw"
def lw_P (b : Addr) (xs : List Int32) (args : Array Value) (s : State) : Prop := args = #[.ref b] ∧ s.IntsAt b xs ∧ xs.length ≤ 576 ∧ (Jvm.Cond.and given_1 narrow_1).before args s = true
def lw_Q (_ : Array Value) (s : State) (o : Outcome) (t : State) : Prop := o = .returned (some (.int 1)) ∧ Framed s o t [] 878497 6460613
def lw_Z (below : List Frame) (a : Array Value) (s : State) : State → Prop := fun t => ∃ o, t.status = .running ∧ Ended t below o ∧ lw_Q a s o t
theorem whole_start {p : Program} {e : Env} {s : State} {m : MethodId} {below : List Frame} {meth : Method} {c : Code} (l : Launch) {b L : Nat} {xs : Nat → Int32} (hok : LawOk L xs) (hfl : l.flags = flags0) (hx : p.tables.exec = Jvm.exec) (hb : c.code = code) (hr : meth.sig.returnType = ret) (hml : c.maxLocals = 7) (hnamed : s.methodNamed? x = some m) (hts : ∀ w ∈ lw_tbl, w.before #[Value.ref b] s = true) (hX : va_X b L xs s s.heap) (hbl : b < s.heap.size) (hlocks : meth.locks = false) (hexc : c.exceptionTable = #[]) (hname : meth.name = "law") (hgv : (Jvm.Cond.and given_1 narrow_1).before #[Value.ref b] s = true) : W p l e room_1 s m #[Value.ref b] below meth c s.heap [] 0 0 (lw_Z below #[Value.ref b] s) (entryFrame m ([Value.ref b] : List Value).toArray 7) := by
  obtain ⟨G, g1, g2, g3, g4, g5, g6⟩ := start_G hfl hts hX hbl hgv
  have gb : gB G = s.heap.size := by show (gs G).heap.size = _; rw [g1]
  have hC : Cx G tL_law p s m meth c room_1 400 (hst L xs) := by
    refine ⟨hx, ?_, hnamed, hb, hml, hr, hlocks, ?_, hname, ⟨by decide, by decide, rfl, rfl⟩, g4, fun q _ => by rw [g1], fun q cl h1 h2 => ?_⟩
    · rw [g1]
      exact State.WarmedH.refl s
    · rw [hexc]
      rfl
    · rw [gb] at h1
      exact absurd (Array.getElem?_eq_some_iff.mp h2).1 (Nat.not_lt.mpr h1)
  have w := law_ct g3 hok p e s m below meth c room_1 hC g6 (nvs_cons trivial nvs_nil)
  have hav : ([vR 1].map (tv G)).toArray = #[Value.ref b] := by
    rw [List.map_cons, List.map_nil, show tv G (vR 1) = .ref b from g5]
  rw [hav, g2] at w
  intro T hT X
  obtain ⟨t, a1, r, h', Lc, b1, b2, b3, b4, b5, b6, b7, b8, b9, b10⟩ := w T hT X
  subst b10
  refine ⟨t, a1, .returned (some (.int 1)), b1, b2, rfl, ⟨_, rfl⟩, b3, b4.weaken (fun z hz hlt => ?_) ?_ ?_⟩
  · have h0 := b5 z hz
    have h1 : z.base < s.heap.size := hlt
    rw [gb] at h0
    exact absurd h1 (Nat.not_lt.mpr h0)
  · have h1 := b6.2.1
    have h2 : hn (hst L xs) = 50 := rfl
    rw [h2]
    have h3 : MC = 878547 := rfl
    omega
  · have h1 := b6.2.2.1
    have h2 : hq (hst L xs) = 0 := rfl
    rw [h2]
    have h3 : MS = 6460613 := rfl
    omega
theorem lw_walk (hok : ∀ (L : Nat) (xs : Nat → Int32), L ≤ 576 → LawOk L xs) (l : Launch) (hfl : l.flags = flags0) (b : Addr) (xs : List Int32) : MetFree l x (headSpec (Jvm.Cond.code x code maxLocals ret :: tables_1) room_1) (lw_P b xs) (fun _ _ _ _ _ => True) lw_Q := by
  refine MetFree.of_bodyS (code := code) (maxLocals := maxLocals) (ret := ret) (by decide) ?_ ?_
  · intro args s m h hn
    obtain ⟨meth, c, h1, h2, h3, h4, h5, h6, -, -⟩ := Cond.code_spec hn (atoms_spec (ws := Jvm.Cond.code x code maxLocals ret :: tables_1) h _ List.mem_cons_self)
    exact ⟨meth, c, h1, h2, h3, h4, h5, h6⟩
  · intro p e s m args below meth c s₁ B hml0 hP _
    obtain ⟨rfl, hx, hbd, hgv⟩ := hP
    obtain ⟨scr, harrAt, hlist, hof, hsmall⟩ := hx
    obtain ⟨hcb, hkn, -, -⟩ := State.arrayAt?_spec harrAt
    have hts0 : ∀ c ∈ (Jvm.Cond.code x code maxLocals ret :: tables_1), c.before #[Value.ref b] s = true := atoms_spec (ws := Jvm.Cond.code x code maxLocals ret :: tables_1) B.pre
    have hts : ∀ w ∈ lw_tbl, w.before #[Value.ref b] s = true := k2_hts_sels lw_privs (fun w hw => hts0 w (List.mem_cons_of_mem _ hw)) lw_privs_ok
    have hml : c.maxLocals = 7 := B.maxLocals_eq (hts0 _ List.mem_cons_self)
    have X₀ : Stand p l e room_1 s m #[Value.ref b] below meth c s₁ [] 0 0 := Stand.of_body B
    have hh0 : s₁.heap = s.heap := by rw [B.state]; rfl
    have hsz : scr.slots.size = xs.length := by rw [← Array.length_toList, hlist, List.length_map]
    have hval : ∀ j : Nat, j < xs.length → scr.slots[j]? = some (.int (xs.getD j 0)) := fun j hj => by
      rw [← Array.getElem?_toList, hlist]
      simp [hj]
    have hbl : b < s.heap.size := (Array.getElem?_eq_some_iff.mp hcb).1
    have hX : va_X b xs.length (fun j => xs.getD j 0) s s.heap := ⟨scr, hcb, hof, hkn, hsz, hval⟩
    obtain ⟨meth', c', q1, q2, q3, q4, q5, q6, q7, q8⟩ := Cond.code_spec B.named (hts0 _ List.mem_cons_self)
    have em : meth' = meth := Option.some.inj (q1.symm.trans X₀.method)
    subst em
    have ec : c' = c := Option.some.inj (q2.symm.trans X₀.code)
    subst ec
    have K : W p l e room_1 s m #[Value.ref b] below meth' c' s₁.heap [] 0 0 (lw_Z below #[Value.ref b] s) (entryFrame m ([Value.ref b] : List Value).toArray 7) := by
      rw [hh0]
      exact whole_start l (hok _ _ hbd) hfl B.exec B.bytes B.returns hml B.named hts hX hbl B.notSynchronized (by simpa using q7) (name_of_methodNamed B.named q1).1 hgv
    obtain ⟨t, a1, o, b1, b2, b3⟩ := K s₁ rfl X₀
    exact ⟨t, o, a1, b1, b2, b3⟩
theorem lw_pre_spec {args : Array Value} {s : State} (h : (Jvm.Cond.and given_1 narrow_1).before args s = true) (hr : rest_1_c.before args s = true) : ∃ (b : Addr) (xs : List Int32), lw_P b xs args s := by
  have hs := flat_of_before _ h
  have hq := flat_of_before _ hr
  have hc : (Cond.count 1).before args s = true := hs _ (by decide +kernel)
  have harr : (Cond.arrayOf (.arg 0) .int).before args s = true := hs _ (by decide +kernel)
  have hle : (Cond.le (.length (.arg 0)) (.int 576)).before args s = true := hs _ (by decide +kernel)
  have hlen : (Cond.isInt (.length (.arg 0))).before args s = true := hq _ (by decide +kernel)
  have hall : (Cond.all (.arg 0) (.isInt (.elem (.arg 0) (.index 0)))).before args s = true := hq _ (by decide +kernel)
  obtain ⟨b, xs, hb, hx⟩ := State.ints_of_pre rfl harr hlen hall
  have hsm : xs.length < 2 ^ 31 := hx.choose_spec.2.2.2
  have hev : (Term.length (.arg 0)).eval args s none [] s = some (.int xs.length.toInt32) := hx.length_eval hb
  have hv := Cond.le_ints hev (show (Term.int 576).eval args s none [] s = some (.int 576) from rfl)
  have hd : xs.length.toInt32 ≤ 576 := by
    simpa [Cond.before, Cond.holds, hv] using hle
  have hN : xs.length ≤ 576 := (Int32.ofNat_le_ofNat hsm (by decide)).mp (show Int32.ofNat xs.length ≤ Int32.ofNat 576 from hd)
  exact ⟨b, xs, Cond.one_arg hc (show args[0]? = some (.ref b) from hb), hx, hN, h⟩
theorem lw_comes (hok : ∀ (L : Nat) (xs : Nat → Int32), L ≤ 576 → LawOk L xs) (l : Launch) (hfl : l.flags = flags0) : Comes l x (Jvm.Cond.code x code maxLocals ret :: tables_1) room_1 (fun tb e args s => Calls_1 tb e args s ∧ rest_1 tb e args s ∧ Pre_1 tb e args s)
    (fun _ _ args s o t => lw_Q args s o t) := by
  intro p e ha hc hk s m args below hf hfit hheap happ hpre
  obtain ⟨b, xs, hP⟩ := lw_pre_spec hpre.2.2 hpre.2.1
  obtain ⟨k, o, h1, h2, h3, hQ⟩ := lw_walk hok l hfl b xs p e ha hc hk s m args below hf ((Spec.applies_iff_loose hf).mp happ).1 hP trivial
  exact ⟨k, o, h1, h2, h3, hQ⟩
theorem lw_frame {s t : State} {o : Outcome} {args : Array Value} (h : Framed s o t [] 878497 6460613) :
    Framed s o t (fieldLocs frame_1_writes args s ++ arrayLocs frame_1_arrays args s ++ staticLocs frame_1_statics s) 878497 6460613 := h
theorem lw_limb (hok : ∀ (L : Nat) (xs : Nat → Int32), L ≤ 576 → LawOk L xs) (L : Cond) (hL : ∀ (args : Array Value) (s t : State), L.after args s (.returned (some (.int 1))) t = true) :
    ArmFor flags0 classFile x code maxLocals ret World_1 tables_1 room_1 Calls_1 rest_1 Pre_1
      (fun tb e a s o t => postC L tb e a s o t ∧ Framed s o t (fieldLocs frame_1_writes a s ++ arrayLocs frame_1_arrays a s ++ staticLocs frame_1_statics s) 878497 6460613) := by
  intro l hfl _ _ p e ha hc hk s m args below hf hfit hheap happ hpre
  obtain ⟨k, o, h1, h2, h3, rfl, hF⟩ := lw_comes hok l hfl p e ha hc hk s m args below hf hfit hheap happ hpre
  exact ⟨k, _, h1, h2, h3, hL args s _, lw_frame hF⟩
theorem i_vc_of (hok : ∀ (L : Nat) (xs : Nat → Int32), L ≤ 576 → LawOk L xs) : Claimed_1_1 ∧ Claimed_1_2 := ⟨lw_limb hok limb_1_1 (fun args s t => by simp [limb_1_1, Cond.after, Cond.holds, Cond.value]), lw_limb hok limb_1_2 (fun args s t => Cond.after_iff.mpr (by
  first | (rw [show limb_1_2 = Cond.eq .result (.int 1) from rfl, Cond.eq_ints (x := 1) (y := 1) rfl rfl]; simp; done) | (simp [limb_1_2, Cond.value, Term.eval]; done)))⟩
