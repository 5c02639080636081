set_option maxRecDepth 100000
set_option maxHeartbeats 1000000
/-! OWN LAYER, 10: System.arraycopy, getClass, instanceof, calls of a class above -/
/-- ints (or references) are copied from one array to another -/
def cpI (h : Hp) (a dp b sp n : Nat) : Hp := (fun c j => if c = a ∧ dp ≤ j ∧ j < dp + n then h.1 b (sp + (j - dp)) else h.1 c j, h.2)
def cpR (h : Hp) (a dp b sp n : Nat) : Hp := (h.1, h.2.1, fun c j => if c = a ∧ dp ≤ j ∧ j < dp + n then h.2.2.1 b (sp + (j - dp)) else h.2.2.1 c j, h.2.2.2)
theorem hI_cpI (h : Hp) (a dp b sp n c j : Nat) : hI (cpI h a dp b sp n) c j = if c = a ∧ dp ≤ j ∧ j < dp + n then hI h b (sp + (j - dp)) else hI h c j := rfl
theorem hI_cpR (h : Hp) (a dp b sp n c j : Nat) : hI (cpR h a dp b sp n) c j = hI h c j := rfl
theorem hL_cpI (h : Hp) (a dp b sp n c j : Nat) : hL (cpI h a dp b sp n) c j = hL h c j := rfl
theorem hL_cpR (h : Hp) (a dp b sp n c j : Nat) : hL (cpR h a dp b sp n) c j = hL h c j := rfl
theorem hR_cpI (h : Hp) (a dp b sp n c j : Nat) : hR (cpI h a dp b sp n) c j = hR h c j := rfl
theorem hR_cpR (h : Hp) (a dp b sp n c j : Nat) : hR (cpR h a dp b sp n) c j = if c = a ∧ dp ≤ j ∧ j < dp + n then hR h b (sp + (j - dp)) else hR h c j := rfl
theorem hT_cpI (h : Hp) (a dp b sp n c : Nat) : hT (cpI h a dp b sp n) c = hT h c := rfl
theorem hT_cpR (h : Hp) (a dp b sp n c : Nat) : hT (cpR h a dp b sp n) c = hT h c := rfl
theorem hN_cpI (h : Hp) (a dp b sp n c : Nat) : hN (cpI h a dp b sp n) c = hN h c := rfl
theorem hN_cpR (h : Hp) (a dp b sp n c : Nat) : hN (cpR h a dp b sp n) c = hN h c := rfl
theorem hn_cpI (h : Hp) (a dp b sp n : Nat) : hn (cpI h a dp b sp n) = hn h := rfl
theorem hn_cpR (h : Hp) (a dp b sp n : Nat) : hn (cpR h a dp b sp n) = hn h := rfl
theorem hq_cpI (h : Hp) (a dp b sp n : Nat) : hq (cpI h a dp b sp n) = hq h := rfl
theorem hq_cpR (h : Hp) (a dp b sp n : Nat) : hq (cpR h a dp b sp n) = hq h := rfl
theorem ob_cpI {h h1 : Hp} {a dp b sp n c k : Nat} (e : h1 = cpI h a dp b sp n) (o : ob h c k) : ob h1 c k := by subst e; exact o
theorem ob_cpR {h h1 : Hp} {a dp b sp n c k : Nat} (e : h1 = cpR h a dp b sp n) (o : ob h c k) : ob h1 c k := by subst e; exact o
theorem KF_cpR {h : Hp} {a dp b sp n : Nat} (k : KF h) (ht : hT h a ≠ 1 ∧ hT h a ≠ 3 ∧ hT h a ≠ 4) : KF (cpR h a dp b sp n) := by
  refine ⟨fun q hq => ?_, k.2⟩
  obtain ⟨t, m, h1, h2⟩ := kFld_tag q hq
  have h3 : hT h q.1 = t := (k.2 _ h1).1.2.2
  rw [hR_cpR, if_neg, k.1 q hq]
  rintro ⟨z, -⟩
  rw [z] at h3
  rcases h2 with e | e | e <;> rw [e] at h3
  · exact ht.1 h3
  · exact ht.2.1 h3
  · exact ht.2.2 h3
theorem copied_at {cs cd : Cell} {sp dp n : Int32} {j : Nat} (hj : j < cd.slots.size) (h1 : sp.toNatClampNeg + n.toNatClampNeg ≤ cs.slots.size) (h2 : dp.toNatClampNeg + n.toNatClampNeg ≤ cd.slots.size) : (copied cs cd sp dp n).slots[j]? = if dp.toNatClampNeg ≤ j ∧ j < dp.toNatClampNeg + n.toNatClampNeg then cs.slots[sp.toNatClampNeg + (j - dp.toNatClampNeg)]? else cd.slots[j]? := by
  have hlen : (cs.stretch sp.toNatClampNeg n.toNatClampNeg).length = n.toNatClampNeg := by simp [Cell.stretch]
  have h := Cell.storeRun_get cd dp.toNatClampNeg (cs.stretch sp.toNatClampNeg n.toNatClampNeg) j (by rw [hlen]; omega)
  rw [hlen] at h
  show (cd.storeRun dp.toNatClampNeg (cs.stretch sp.toNatClampNeg n.toNatClampNeg)).slots[j]? = _
  rw [h]
  split
  · rename_i z
    have : j - dp.toNatClampNeg < n.toNatClampNeg := by omega
    simp only [Cell.stretch, List.getElem?_map, List.getElem?_range this, Option.map_some]
    rw [Array.getD_eq_getD_getElem?]
    have hlt : sp.toNatClampNeg + (j - dp.toNatClampNeg) < cs.slots.size := by omega
    rw [Array.getElem?_eq_getElem hlt]
    rfl
  · rfl
/-- a reference that may stand in an array of objects -/
def rOb (h : Hp) (r : Nat) : Prop := r = 0 ∨ (0 < r ∧ r < hn h ∧ hT h r ∈ cLs)
theorem nnI {z : Int} (hz : nm z) (h0 : 0 ≤ z) : ¬ Int32.ofInt z < 0 := by
  rw [show (0 : Int32) = Int32.ofInt 0 from rfl, I_lt hz nm_0]
  omega
section CP
variable {G : Gx} {y : Mt} {d : Nat} {h0 : Hp} {post : Rs → Hp → Prop} {pc : Nat} {L : List (Option V)} {st : List V} {h : Hp}
theorem wc_copy0 {idx a b t : Nat} {sp dp n : Int} {h' : Hp} (hd : decode (mB y) pc = .ok (.invokestatic idx, 3)) (hlk : Cond.methodLink (mY y).cls idx arraycopyName ∈ lw_all) (hnat : Cond.native arraycopyName ∈ lw_all) (hstat : Cond.static arraycopyName ∈ lw_all) (hini : Cond.initialized "java/lang/System" ∈ lw_all)
    (ht : 70 ≤ t ∧ t ≤ 76) (hb : ob h b t) (ha : ob h a t) (hk : K0 ≤ a) (s0 : 0 ≤ sp) (d0 : 0 ≤ dp) (n0 : 0 ≤ n) (h1 : sp + n ≤ hN h b) (h2 : dp + n ≤ hN h a) (hst : st.length ≤ 8)
    (e1 : hn h' = hn h) (e2 : hq h' = hq h) (e3 : ∀ b, hT h' b = hT h b) (e4 : ∀ b, hN h' b = hN h b) (e5 : ∀ b ty j, b ≠ a → fv G h' b ty j = fv G h b ty j)
    (e6 : ∀ j, fv G h' a (aY t) j = if dp.toNat ≤ j ∧ j < dp.toNat + n.toNat then fv G h b (aY t) (sp.toNat + (j - dp.toNat)) else fv G h a (aY t) j)
    (e8 : (∀ b j, nm (hI h b j)) → ∀ b j, nm (hI h' b j)) (e9 : (∀ b j, nl (hL h b j)) → ∀ b j, nl (hL h' b j)) (e10 : gF G = true → KF h → KF h')
    (hv : ∀ (U : State) (comp : ClassId), Gok G → HR G h U.heap → (gs G).vm.Alike U.vm → (∀ C, aY t = .object C → U.vm.findClass C = some comp) → ∀ i, i < n.toNat → fits (aY t) (fv G h b (aY t) (sp.toNat + i)) = true ∧ U.takes comp (fv G h b (aY t) (sp.toNat + i)))
    (kk : Wc G y (d + 1) h0 post (pc + 3) L st h') : Wc G y (d + 1) h0 post pc L (vI n :: vI dp :: vR a :: vI sp :: vR b :: st) h := by
  intro p e s m args below meth c R H locs ls hC hH hL hs hl hn0 hq0 T hT X
  have hW := hC.2.1
  have g : Gok G := hC.ok
  have mn : nm n := nvs_hd hs
  have md : nm dp := nvs_hd (nvs_tl hs)
  have ms : nm sp := nvs_hd (nvs_tl (nvs_tl (nvs_tl hs)))
  obtain ⟨cs, p0, p1, p2, p3, p4, p5, p6⟩ := arr_at hH hb (by omega) (by omega) hW
  obtain ⟨cd, q0, q1, q2, q3, q4, q5, q6⟩ := arr_at hH ha (by omega) (by omega) hW
  obtain ⟨kA, comp, k1, k2, k3, k4⟩ := g.2.2.1 t (by omega) (by omega)
  obtain ⟨kA', hkA', heA⟩ := hW.alike.2.2 _ _ k2
  obtain ⟨ps, ks, hks, cmS, hkk⟩ := id p2
  have hrm := hC.room
  have hcat := catsum G st
  have ixn := ix mn
  have ixd := ix md
  have ixs := ix ms
  have hcomp : ∀ (U : State), s.vm.Alike U.vm → ∀ C, aY t = .object C → U.vm.findClass C = some comp := fun U hU C hC1 => by
    rw [hU.findClass, hW.alike.findClass]
    exact k4 C hC1
  obtain ⟨vm', X', step⟩ := X.arraycopy hC.1 (findC hC.2.2.1) (wd g hW hlk) (wd g hW hnat) (wd g hW hstat) (wd g hW hini) (src := rho G b) (dst := rho G a) (cs := cs) (cd := cd) (srcPos := Int32.ofInt sp) (destPos := Int32.ofInt dp) (n := Int32.ofInt n) (by rw [hT]; exact p1) (by rw [hT]; exact q1)
    ps (fun z hz => by rw [(q6 hk).1] at hz; cases hz) p3 q3 hks (by rw [(q6 hk).2]; exact hkA') hkk (by rw [heA]; exact k3) (by simp) (nnI ms s0) (nnI md d0) (nnI mn n0)
    (by rw [toI ms, toI mn]; have := p4.1; omega) (by rw [toI md, toI mn, q4.2.2 hk]; omega)
    (fun vm₁ hal i hi => by
      rw [ixn] at hi
      have e : cs.slots.getD ((Int32.ofInt sp).toNatClampNeg + i) .null = fv G h b (aY t) (sp.toNat + i) := by
        rw [ixs, Array.getD_eq_getD_getElem?, p5 _ (by omega)]
        rfl
      rw [e]
      exact hv (T.setVm vm₁) comp g (by show HR G h T.heap; rw [hT]; exact hH) (hW.alike.trans hal) (hcomp _ hal) i hi)
    (g := F0 m pc ls ((vI n :: vI dp :: vR a :: vI sp :: vR b :: st).map (tv G))) rfl (by rw [hC.2.2.2.2.1]; exact hL.1) (rest := st.map (tv G)) (by
      show (vI n :: vI dp :: vR a :: vI sp :: vR b :: st).map (tv G) = _
      simp only [List.map_cons, show tv G (vR a) = .ref (rho G a) from q0, show tv G (vR b) = .ref (rho G b) from p0]
      rfl) (by rw [hC.2.2.2.1]; exact hd) (by have := hrm.1; omega) (by
      have := hrm.2.1
      have e9 : nativeFrameWords "java/lang/System" "arraycopy" 5 ≤ 60 := by decide +kernel
      show 2 * 0 + ((st.map (tv G)).map fun v => v.category).sum + (nativeFrameWords "java/lang/System" "arraycopy" 5 + 11) ≤ R.locals
      omega)
  have hlt : rho G a < T.heap.size := by rw [hT]; exact (Array.getElem?_eq_some_iff.mp q1).1
  have hHR : HR G h' ((T.setVm vm').setCell (rho G a) (copied cs cd (Int32.ofInt sp) (Int32.ofInt dp) (Int32.ofInt n))).heap := by
    have hcc : ((T.setVm vm').setCell (rho G a) (copied cs cd (Int32.ofInt sp) (Int32.ofInt dp) (Int32.ofInt n))).heap[rho G a]? = some (copied cs cd (Int32.ofInt sp) (Int32.ofInt dp) (Int32.ofInt n)) := heapAt_setCell_self _ hlt
    have hfac := Cell.storeRun_facts cd (Int32.ofInt dp).toNatClampNeg (cs.stretch (Int32.ofInt sp).toNatClampNeg (Int32.ofInt n).toNatClampNeg)
    have f1 : (copied cs cd (Int32.ofInt sp) (Int32.ofInt dp) (Int32.ofInt n)).cls = cd.cls := hfac.1
    have f2 : (copied cs cd (Int32.ofInt sp) (Int32.ofInt dp) (Int32.ofInt n)).vm = cd.vm := hfac.2.1
    have f3 : (copied cs cd (Int32.ofInt sp) (Int32.ofInt dp) (Int32.ofInt n)).slots.size = cd.slots.size := hfac.2.2.1
    refine hH.set hk e1 e2 e3 e4 e5 (by simp [State.setCell, State.setVm, hT]) (fun q hq => by simp [State.setCell, State.setVm, hT, Array.getElem?_setIfInBounds, Ne.symm hq]) ⟨fun z => ?_, fun _ _ => ?_⟩ (e8 hH.2.2.2.2.2.2.2.1) (e9 hH.2.2.2.2.2.2.2.2.1) e10 (fun cl hcl => ?_)
    · rw [e3, ha.2.2] at z
      exfalso
      have : ∀ k ∈ cLs, ¬ 70 ≤ k := by decide
      exact this t z (by omega)
    · rw [e3, ha.2.2]
      refine ⟨_, q0, hcc, ?_, by rw [f2]; exact q3, by rw [f3, e4]; exact q4, fun j hj => ?_, fun _ => ⟨by rw [f2]; exact (q6 hk).1, by rw [f1]; exact (q6 hk).2⟩⟩
      · have := arr_gs hW q2
        exact ⟨by rw [f2]; exact this.1, by rw [f1]; exact this.2⟩
      · rw [e4] at hj
        rw [copied_at (by rw [q4.2.2 hk]; exact hj) (by rw [ixs, ixn]; have := p4.1; omega) (by rw [ixd, ixn, q4.2.2 hk]; omega), ixs, ixd, ixn, e6]
        split
        · rw [p5 _ (by omega)]
        · rw [q5 j hj]
    · rw [hcc] at hcl
      cases hcl
      rw [f2, (q6 hk).1]
      rfl
  have hl2 : ∀ q ∈ locs ++ (cs.stretch (Int32.ofInt sp).toNatClampNeg (Int32.ofInt n).toNatClampNeg).zipIdx.map (fun q => (⟨rho G a, (Int32.ofInt dp).toNatClampNeg + q.2⟩ : Loc)), gB G ≤ q.base := by
    intro q hq
    rcases List.mem_append.mp hq with z | z
    · exact hl q z
    · obtain ⟨w, -, rfl⟩ := List.mem_map.mp z
      exact rho_ge hk
  rw [← e1, ← e2] at X'
  obtain ⟨t2, a1, b1⟩ := kk p e s m args below meth c R _ _ ls hC hHR hL (nvs_tl (nvs_tl (nvs_tl (nvs_tl (nvs_tl hs))))) hl2 (by rw [e1]; exact hn0) (by rw [e2]; exact hq0) _ rfl X'
  exact ⟨t2, step t2 a1, b1⟩
theorem wc_copyI {idx a b t : Nat} {sp dp n : Int} (hd : decode (mB y) pc = .ok (.invokestatic idx, 3)) (hlk : Cond.methodLink (mY y).cls idx arraycopyName ∈ lw_all) (hnat : Cond.native arraycopyName ∈ lw_all) (hstat : Cond.static arraycopyName ∈ lw_all) (hini : Cond.initialized "java/lang/System" ∈ lw_all)
    (ht : t = 70 ∨ t = 71) (hb : ob h b t) (ha : ob h a t) (hk : K0 ≤ a) (s0 : 0 ≤ sp) (d0 : 0 ≤ dp) (n0 : 0 ≤ n) (h1 : sp + n ≤ hN h b) (h2 : dp + n ≤ hN h a) (hst : st.length ≤ 8) (hf : ∀ i, i < n.toNat → okI (aY t) (hI h b (sp.toNat + i)))
    (kk : Wc G y (d + 1) h0 post (pc + 3) L st (cpI h a dp.toNat b sp.toNat n.toNat)) : Wc G y (d + 1) h0 post pc L (vI n :: vI dp :: vR a :: vI sp :: vR b :: st) h := by
  have htt : isI (aY t) = true := by rcases ht with rfl | rfl <;> rfl
  refine wc_copy0 (h' := cpI h a dp.toNat b sp.toNat n.toNat) hd hlk hnat hstat hini (by omega) hb ha hk s0 d0 n0 h1 h2 hst rfl rfl (fun _ => rfl) (fun _ => rfl) (fun c ty j hc => ?_) (fun j => ?_) (fun z c j => ?_) (fun z => z) (fun _ z => z) (fun U comp g hU hal hcp i hi => ?_) kk
  · cases ty <;> simp only [fv, hI_cpI, hL_cpI, hR_cpI, if_neg (show ¬ (c = a ∧ dp.toNat ≤ j ∧ j < dp.toNat + n.toNat) from fun q => hc q.1)]
  · rw [fv_I htt, fv_I htt, fv_I htt, hI_cpI]
    by_cases z : dp.toNat ≤ j ∧ j < dp.toNat + n.toNat
    · rw [if_pos ⟨rfl, z⟩, if_pos z]
    · rw [if_neg (fun q => z q.2), if_neg z]
  · rw [hI_cpI]
    split
    · exact z _ _
    · exact z _ _
  · rw [fv_I htt]
    exact ⟨(hf i hi).2, trivial⟩
theorem wc_copyR {idx a b : Nat} {sp dp n : Int} (hd : decode (mB y) pc = .ok (.invokestatic idx, 3)) (hlk : Cond.methodLink (mY y).cls idx arraycopyName ∈ lw_all) (hnat : Cond.native arraycopyName ∈ lw_all) (hstat : Cond.static arraycopyName ∈ lw_all) (hini : Cond.initialized "java/lang/System" ∈ lw_all)
    (hb : ob h b 74) (ha : ob h a 74) (hk : K0 ≤ a) (s0 : 0 ≤ sp) (d0 : 0 ≤ dp) (n0 : 0 ≤ n) (h1 : sp + n ≤ hN h b) (h2 : dp + n ≤ hN h a) (hst : st.length ≤ 8) (hf : ∀ i, i < n.toNat → rOb h (hR h b (sp.toNat + i))) (hAs : ∀ k ∈ cLs, As (cNm k) "java/lang/Object")
    (kk : Wc G y (d + 1) h0 post (pc + 3) L st (cpR h a dp.toNat b sp.toNat n.toNat)) : Wc G y (d + 1) h0 post pc L (vI n :: vI dp :: vR a :: vI sp :: vR b :: st) h := by
  refine wc_copy0 (t := 74) (h' := cpR h a dp.toNat b sp.toNat n.toNat) hd hlk hnat hstat hini (by omega) hb ha hk s0 d0 n0 h1 h2 hst rfl rfl (fun _ => rfl) (fun _ => rfl) (fun c ty j hc => ?_) (fun j => ?_) (fun z => z) (fun z => z) (fun _ z => KF_cpR z (by rw [ha.2.2]; decide)) (fun U comp g hU hal hcp i hi => ?_) kk
  · cases ty <;> simp only [fv, hI_cpR, hL_cpR, hR_cpR, if_neg (show ¬ (c = a ∧ dp.toNat ≤ j ∧ j < dp.toNat + n.toNat) from fun q => hc q.1)]
  · rw [fv_A rfl, fv_A rfl, fv_A rfl, hR_cpR]
    by_cases z : dp.toNat ≤ j ∧ j < dp.toNat + n.toNat
    · rw [if_pos ⟨rfl, z⟩, if_pos z]
    · rw [if_neg (fun q => z q.2), if_neg z]
  · rw [fv_A rfl]
    show fits _ (tr G _) = true ∧ U.takes comp (tr G _)
    refine ⟨(tr_fits g _ rfl).2, ?_⟩
    rcases hf i hi with z | ⟨z1, z2, z3⟩
    · rw [z, tr_0 g]
      trivial
    · obtain ⟨cv, w0, w1, w2, w3, w4, -⟩ := (hU.2.2.2.2.2.2.1 _ z2).1 z3
      rw [w0]
      have hfC := hcp "java/lang/Object" rfl
      obtain ⟨-, hfk, kC, hkC, -⟩ := u_Kn_moved hal (g.2.1 _ z3)
      obtain ⟨kE, hkE, -⟩ := Vm.findClass_spec hfC
      refine ⟨cv, w1, (fun k hk => by rw [hk] at w4; cases w4), ⟨kC, (by rw [w2]; exact hkC)⟩, ⟨kE, hkE⟩, ?_⟩
      rw [w2]
      rcases hAs _ z3 with q | q
      · rw [q] at hfk
        exact vb_asgS comp _ hfC hfk
      · exact vb_asgC (va_tabs rfl (rfl : ((gs G).setVm U.vm).vm = U.vm) (by rw [Cond.castable_setVm hal]; exact g.1 _ q)) comp _ hfC hfk
theorem tv_const {G : Gx} {a : Nat} (h : a < K0) : tv G (vR a) = gV G a := if_pos h
/-- the class of an array of objects -/
theorem wc_getCl {idx a : Nat} (hd : decode (mB y) pc = .ok (.invokevirtual idx, 3)) (hlk : Cond.methodLink (mY y).cls idx ⟨"java/lang/Object", "getClass", "()Ljava/lang/Class;"⟩ ∈ lw_all) (hdecl : Cond.declares ⟨"java/lang/Object", "getClass", "()Ljava/lang/Class;"⟩ ∈ lw_tbl) (hsel : Cond.selects "[Ljava/lang/Object;" ⟨"java/lang/Object", "getClass", "()Ljava/lang/Class;"⟩ ⟨"java/lang/Object", "getClass", "()Ljava/lang/Class;"⟩ ∈ lw_all) (hinst : Cond.instanceMethod ⟨"java/lang/Object", "getClass", "()Ljava/lang/Class;"⟩ ∈ lw_all) (hnat : Cond.native ⟨"java/lang/Object", "getClass", "()Ljava/lang/Class;"⟩ ∈ lw_all)
    (ho : ob h a 74) (hk : K0 ≤ a ∨ a = 2) (hst : st.length ≤ 8) (kk : Wc G y (d + 1) h0 post (pc + 3) L (vR 6 :: st) h) : Wc G y (d + 1) h0 post pc L (vR a :: st) h := by
  intro p e s m args below meth c R H locs ls hC hH hL hs hl hn0 hq0
  have hW := hC.2.1
  have g : Gok G := hC.ok
  have hrm := hC.room
  have hcat := catsum G st
  obtain ⟨cell, q0, q1, q2, q3, q4, q5, q6⟩ := arr_at hH ho (by decide) (by decide) hW
  obtain ⟨r, g1, g2⟩ := g.2.2.2.2.2.2.2.2.2.1
  obtain ⟨kA, comp, k1, k2, k3, k4⟩ := g.2.2.1 74 (by decide) (by decide)
  have w := kk p e s m args below meth c R H locs ls hC hH hL (nvs_cons trivial (nvs_tl hs)) hl hn0 hq0
  rw [List.map_cons, (tv_const (G := G) (a := 6) (by decide)).trans g1] at w
  rw [List.map_cons, show tv G (vR a) = .ref (rho G a) from q0]
  have hnm : "[" ++ (aY 74).toString = "[Ljava/lang/Object;" := by decide +kernel
  rw [hnm] at k1
  have hkc : cell.vm.isStatics = false ∧ cell.cls = gA G 74 := by
    rcases hk with z | z
    · exact ⟨by rw [(q6 z).1]; rfl, (q6 z).2⟩
    · obtain ⟨r2, c2, z1, z2, z3, z4, z5⟩ := g.2.2.2.2.2.2.2.2.2.2.2
      have e1 : rho G a = r2 := by
        rw [z]
        unfold rho
        rw [show tr G 2 = .ref r2 from (if_pos (by decide)).trans z1]
      rw [e1, hH.2.2.2.2.1 r2 z2, z3] at q1
      cases q1
      exact ⟨z4, z5⟩
  exact va_getC (C := "[Ljava/lang/Object;") hC.1 hC.2.2.2.1 (by rw [hC.2.2.2.2.1]; exact hL.1.symm) (findC hC.2.2.1) (wd g hW hlk) (va_Nw.use rfl (va_Nw.warmD hW (g.1 _ hdecl))) (wd g hW hsel) (wd g hW hinst) (wd g hW hnat) (va_Mi.moved hW.alike g2)
    ⟨cell, q1, hkc.1, by rw [hkc.2, hW.alike.findClass]; exact k1⟩ (by have := hrm.1; omega) (by have := hrm.2.1; omega) hd w
theorem wc_ldcM {idx : Nat} (hd : decode (mB y) pc = .ok (.ldc idx, 2)) (hcl : Cond.classLink (mY y).cls idx "[Ljava/lang/Object;" ∈ lw_all) (kk : Wc G y d h0 post (pc + 2) L (vR 6 :: st) h) : Wc G y d h0 post pc L st h := by
  intro p e s m args below meth c R H locs ls hC hH hL hs hl hn0 hq0
  have hW := hC.2.1
  have g : Gok G := hC.ok
  obtain ⟨r, g1, g2⟩ := g.2.2.2.2.2.2.2.2.2.1
  have w := kk p e s m args below meth c R H locs ls hC hH hL (nvs_cons trivial hs) hl hn0 hq0
  rw [List.map_cons, (tv_const (G := G) (a := 6) (by decide)).trans g1] at w
  exact va_ldcM hC.1 hC.2.2.2.1 (findC hC.2.2.1) (wd g hW hcl) (va_Mi.moved hW.alike g2) hd w
theorem wc_instY {idx k a : Nat} {C : String} (hd : decode (mB y) pc = .ok (.instanceof idx, 3)) (hcl : Cond.classLink (mY y).cls idx C ∈ lw_all) (hk : k ∈ cLs) (hnm : cNm k = C) (ho : ob h a k) (kk : Wc G y d h0 post (pc + 3) L (vI 1 :: st) h) : Wc G y d h0 post pc L (vR a :: st) h := by
  intro p e s m args below meth c R H locs ls hC hH hL hs hl hn0 hq0 T hT X
  have hW := hC.2.1
  have g : Gok G := hC.ok
  obtain ⟨cell, q0, q1, q2, q3, kB, q4⟩ := obj_at hH ho hk g hW
  rw [hnm] at q3
  obtain ⟨vm', X', stp⟩ := X.instanceofYes hC.1 (findC hC.2.2.1) (wd g hW hcl) (by rw [hT]; exact q1) q2 q3 (va_asg _ _) (g := F0 m pc ls ((vR a :: st).map (tv G))) rfl (by show (vR a :: st).map (tv G) = _; rw [List.map_cons, show tv G (vR a) = .ref (rho G a) from q0]) (by rw [hC.2.2.2.1]; exact hd)
  obtain ⟨t, a1, b1⟩ := kk p e s m args below meth c R H locs ls hC hH hL (nvs_cons nm_1 (nvs_tl hs)) hl hn0 hq0 (T.setVm vm') hT X'
  exact ⟨t, stp t a1, b1⟩
/-- a method of the class above, called by name ('super.x()') -/
theorem wc_callSU {stk : List V} {y' : Mt} {av : List V} {P : Rs → Hp → Prop} {idx n a k : Nat} (hd : decode (mB y) pc = .ok (.invokespecial idx, 3)) (hlk : Cond.methodLink (mY y).cls idx (mY y') ∈ lw_all) (hsame : Cond.sameMethod (mY y').cls (mY y').cls (mY y').name (mY y').desc ∈ lw_all) (hsup : Cond.superclass (mY y).cls (mY y').cls ∈ lw_all) (hmo : MethOk y' n) (hinst : Cond.instanceMethod (mY y') ∈ lw_all) (hno : (mY y').name ≠ "<init>") (hk : k ∈ cLs) (ho : ob h a k) (hn : av.length = n) (hst : stk = av.reverse ++ vR a :: st) (hw : 2 * st.length + mX y' ≤ 89)
    (hct : Ct G y' d (vR a :: av) h P) (kr : ∀ v h', P (.inl v) h' → Wc G y (d + 1) h0 post (pc + 3) L (v.toList ++ st) h') (kx : ∀ a h', P (.inr a) h' → Wx G y (d + 1) h0 post pc L h' a) : Wc G y (d + 1) h0 post pc L stk h := by
  subst hst
  intro p e s m args below meth c R H locs ls hC hH hL hs hl hn0 hq0 T hT X
  have hW := hC.2.1
  have g : Gok G := hC.ok
  obtain ⟨mk, methk, ck, f1, f2, f3, f4, f5, f6, f7, f8, f9, f10⟩ := callee g hW hmo.1
  obtain ⟨mk2, methM, hnamed, hmethM, hstM, habM⟩ := Cond.instanceMethod_spec (wd (A := args) g hW hinst)
  cases f1.symm.trans hnamed
  cases f2.symm.trans hmethM
  obtain ⟨cellB, q0, hcell, hobj, hcls, kB, hkB⟩ := obj_at hH ho hk g hW
  obtain ⟨ps, dk, kp, hps, hdk, hkp, hsuper, -, -, hnid⟩ := Cond.superclass_spec (findC hC.2.2.1) (wd (A := args) g hW hsup)
  have hpm : ps = mk.cls := Option.some.inj (hps.symm.trans (findClass_of_methodNamed hnamed))
  have hsub : s.vm.isSubclass ps mk.cls = true := by rw [hpm]; simp [Vm.isSubclass, Vm.isSubclassAux]
  have hlen : (av.map (tv G)).length = methk.sig.parameters.length := by rw [List.length_map, hn]; exact hmo.len _ f10
  have hdg : decode c.code pc = .ok (.invokespecial idx, 3) := by rw [hC.2.2.2.1]; exact hd
  have hav : ((vR a :: av).map (tv G)).toArray = (Value.ref (rho G a) :: av.map (tv G)).toArray := by rw [List.map_cons, show tv G (vR a) = .ref (rho G a) from q0]
  rw [List.map_append, map_rev, List.map_cons, show tv G (vR a) = .ref (rho G a) from q0]
  have hsa := nvs_app hs
  obtain ⟨vm₁, X₁, stp⟩ := X.invokespecialUp hC.1 (findC hC.2.2.1) (wd g hW hlk) (wd g hW hsame) hnamed hmethM hstM habM hno hdk hnid hps hsuper hsub (a := rho G a) (cell := cellB) (by rw [hT]; exact hcell)
    (fun z h => by rw [h] at hobj; cases hobj) hkB (g := F0 m pc ls ((av.map (tv G)).reverse ++ .ref (rho G a) :: st.map (tv G))) rfl (argsL := av.map (tv G)) (rest := st.map (tv G)) hlen rfl hdg
  obtain ⟨t, a1, b1⟩ := call_core hct kr kx hC hH hL (nvs_tl hsa.2) (nvs_cons trivial (nvs_rev hsa.1)) hl hn0 hq0 (T₁ := T.setVm vm₁) hT X₁ hdg f1 hmo.1 hmo.2.1 hw
  rw [hav] at a1
  exact ⟨t, stp t (by rw [doInvoke_state]; exact a1), b1⟩
end CP
