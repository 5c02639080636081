set_option maxRecDepth 100000
set_option maxHeartbeats 1000000
/-! OWN LAYER, 2: rules for instructions that touch no heap -/
section RL
variable {G : Gx} {y : Mt} {d : Nat} {h0 : Hp} {post : Rs → Hp → Prop} {pc : Nat} {L : List (Option V)} {st : List V} {h : Hp}
/-- locals as the kit lists them -/
def lvc (G : Gx) (L : List (Option V)) : List (Nat × Value) := (List.range L.length).filterMap (fun i => (L[i]?).bind (fun o => o.map (fun v => (i, tv G v))))
theorem lvc_in {G : Gx} {L : List (Option V)} {i : Nat} {v : V} (h : L[i]? = some (some v)) : (i, tv G v) ∈ lvc G L := by
  refine List.mem_filterMap.mpr ⟨i, List.mem_range.mpr (List.getElem?_eq_some_iff.mp h).1, ?_⟩
  rw [h]
  rfl
theorem lvc_of {G : Gx} {L : List (Option V)} {q : Nat × Value} (h : q ∈ lvc G L) : ∃ v, L[q.1]? = some (some v) ∧ q.2 = tv G v := by
  obtain ⟨i, -, hi⟩ := List.mem_filterMap.mp h
  cases hL : L[i]? with
  | none => rw [hL] at hi; simp at hi
  | some o =>
    rw [hL] at hi
    cases o with
    | none => simp at hi
    | some v =>
      simp at hi
      subst hi
      exact ⟨v, hL, rfl⟩
theorem Lr.has {G : Gx} {ls : Array Slot} {n : Nat} {L : List (Option V)} (h : Lr G ls n L) : lv_has ls n (lvc G L) := by
  refine ⟨h.1, h.2.2.1, fun q hq => ?_⟩
  obtain ⟨v, h1, h2⟩ := lvc_of hq
  rw [h2]
  exact (h.2.2.2 _ _ h1).1
theorem lr_st1 {G : Gx} (g : Gok G) {ls ls' : Array Slot} {n : Nat} {L : List (Option V)} {i : Nat} {v : V} (h : Lr G ls n L) (hv : nv v) (hs : lv_has ls' n ((i, tv G v) :: (lvc G L).filter (fun q => !(q.1 == i) && !(q.1 + 1 == i && q.2.category == 2)))) : Lr G ls' n (st1 L i v) := by
  refine ⟨hs.1, by simp [st1, clr_len, h.2.1], hs.2.1, fun j w hj => ?_⟩
  by_cases hji : j = i
  · subst hji
    have e : v = w := by
      unfold st1 at hj
      rw [List.getElem?_set_self'] at hj
      cases hc : (clr L j)[j]? with
      | none => rw [hc] at hj; simp at hj
      | some z => rw [hc] at hj; simpa using hj
    subst e
    exact ⟨hs.2.2 (j, tv G v) List.mem_cons_self, hv⟩
  · unfold st1 at hj
    rw [List.getElem?_set_ne (fun q => hji q.symm)] at hj
    obtain ⟨h1, h2⟩ := clr_at hj
    refine ⟨hs.2.2 (j, tv G w) (List.mem_cons_of_mem _ (List.mem_filter.mpr ⟨lvc_in h1, ?_⟩)), (h.2.2.2 _ _ h1).2⟩
    have h3 : ¬ (j + 1 = i ∧ (tv G w).category = 2) := fun q => h2 ⟨q.1, (tv_cat g w).mp q.2⟩
    simp only [Bool.and_eq_true, Bool.not_eq_true', beq_eq_false_iff_ne, ne_eq, hji, not_false_eq_true, true_and, Bool.and_eq_false_iff, beq_eq_false_iff_ne]
    by_cases q : j + 1 = i
    · exact Or.inr fun z => h3 ⟨q, z⟩
    · exact Or.inl q
theorem lr_st2 {G : Gx} (g : Gok G) {ls ls' : Array Slot} {n : Nat} {L : List (Option V)} {i : Nat} {v : V} (h : Lr G ls n L) (hv : nv v) (hs : lv_has ls' n ((i, tv G v) :: (lvc G L).filter (fun q => !(q.1 == i) && (!(q.1 == i + 1) && !(q.1 + 1 == i && q.2.category == 2))))) : Lr G ls' n (st2 L i v) := by
  refine ⟨hs.1, by simp [st2, clr_len, h.2.1], hs.2.1, fun j w hj => ?_⟩
  unfold st2 at hj
  by_cases hj1 : j = i + 1
  · subst hj1
    rw [List.getElem?_set_self'] at hj
    cases hc : ((clr L i).set i (some v))[i + 1]? with
    | none => rw [hc] at hj; simp at hj
    | some z => rw [hc] at hj; simp at hj
  rw [List.getElem?_set_ne (fun q => hj1 q.symm)] at hj
  by_cases hji : j = i
  · subst hji
    have e : v = w := by
      rw [List.getElem?_set_self'] at hj
      cases hc : (clr L j)[j]? with
      | none => rw [hc] at hj; simp at hj
      | some z => rw [hc] at hj; simpa using hj
    subst e
    exact ⟨hs.2.2 (j, tv G v) List.mem_cons_self, hv⟩
  · rw [List.getElem?_set_ne (fun q => hji q.symm)] at hj
    obtain ⟨h1, h2⟩ := clr_at hj
    refine ⟨hs.2.2 (j, tv G w) (List.mem_cons_of_mem _ (List.mem_filter.mpr ⟨lvc_in h1, ?_⟩)), (h.2.2.2 _ _ h1).2⟩
    have h3 : ¬ (j + 1 = i ∧ (tv G w).category = 2) := fun q => h2 ⟨q.1, (tv_cat g w).mp q.2⟩
    simp only [Bool.and_eq_true, Bool.not_eq_true', beq_eq_false_iff_ne, ne_eq, hji, hj1, not_false_eq_true, true_and, Bool.and_eq_false_iff, beq_eq_false_iff_ne]
    by_cases q : j + 1 = i
    · exact Or.inr fun z => h3 ⟨q, z⟩
    · exact Or.inl q
/-- the code is at the end of its walk -/
theorem wc_ret_core {G : Gx} {y : Mt} {d : Nat} {h0 : Hp} {post : Rs → Hp → Prop} {h : Hp} {p : Program} {e : Env} {s : State} {m : MethodId} {args : Array Value} {below : List Frame} {meth : Method} {c : Code} {R : Room} {H : Heap} {locs : List Loc} {g : JFrame} (r : Rs) (hp : post r h) (hr : rnv r) (hn0 : hn h0 ≤ hn h) (hq0 : hq h0 ≤ hq h)
    (w : W p (gl G) e R s m args below meth c H locs (hn h - hn h0) (hq h - hq h0) (MQ below (fun _ _ o t => o = oc G r ∧ HR G h t.heap) args s (hn h - hn h0) (hq h - hq h0) (fun q => gB G ≤ q)) g) : W p (gl G) e R s m args below meth c H locs (hn h - hn h0) (hq h - hq h0) (MQx G h0 s below post) g := by
  intro T hT X
  obtain ⟨t, a, o, b1, b2, ⟨b3, b4⟩, L, b5, b6⟩ := w T hT X
  subst b3
  exact ⟨t, a, r, h, L, b1, b2, b5.2.1, b5.2.2, b6, b4, hn0, hq0, hr, hp⟩
theorem Cx.ok {G : Gx} {y : Mt} {p : Program} {s : State} {m : MethodId} {meth : Method} {c : Code} {R : Room} {d : Nat} {h0 : Hp} (hC : Cx G y p s m meth c R d h0) : Gok G := hC.2.2.2.2.2.2.2.2.2.2.1
theorem wc_iconst {n : Int} (hd : decode (mB y) pc = .ok (.iconst n, 1)) (hv : nm n) (k : Wc G y d h0 post (pc + 1) L (vI n :: st) h) : Wc G y d h0 post pc L (st) h := by
  intro p e s m args below meth c R H locs ls hC hH hL hs hl hn0 hq0
  exact lv_iconst hC.1 hC.2.2.2.1 hd rfl (k p e s m args below meth c R H locs ls hC hH hL (nvs_cons (hv) (hs)) hl hn0 hq0)
theorem wc_bipush {n : Int} (hd : decode (mB y) pc = .ok (.bipush n, 2)) (hv : (Int8.ofInt n).toInt32 = Int32.ofInt n ∧ nm n) (k : Wc G y d h0 post (pc + 2) L (vI n :: st) h) : Wc G y d h0 post pc L (st) h := by
  intro p e s m args below meth c R H locs ls hC hH hL hs hl hn0 hq0
  exact lv_bipush hC.1 hC.2.2.2.1 hd hv.1 (k p e s m args below meth c R H locs ls hC hH hL (nvs_cons (hv.2) (hs)) hl hn0 hq0)
theorem wc_sipush {n : Int} (hd : decode (mB y) pc = .ok (.sipush n, 3)) (hv : (Int16.ofInt n).toInt32 = Int32.ofInt n ∧ nm n) (k : Wc G y d h0 post (pc + 3) L (vI n :: st) h) : Wc G y d h0 post pc L (st) h := by
  intro p e s m args below meth c R H locs ls hC hH hL hs hl hn0 hq0
  exact lv_sipush hC.1 hC.2.2.2.1 hd hv.1 (k p e s m args below meth c R H locs ls hC hH hL (nvs_cons (hv.2) (hs)) hl hn0 hq0)
theorem wc_lconst {n : Fin 2} {v : Int} (hd : decode (mB y) pc = .ok (.lconst n, 1)) (hv : Int64.ofNat (n : Nat) = Int64.ofInt v ∧ nl v) (k : Wc G y d h0 post (pc + 1) L (vL v :: st) h) : Wc G y d h0 post pc L (st) h := by
  intro p e s m args below meth c R H locs ls hC hH hL hs hl hn0 hq0
  exact lv_lconst hC.1 hC.2.2.2.1 hd hv.1 (k p e s m args below meth c R H locs ls hC hH hL (nvs_cons (hv.2) (hs)) hl hn0 hq0)
theorem wc_null (hd : decode (mB y) pc = .ok (.aconst_null, 1)) (k : Wc G y d h0 post (pc + 1) L (vR 0 :: st) h) : Wc G y d h0 post pc L st h := by
  intro p e s m args below meth c R H locs ls hC hH hL hs hl hn0 hq0
  have kk := k p e s m args below meth c R H locs ls hC hH hL (nvs_cons trivial hs) hl hn0 hq0
  rw [List.map_cons, show tv G (vR 0) = .null from tr_0 hC.ok] at kk
  exact lv_null hC.1 hC.2.2.2.1 hd kk
theorem wc_iload_n {k : Fin 4} {x : Int} (hd : decode (mB y) pc = .ok (.iload_n k, 1)) (hl0 : L[(k : Nat)]? = some (some (vI x))) (k : Wc G y d h0 post (pc + 1) L (vI x :: st) h) : Wc G y d h0 post pc L st h := by
  intro p e s m args below meth c R H locs ls hC hH hL hs hl hn0 hq0
  exact lv_iload_n hC.1 hC.2.2.2.1 hd rfl (hL.2.2.2 _ _ hl0).1 (k p e s m args below meth c R H locs ls hC hH hL (nvs_cons (hL.2.2.2 _ _ hl0).2 hs) hl hn0 hq0)
theorem wc_iload {i : Nat} {x : Int} (hd : decode (mB y) pc = .ok (.iload i, 2)) (hl0 : L[i]? = some (some (vI x))) (k : Wc G y d h0 post (pc + 2) L (vI x :: st) h) : Wc G y d h0 post pc L st h := by
  intro p e s m args below meth c R H locs ls hC hH hL hs hl hn0 hq0
  exact lv_iload hC.1 hC.2.2.2.1 hd (hL.2.2.2 _ _ hl0).1 (k p e s m args below meth c R H locs ls hC hH hL (nvs_cons (hL.2.2.2 _ _ hl0).2 hs) hl hn0 hq0)
theorem wc_lload_n {k : Fin 4} {x : Int} (hd : decode (mB y) pc = .ok (.lload_n k, 1)) (hl0 : L[(k : Nat)]? = some (some (vL x))) (k : Wc G y d h0 post (pc + 1) L (vL x :: st) h) : Wc G y d h0 post pc L st h := by
  intro p e s m args below meth c R H locs ls hC hH hL hs hl hn0 hq0
  exact lv_lload_n hC.1 hC.2.2.2.1 hd rfl (hL.2.2.2 _ _ hl0).1 (k p e s m args below meth c R H locs ls hC hH hL (nvs_cons (hL.2.2.2 _ _ hl0).2 hs) hl hn0 hq0)
theorem wc_lload {i : Nat} {x : Int} (hd : decode (mB y) pc = .ok (.lload i, 2)) (hl0 : L[i]? = some (some (vL x))) (k : Wc G y d h0 post (pc + 2) L (vL x :: st) h) : Wc G y d h0 post pc L st h := by
  intro p e s m args below meth c R H locs ls hC hH hL hs hl hn0 hq0
  exact lv_lload hC.1 hC.2.2.2.1 hd (hL.2.2.2 _ _ hl0).1 (k p e s m args below meth c R H locs ls hC hH hL (nvs_cons (hL.2.2.2 _ _ hl0).2 hs) hl hn0 hq0)
theorem wc_aload_n {k : Fin 4} {r : Nat} (hd : decode (mB y) pc = .ok (.aload_n k, 1)) (hl0 : L[(k : Nat)]? = some (some (vR r))) (k : Wc G y d h0 post (pc + 1) L (vR r :: st) h) : Wc G y d h0 post pc L st h := by
  intro p e s m args below meth c R H locs ls hC hH hL hs hl hn0 hq0
  have kk := k p e s m args below meth c R H locs ls hC hH hL (nvs_cons trivial hs) hl hn0 hq0
  have h9 := (hL.2.2.2 _ _ hl0).1
  rcases tr_cases hC.ok r with z | ⟨q, z⟩
  · rw [List.map_cons, show tv G (vR r) = .null from z] at kk
    rw [show tv G (vR r) = .null from z] at h9
    exact lv_aload_nN hC.1 hC.2.2.2.1 hd rfl h9 kk
  · rw [List.map_cons, show tv G (vR r) = .ref q from z] at kk
    rw [show tv G (vR r) = .ref q from z] at h9
    exact lv_aload_n hC.1 hC.2.2.2.1 hd rfl h9 kk
theorem wc_aload {i : Nat} {r : Nat} (hd : decode (mB y) pc = .ok (.aload i, 2)) (hl0 : L[i]? = some (some (vR r))) (k : Wc G y d h0 post (pc + 2) L (vR r :: st) h) : Wc G y d h0 post pc L st h := by
  intro p e s m args below meth c R H locs ls hC hH hL hs hl hn0 hq0
  have kk := k p e s m args below meth c R H locs ls hC hH hL (nvs_cons trivial hs) hl hn0 hq0
  have h9 := (hL.2.2.2 _ _ hl0).1
  rcases tr_cases hC.ok r with z | ⟨q, z⟩
  · rw [List.map_cons, show tv G (vR r) = .null from z] at kk
    rw [show tv G (vR r) = .null from z] at h9
    exact lv_aloadN hC.1 hC.2.2.2.1 hd h9 kk
  · rw [List.map_cons, show tv G (vR r) = .ref q from z] at kk
    rw [show tv G (vR r) = .ref q from z] at h9
    exact lv_aload hC.1 hC.2.2.2.1 hd h9 kk
theorem wc_istore_n {k : Fin 4} {x : Int} (hd : decode (mB y) pc = .ok (.istore_n k, 1)) (hi0 : (k : Nat) < mX y) (k : Wc G y d h0 post (pc + 1) (st1 L (k : Nat) (vI x)) st h) : Wc G y d h0 post pc L (vI x :: st) h := by
  intro p e s m args below meth c R H locs ls hC hH hL hs hl hn0 hq0
  exact lv_istore_n hC.1 hC.2.2.2.1 hd rfl hL.has hi0 rfl (fun ls' h9 => k p e s m args below meth c R H locs ls' hC hH (lr_st1 hC.ok hL (nvs_hd hs) h9) (nvs_tl hs) hl hn0 hq0)
theorem wc_istore {i : Nat} {x : Int} (hd : decode (mB y) pc = .ok (.istore i, 2)) (hi0 : i < mX y) (k : Wc G y d h0 post (pc + 2) (st1 L i (vI x)) st h) : Wc G y d h0 post pc L (vI x :: st) h := by
  intro p e s m args below meth c R H locs ls hC hH hL hs hl hn0 hq0
  exact lv_istore hC.1 hC.2.2.2.1 hd hL.has hi0 rfl (fun ls' h9 => k p e s m args below meth c R H locs ls' hC hH (lr_st1 hC.ok hL (nvs_hd hs) h9) (nvs_tl hs) hl hn0 hq0)
theorem wc_lstore_n {k : Fin 4} {x : Int} (hd : decode (mB y) pc = .ok (.lstore_n k, 1)) (hi0 : (k : Nat) + 1 < mX y) (k : Wc G y d h0 post (pc + 1) (st2 L (k : Nat) (vL x)) st h) : Wc G y d h0 post pc L (vL x :: st) h := by
  intro p e s m args below meth c R H locs ls hC hH hL hs hl hn0 hq0
  exact lv_lstore_n hC.1 hC.2.2.2.1 hd rfl hL.has hi0 rfl (fun ls' h9 => k p e s m args below meth c R H locs ls' hC hH (lr_st2 hC.ok hL (nvs_hd hs) h9) (nvs_tl hs) hl hn0 hq0)
theorem wc_lstore {i : Nat} {x : Int} (hd : decode (mB y) pc = .ok (.lstore i, 2)) (hi0 : i + 1 < mX y) (k : Wc G y d h0 post (pc + 2) (st2 L i (vL x)) st h) : Wc G y d h0 post pc L (vL x :: st) h := by
  intro p e s m args below meth c R H locs ls hC hH hL hs hl hn0 hq0
  exact lv_lstore hC.1 hC.2.2.2.1 hd hL.has hi0 rfl (fun ls' h9 => k p e s m args below meth c R H locs ls' hC hH (lr_st2 hC.ok hL (nvs_hd hs) h9) (nvs_tl hs) hl hn0 hq0)
theorem wc_astore_n {k : Fin 4} {r : Nat} (hd : decode (mB y) pc = .ok (.astore_n k, 1)) (hi0 : (k : Nat) < mX y) (kc : Wc G y d h0 post (pc + 1) (st1 L (k : Nat) (vR r)) st h) : Wc G y d h0 post pc L (vR r :: st) h := by
  intro p e s m args below meth c R H locs ls hC hH hL hs hl hn0 hq0
  have kk : ∀ ls', lv_has ls' (mX y) (((k : Nat), tv G (vR r)) :: (lvc G L).filter (fun q => !(q.1 == (k : Nat)) && !(q.1 + 1 == (k : Nat) && q.2.category == 2))) → W p (gl G) e R s m args below meth c H locs (hn h - hn h0) (hq h - hq h0) (MQx G h0 s below post) (F0 m (pc + 1) ls' (st.map (tv G))) := fun ls' h9 => kc p e s m args below meth c R H locs ls' hC hH (lr_st1 hC.ok hL (nvs_hd hs) h9) (nvs_tl hs) hl hn0 hq0
  rw [List.map_cons]
  rcases tr_cases hC.ok r with z | ⟨q, z⟩
  · rw [show tv G (vR r) = .null from z] at kk ⊢
    exact lv_astore_nN hC.1 hC.2.2.2.1 hd rfl hL.has hi0 rfl kk
  · rw [show tv G (vR r) = .ref q from z] at kk ⊢
    exact lv_astore_n hC.1 hC.2.2.2.1 hd rfl hL.has hi0 rfl kk
theorem wc_astore {i : Nat} {r : Nat} (hd : decode (mB y) pc = .ok (.astore i, 2)) (hi0 : i < mX y) (kc : Wc G y d h0 post (pc + 2) (st1 L i (vR r)) st h) : Wc G y d h0 post pc L (vR r :: st) h := by
  intro p e s m args below meth c R H locs ls hC hH hL hs hl hn0 hq0
  have kk : ∀ ls', lv_has ls' (mX y) ((i, tv G (vR r)) :: (lvc G L).filter (fun q => !(q.1 == i) && !(q.1 + 1 == i && q.2.category == 2))) → W p (gl G) e R s m args below meth c H locs (hn h - hn h0) (hq h - hq h0) (MQx G h0 s below post) (F0 m (pc + 2) ls' (st.map (tv G))) := fun ls' h9 => kc p e s m args below meth c R H locs ls' hC hH (lr_st1 hC.ok hL (nvs_hd hs) h9) (nvs_tl hs) hl hn0 hq0
  rw [List.map_cons]
  rcases tr_cases hC.ok r with z | ⟨q, z⟩
  · rw [show tv G (vR r) = .null from z] at kk ⊢
    exact lv_astoreN hC.1 hC.2.2.2.1 hd hL.has hi0 rfl kk
  · rw [show tv G (vR r) = .ref q from z] at kk ⊢
    exact lv_astore hC.1 hC.2.2.2.1 hd hL.has hi0 rfl kk
theorem wc_iinc {i : Nat} {n : Int} {x v : Int} (hd : decode (mB y) pc = .ok (.iinc i n, 3)) (hl0 : L[i]? = some (some (vI x))) (hv : v = x + n) (hm : nm v) (hi0 : i < mX y) (k : Wc G y d h0 post (pc + 3) (st1 L i (vI v)) st h) : Wc G y d h0 post pc L st h := by
  intro p e s m args below meth c R H locs ls hC hH hL hs hl hn0 hq0
  obtain ⟨j, hj⟩ := List.getElem?_of_mem (lvc_in (G := G) hl0)
  exact lv_iinc (v := Int32.ofInt v) hC.1 hC.2.2.2.1 hd hL.has hj (by rw [hv, Int32.ofInt_add]) hi0 rfl (fun ls' h9 => k p e s m args below meth c R H locs ls' hC hH (lr_st1 (v := vI v) hC.ok hL hm h9) hs hl hn0 hq0)
theorem wc_iadd {a b : Int} (hd : decode (mB y) pc = .ok (.iadd, 1)) (hm : nm (a + b)) (k : Wc G y d h0 post (pc + 1) L (vI (a + b) :: st) h) : Wc G y d h0 post pc L (vI b :: vI a :: st) h := by
  intro p e s m args below meth c R H locs ls hC hH hL hs hl hn0 hq0
  have kk := k p e s m args below meth c R H locs ls hC hH hL (nvs_cons (hm) (nvs_tl (nvs_tl (hs)))) hl hn0 hq0
  rw [List.map_cons, show tv G (vI (a + b)) = .int (Int32.ofInt a + Int32.ofInt b) from congrArg Value.int (Int32.ofInt_add _ _)] at kk
  exact lv_iadd hC.1 hC.2.2.2.1 hd kk
theorem wc_iaddW {a b : Int} (hd : decode (mB y) pc = .ok (.iadd, 1)) (k : Wc G y d h0 post (pc + 1) L (vI (wr (a + b)) :: st) h) : Wc G y d h0 post pc L (vI b :: vI a :: st) h := by
  intro p e s m args below meth c R H locs ls hC hH hL hs hl hn0 hq0
  have kk := k p e s m args below meth c R H locs ls hC hH hL (nvs_cons (nm_wr _) (nvs_tl (nvs_tl (hs)))) hl hn0 hq0
  rw [List.map_cons, show tv G (vI (wr (a + b))) = .int (Int32.ofInt a + Int32.ofInt b) from congrArg Value.int ((ofI _).trans (Int32.ofInt_add _ _))] at kk
  exact lv_iadd hC.1 hC.2.2.2.1 hd kk
theorem wc_isub {a b : Int} (hd : decode (mB y) pc = .ok (.isub, 1)) (hm : nm (a - b)) (k : Wc G y d h0 post (pc + 1) L (vI (a - b) :: st) h) : Wc G y d h0 post pc L (vI b :: vI a :: st) h := by
  intro p e s m args below meth c R H locs ls hC hH hL hs hl hn0 hq0
  have kk := k p e s m args below meth c R H locs ls hC hH hL (nvs_cons (hm) (nvs_tl (nvs_tl (hs)))) hl hn0 hq0
  rw [List.map_cons, show tv G (vI (a - b)) = .int (Int32.ofInt a - Int32.ofInt b) from congrArg Value.int (Int32.ofInt_sub _ _)] at kk
  exact lv_isub hC.1 hC.2.2.2.1 hd kk
theorem wc_isubW {a b : Int} (hd : decode (mB y) pc = .ok (.isub, 1)) (k : Wc G y d h0 post (pc + 1) L (vI (wr (a - b)) :: st) h) : Wc G y d h0 post pc L (vI b :: vI a :: st) h := by
  intro p e s m args below meth c R H locs ls hC hH hL hs hl hn0 hq0
  have kk := k p e s m args below meth c R H locs ls hC hH hL (nvs_cons (nm_wr _) (nvs_tl (nvs_tl (hs)))) hl hn0 hq0
  rw [List.map_cons, show tv G (vI (wr (a - b))) = .int (Int32.ofInt a - Int32.ofInt b) from congrArg Value.int ((ofI _).trans (Int32.ofInt_sub _ _))] at kk
  exact lv_isub hC.1 hC.2.2.2.1 hd kk
theorem wc_imul {a b : Int} (hd : decode (mB y) pc = .ok (.imul, 1)) (hm : nm (a * b)) (k : Wc G y d h0 post (pc + 1) L (vI (a * b) :: st) h) : Wc G y d h0 post pc L (vI b :: vI a :: st) h := by
  intro p e s m args below meth c R H locs ls hC hH hL hs hl hn0 hq0
  have kk := k p e s m args below meth c R H locs ls hC hH hL (nvs_cons (hm) (nvs_tl (nvs_tl (hs)))) hl hn0 hq0
  rw [List.map_cons, show tv G (vI (a * b)) = .int (Int32.ofInt a * Int32.ofInt b) from congrArg Value.int (Int32.ofInt_mul _ _)] at kk
  exact lv_imul hC.1 hC.2.2.2.1 hd kk
theorem wc_imulW {a b : Int} (hd : decode (mB y) pc = .ok (.imul, 1)) (k : Wc G y d h0 post (pc + 1) L (vI (wr (a * b)) :: st) h) : Wc G y d h0 post pc L (vI b :: vI a :: st) h := by
  intro p e s m args below meth c R H locs ls hC hH hL hs hl hn0 hq0
  have kk := k p e s m args below meth c R H locs ls hC hH hL (nvs_cons (nm_wr _) (nvs_tl (nvs_tl (hs)))) hl hn0 hq0
  rw [List.map_cons, show tv G (vI (wr (a * b))) = .int (Int32.ofInt a * Int32.ofInt b) from congrArg Value.int ((ofI _).trans (Int32.ofInt_mul _ _))] at kk
  exact lv_imul hC.1 hC.2.2.2.1 hd kk
theorem wc_iand {a b : Int} (hd : decode (mB y) pc = .ok (.iand, 1)) (k : Wc G y d h0 post (pc + 1) L (vI (iand a b) :: st) h) : Wc G y d h0 post pc L (vI b :: vI a :: st) h := by
  intro p e s m args below meth c R H locs ls hC hH hL hs hl hn0 hq0
  have kk := k p e s m args below meth c R H locs ls hC hH hL (nvs_cons (nm_toInt _) (nvs_tl (nvs_tl (hs)))) hl hn0 hq0
  rw [List.map_cons, show tv G (vI (iand a b)) = .int _ from congrArg Value.int (ofI _)] at kk
  exact lv_iand hC.1 hC.2.2.2.1 hd kk
theorem wc_ior {a b : Int} (hd : decode (mB y) pc = .ok (.ior, 1)) (k : Wc G y d h0 post (pc + 1) L (vI (ior a b) :: st) h) : Wc G y d h0 post pc L (vI b :: vI a :: st) h := by
  intro p e s m args below meth c R H locs ls hC hH hL hs hl hn0 hq0
  have kk := k p e s m args below meth c R H locs ls hC hH hL (nvs_cons (nm_toInt _) (nvs_tl (nvs_tl (hs)))) hl hn0 hq0
  rw [List.map_cons, show tv G (vI (ior a b)) = .int _ from congrArg Value.int (ofI _)] at kk
  exact lv_ior hC.1 hC.2.2.2.1 hd kk
theorem wc_ixor {a b : Int} (hd : decode (mB y) pc = .ok (.ixor, 1)) (k : Wc G y d h0 post (pc + 1) L (vI (ixor a b) :: st) h) : Wc G y d h0 post pc L (vI b :: vI a :: st) h := by
  intro p e s m args below meth c R H locs ls hC hH hL hs hl hn0 hq0
  have kk := k p e s m args below meth c R H locs ls hC hH hL (nvs_cons (nm_toInt _) (nvs_tl (nvs_tl (hs)))) hl hn0 hq0
  rw [List.map_cons, show tv G (vI (ixor a b)) = .int _ from congrArg Value.int (ofI _)] at kk
  exact lv_ixor hC.1 hC.2.2.2.1 hd kk
theorem wc_ishl {a b : Int} (hd : decode (mB y) pc = .ok (.ishl, 1)) (k : Wc G y d h0 post (pc + 1) L (vI (ishl a b) :: st) h) : Wc G y d h0 post pc L (vI b :: vI a :: st) h := by
  intro p e s m args below meth c R H locs ls hC hH hL hs hl hn0 hq0
  have kk := k p e s m args below meth c R H locs ls hC hH hL (nvs_cons (nm_toInt _) (nvs_tl (nvs_tl (hs)))) hl hn0 hq0
  rw [List.map_cons, show tv G (vI (ishl a b)) = .int _ from congrArg Value.int (ofI _)] at kk
  exact lv_ishl hC.1 hC.2.2.2.1 hd kk
theorem wc_ishr {a b : Int} (hd : decode (mB y) pc = .ok (.ishr, 1)) (k : Wc G y d h0 post (pc + 1) L (vI (ishr a b) :: st) h) : Wc G y d h0 post pc L (vI b :: vI a :: st) h := by
  intro p e s m args below meth c R H locs ls hC hH hL hs hl hn0 hq0
  have kk := k p e s m args below meth c R H locs ls hC hH hL (nvs_cons (nm_toInt _) (nvs_tl (nvs_tl (hs)))) hl hn0 hq0
  rw [List.map_cons, show tv G (vI (ishr a b)) = .int _ from congrArg Value.int (ofI _)] at kk
  exact lv_ishr hC.1 hC.2.2.2.1 hd kk
theorem tdivI {a b : Int} (ha : nm a) (hb : nm b) : Int32.ofInt a / Int32.ofInt b = Int32.ofInt (a.tdiv b) := by
  apply Int32.toInt_inj.mp
  rw [Int32.toInt_div, toI ha, toI hb, Int32.toInt_ofInt]
theorem nm_tdiv {a b : Int} (ha : nm a) (hb : 0 < b) : nm (a.tdiv b) := by
  obtain ⟨h1, h2⟩ := ha
  rcases Int.le_total 0 a with h | h
  · have h3 := Int.tdiv_nonneg h (Int.le_of_lt hb)
    have h4 := Int.tdiv_le_self b h
    exact ⟨by omega, by omega⟩
  · have h3 : (-a).tdiv b = -(a.tdiv b) := Int.neg_tdiv ..
    have h4 := Int.tdiv_nonneg (a := -a) (b := b) (by omega) (Int.le_of_lt hb)
    have h5 := Int.tdiv_le_self (a := -a) b (by omega)
    exact ⟨by omega, by omega⟩
theorem tmodI {a b : Int} (ha : nm a) (hb : nm b) : Int32.ofInt a - Int32.ofInt a / Int32.ofInt b * Int32.ofInt b = Int32.ofInt (a.tmod b) := by
  rw [tdivI ha hb, ← Int32.ofInt_mul, ← Int32.ofInt_sub, Int.tmod_def, Int.mul_comm b]
theorem nm_tmod {a b : Int} (ha : nm a) (hb : nm b) : nm (a.tmod b) := by
  obtain ⟨h1, h2⟩ := ha
  have h3 := Int.natAbs_tmod a b
  have h4 : a.natAbs % b.natAbs ≤ a.natAbs := Nat.mod_le _ _
  rcases Int.le_total 0 a with h | h
  · have h5 := Int.tmod_nonneg b h
    exact ⟨by omega, by omega⟩
  · have h6 : (-a).tmod b = -(a.tmod b) := Int.neg_tmod ..
    have h7 := Int.tmod_nonneg b (a := -a) (by omega)
    exact ⟨by omega, by omega⟩
theorem tdivL {a b : Int} (ha : nl a) (hb : nl b) : Int64.ofInt a / Int64.ofInt b = Int64.ofInt (a.tdiv b) := by
  apply Int64.toInt_inj.mp
  rw [Int64.toInt_div, toL ha, toL hb, Int64.toInt_ofInt]
theorem nl_tdiv {a b : Int} (ha : nl a) (hb : 0 < b) : nl (a.tdiv b) := by
  obtain ⟨h1, h2⟩ := ha
  rcases Int.le_total 0 a with h | h
  · have h3 := Int.tdiv_nonneg h (Int.le_of_lt hb)
    have h4 := Int.tdiv_le_self b h
    exact ⟨by omega, by omega⟩
  · have h3 : (-a).tdiv b = -(a.tdiv b) := Int.neg_tdiv ..
    have h4 := Int.tdiv_nonneg (a := -a) (b := b) (by omega) (Int.le_of_lt hb)
    have h5 := Int.tdiv_le_self (a := -a) b (by omega)
    exact ⟨by omega, by omega⟩
theorem tmodL {a b : Int} (ha : nl a) (hb : nl b) : Int64.ofInt a - Int64.ofInt a / Int64.ofInt b * Int64.ofInt b = Int64.ofInt (a.tmod b) := by
  rw [tdivL ha hb, ← Int64.ofInt_mul, ← Int64.ofInt_sub, Int.tmod_def, Int.mul_comm b]
theorem nl_tmod {a b : Int} (ha : nl a) (hb : nl b) : nl (a.tmod b) := by
  obtain ⟨h1, h2⟩ := ha
  have h3 := Int.natAbs_tmod a b
  have h4 : a.natAbs % b.natAbs ≤ a.natAbs := Nat.mod_le _ _
  rcases Int.le_total 0 a with h | h
  · have h5 := Int.tmod_nonneg b h
    exact ⟨by omega, by omega⟩
  · have h6 : (-a).tmod b = -(a.tmod b) := Int.neg_tmod ..
    have h7 := Int.tmod_nonneg b (a := -a) (by omega)
    exact ⟨by omega, by omega⟩
theorem neI {b : Int} (hb : nm b) (h : b ≠ 0) : ¬ Int32.ofInt b = 0 := fun z => h ((I_eq hb nm_0).mp z)
theorem neL {b : Int} (hb : nl b) (h : b ≠ 0) : ¬ Int64.ofInt b = 0 := fun z => h (by
  have := congrArg Int64.toInt z
  rw [toL hb] at this
  simpa using this)
theorem wc_idiv {a b : Int} (hd : decode (mB y) pc = .ok (.idiv, 1)) (hb : 0 < b) (k : Wc G y d h0 post (pc + 1) L (vI (a.tdiv b) :: st) h) : Wc G y d h0 post pc L (vI b :: vI a :: st) h := by
  intro p e s m args below meth c R H locs ls hC hH hL hs hl hn0 hq0
  have kk := k p e s m args below meth c R H locs ls hC hH hL (nvs_cons (nm_tdiv (nvs_hd (nvs_tl hs)) hb) (nvs_tl (nvs_tl (hs)))) hl hn0 hq0
  rw [List.map_cons, show tv G (vI (a.tdiv b)) = .int _ from congrArg Value.int (tdivI (nvs_hd (nvs_tl hs)) (nvs_hd hs)).symm] at kk
  exact lv_idiv hC.1 hC.2.2.2.1 hd (neI (nvs_hd hs) (by omega)) kk
theorem wc_idivW {a b : Int} (hd : decode (mB y) pc = .ok (.idiv, 1)) (hb : b ≠ 0) (k : Wc G y d h0 post (pc + 1) L (vI (wr (a.tdiv b)) :: st) h) : Wc G y d h0 post pc L (vI b :: vI a :: st) h := by
  intro p e s m args below meth c R H locs ls hC hH hL hs hl hn0 hq0
  have kk := k p e s m args below meth c R H locs ls hC hH hL (nvs_cons (nm_wr _) (nvs_tl (nvs_tl (hs)))) hl hn0 hq0
  rw [List.map_cons, show tv G (vI (wr (a.tdiv b))) = .int _ from congrArg Value.int ((ofI _).trans (tdivI (nvs_hd (nvs_tl hs)) (nvs_hd hs)).symm)] at kk
  exact lv_idiv hC.1 hC.2.2.2.1 hd (neI (nvs_hd hs) hb) kk
theorem wc_irem {a b : Int} (hd : decode (mB y) pc = .ok (.irem, 1)) (hb : b ≠ 0) (k : Wc G y d h0 post (pc + 1) L (vI (a.tmod b) :: st) h) : Wc G y d h0 post pc L (vI b :: vI a :: st) h := by
  intro p e s m args below meth c R H locs ls hC hH hL hs hl hn0 hq0
  have kk := k p e s m args below meth c R H locs ls hC hH hL (nvs_cons (nm_tmod (nvs_hd (nvs_tl hs)) (nvs_hd hs)) (nvs_tl (nvs_tl (hs)))) hl hn0 hq0
  rw [List.map_cons, show tv G (vI (a.tmod b)) = .int _ from congrArg Value.int (tmodI (nvs_hd (nvs_tl hs)) (nvs_hd hs)).symm] at kk
  exact lv_irem hC.1 hC.2.2.2.1 hd (neI (nvs_hd hs) hb) kk
theorem wc_ineg {a : Int} (hd : decode (mB y) pc = .ok (.ineg, 1)) (hm : nm (-a)) (k : Wc G y d h0 post (pc + 1) L (vI (-a) :: st) h) : Wc G y d h0 post pc L (vI a :: st) h := by
  intro p e s m args below meth c R H locs ls hC hH hL hs hl hn0 hq0
  have kk := k p e s m args below meth c R H locs ls hC hH hL (nvs_cons (hm) (nvs_tl (hs))) hl hn0 hq0
  rw [List.map_cons, show tv G (vI (-a)) = .int _ from congrArg Value.int (Int32.ofInt_neg _)] at kk
  exact lv_ineg hC.1 hC.2.2.2.1 hd kk
theorem wc_ladd {a b : Int} (hd : decode (mB y) pc = .ok (.ladd, 1)) (hm : nl (a + b)) (k : Wc G y d h0 post (pc + 1) L (vL (a + b) :: st) h) : Wc G y d h0 post pc L (vL b :: vL a :: st) h := by
  intro p e s m args below meth c R H locs ls hC hH hL hs hl hn0 hq0
  have kk := k p e s m args below meth c R H locs ls hC hH hL (nvs_cons (hm) (nvs_tl (nvs_tl (hs)))) hl hn0 hq0
  rw [List.map_cons, show tv G (vL (a + b)) = .long (Int64.ofInt a + Int64.ofInt b) from congrArg Value.long (Int64.ofInt_add _ _)] at kk
  exact lv_ladd hC.1 hC.2.2.2.1 hd kk
theorem wc_lsub {a b : Int} (hd : decode (mB y) pc = .ok (.lsub, 1)) (hm : nl (a - b)) (k : Wc G y d h0 post (pc + 1) L (vL (a - b) :: st) h) : Wc G y d h0 post pc L (vL b :: vL a :: st) h := by
  intro p e s m args below meth c R H locs ls hC hH hL hs hl hn0 hq0
  have kk := k p e s m args below meth c R H locs ls hC hH hL (nvs_cons (hm) (nvs_tl (nvs_tl (hs)))) hl hn0 hq0
  rw [List.map_cons, show tv G (vL (a - b)) = .long (Int64.ofInt a - Int64.ofInt b) from congrArg Value.long (Int64.ofInt_sub _ _)] at kk
  exact lv_lsub hC.1 hC.2.2.2.1 hd kk
theorem wc_lmul {a b : Int} (hd : decode (mB y) pc = .ok (.lmul, 1)) (hm : nl (a * b)) (k : Wc G y d h0 post (pc + 1) L (vL (a * b) :: st) h) : Wc G y d h0 post pc L (vL b :: vL a :: st) h := by
  intro p e s m args below meth c R H locs ls hC hH hL hs hl hn0 hq0
  have kk := k p e s m args below meth c R H locs ls hC hH hL (nvs_cons (hm) (nvs_tl (nvs_tl (hs)))) hl hn0 hq0
  rw [List.map_cons, show tv G (vL (a * b)) = .long (Int64.ofInt a * Int64.ofInt b) from congrArg Value.long (Int64.ofInt_mul _ _)] at kk
  exact lv_lmul hC.1 hC.2.2.2.1 hd kk
theorem wc_lor {a b : Int} (hd : decode (mB y) pc = .ok (.lor, 1)) (k : Wc G y d h0 post (pc + 1) L (vL (lor a b) :: st) h) : Wc G y d h0 post pc L (vL b :: vL a :: st) h := by
  intro p e s m args below meth c R H locs ls hC hH hL hs hl hn0 hq0
  have kk := k p e s m args below meth c R H locs ls hC hH hL (nvs_cons (nl_toInt _) (nvs_tl (nvs_tl (hs)))) hl hn0 hq0
  rw [List.map_cons, show tv G (vL (lor a b)) = .long _ from congrArg Value.long (ofL _)] at kk
  exact lv_lor hC.1 hC.2.2.2.1 hd kk
theorem wc_ldiv {a b : Int} (hd : decode (mB y) pc = .ok (.ldiv, 1)) (hb : 0 < b) (k : Wc G y d h0 post (pc + 1) L (vL (a.tdiv b) :: st) h) : Wc G y d h0 post pc L (vL b :: vL a :: st) h := by
  intro p e s m args below meth c R H locs ls hC hH hL hs hl hn0 hq0
  have kk := k p e s m args below meth c R H locs ls hC hH hL (nvs_cons (nl_tdiv (nvs_hd (nvs_tl hs)) hb) (nvs_tl (nvs_tl (hs)))) hl hn0 hq0
  rw [List.map_cons, show tv G (vL (a.tdiv b)) = .long _ from congrArg Value.long (tdivL (nvs_hd (nvs_tl hs)) (nvs_hd hs)).symm] at kk
  exact lv_ldiv hC.1 hC.2.2.2.1 hd (neL (nvs_hd hs) (by omega)) kk
theorem wc_lrem {a b : Int} (hd : decode (mB y) pc = .ok (.lrem, 1)) (hb : b ≠ 0) (k : Wc G y d h0 post (pc + 1) L (vL (a.tmod b) :: st) h) : Wc G y d h0 post pc L (vL b :: vL a :: st) h := by
  intro p e s m args below meth c R H locs ls hC hH hL hs hl hn0 hq0
  have kk := k p e s m args below meth c R H locs ls hC hH hL (nvs_cons (nl_tmod (nvs_hd (nvs_tl hs)) (nvs_hd hs)) (nvs_tl (nvs_tl (hs)))) hl hn0 hq0
  rw [List.map_cons, show tv G (vL (a.tmod b)) = .long _ from congrArg Value.long (tmodL (nvs_hd (nvs_tl hs)) (nvs_hd hs)).symm] at kk
  exact lv_lrem hC.1 hC.2.2.2.1 hd (neL (nvs_hd hs) hb) kk
theorem wc_lshl {a b : Int} (hd : decode (mB y) pc = .ok (.lshl, 1)) (k : Wc G y d h0 post (pc + 1) L (vL (lshl a b) :: st) h) : Wc G y d h0 post pc L (vI b :: vL a :: st) h := by
  intro p e s m args below meth c R H locs ls hC hH hL hs hl hn0 hq0
  exact lv_lshl hC.1 hC.2.2.2.1 hd (ofL _).symm (k p e s m args below meth c R H locs ls hC hH hL (nvs_cons (nl_toInt _) (nvs_tl (nvs_tl (hs)))) hl hn0 hq0)
def lcm (a b : Int) : Int := if a < b then -1 else if a = b then 0 else 1
theorem nm_lcm (a b : Int) : nm (lcm a b) := by
  unfold lcm nm
  split
  · exact ⟨by decide, by decide⟩
  · split <;> exact ⟨by decide, by decide⟩
theorem lcmI {a b : Int} (ha : nl a) (hb : nl b) : lg_cmp (Int64.ofInt a) (Int64.ofInt b) = Int32.ofInt (lcm a b) := by
  unfold lg_cmp lcm
  have e1 : (Int64.ofInt a < Int64.ofInt b) ↔ a < b := by rw [Int64.lt_iff_toInt_lt, toL ha, toL hb]
  have e2 : (Int64.ofInt a = Int64.ofInt b) ↔ a = b := by rw [← Int64.toInt_inj, toL ha, toL hb]
  have e3 : (Int64.ofInt a > Int64.ofInt b) ↔ b < a := by rw [gt_iff_lt, Int64.lt_iff_toInt_lt, toL ha, toL hb]
  by_cases h1 : a < b
  · rw [if_pos h1, if_neg (fun z => by have := e3.mp z; omega), if_neg (fun z => by have := e2.mp z; omega)]
    rfl
  · rw [if_neg h1]
    by_cases h2 : a = b
    · rw [if_pos h2, if_neg (fun z => by have := e3.mp z; omega), if_pos (e2.mpr h2)]
      rfl
    · rw [if_neg h2, if_pos (e3.mpr (by omega))]
      rfl
theorem wc_lcmp {a b : Int} (hd : decode (mB y) pc = .ok (.lcmp, 1)) (k : Wc G y d h0 post (pc + 1) L (vI (lcm a b) :: st) h) : Wc G y d h0 post pc L (vL b :: vL a :: st) h := by
  intro p e s m args below meth c R H locs ls hC hH hL hs hl hn0 hq0
  have kk := k p e s m args below meth c R H locs ls hC hH hL (nvs_cons (nm_lcm a b) (nvs_tl (nvs_tl (hs)))) hl hn0 hq0
  rw [List.map_cons, show tv G (vI (lcm a b)) = .int _ from congrArg Value.int (lcmI (nvs_hd (nvs_tl hs)) (nvs_hd hs)).symm] at kk
  exact W.lcmp hC.1 hC.2.2.2.1 hd kk
theorem nl_nm {x : Int} (h : nm x) : nl x := ⟨by have := h.1; omega, by have := h.2; omega⟩
theorem i2lI {a : Int} (h : nm a) : (Int32.ofInt a).toInt64 = Int64.ofInt a := by
  apply Int64.toInt_inj.mp
  rw [Int32.toInt_toInt64, toI h, toL (nl_nm h)]
theorem wc_i2l {a : Int} (hd : decode (mB y) pc = .ok (.i2l, 1)) (k : Wc G y d h0 post (pc + 1) L (vL a :: st) h) : Wc G y d h0 post pc L (vI a :: st) h := by
  intro p e s m args below meth c R H locs ls hC hH hL hs hl hn0 hq0
  exact lv_i2l hC.1 hC.2.2.2.1 hd (i2lI (nvs_hd hs)) (k p e s m args below meth c R H locs ls hC hH hL (nvs_cons (nl_nm (nvs_hd hs)) (nvs_tl (hs))) hl hn0 hq0)
theorem wc_l2i {a : Int} (hd : decode (mB y) pc = .ok (.l2i, 1)) (k : Wc G y d h0 post (pc + 1) L (vI (l2i a) :: st) h) : Wc G y d h0 post pc L (vL a :: st) h := by
  intro p e s m args below meth c R H locs ls hC hH hL hs hl hn0 hq0
  exact lv_l2i hC.1 hC.2.2.2.1 hd (ofI _).symm (k p e s m args below meth c R H locs ls hC hH hL (nvs_cons (nm_toInt _) (nvs_tl (hs))) hl hn0 hq0)
theorem wc_i2b {a : Int} (hd : decode (mB y) pc = .ok (.i2b, 1)) (k : Wc G y d h0 post (pc + 1) L (vI (i2b a) :: st) h) : Wc G y d h0 post pc L (vI a :: st) h := by
  intro p e s m args below meth c R H locs ls hC hH hL hs hl hn0 hq0
  exact lv_i2b hC.1 hC.2.2.2.1 hd (ofI _).symm (k p e s m args below meth c R H locs ls hC hH hL (nvs_cons (nm_toInt _) (nvs_tl (hs))) hl hn0 hq0)
theorem wc_i2c {a : Int} (hd : decode (mB y) pc = .ok (.i2c, 1)) (k : Wc G y d h0 post (pc + 1) L (vI (i2c a) :: st) h) : Wc G y d h0 post pc L (vI a :: st) h := by
  intro p e s m args below meth c R H locs ls hC hH hL hs hl hn0 hq0
  exact lv_i2c hC.1 hC.2.2.2.1 hd (ofI _).symm (k p e s m args below meth c R H locs ls hC hH hL (nvs_cons (nm_toInt _) (nvs_tl (hs))) hl hn0 hq0)
def is1 (v : V) : Bool := match v with
  | .inr (.inl _) => false
  | _ => true
theorem cat1 {G : Gx} (g : Gok G) {v : V} (h : is1 v = true) : (tv G v).category = 1 := by
  rcases v with x | x | x
  · rfl
  · cases h
  · rcases tr_cases g x with z | ⟨r, z⟩ <;> (show (tr G x).category = 1; rw [z]; rfl)
theorem wc_dup {v : V} (hd : decode (mB y) pc = .ok (.dup, 1)) (h1 : is1 v = true) (k : Wc G y d h0 post (pc + 1) L (v :: v :: st) h) : Wc G y d h0 post pc L (v :: st) h := by
  intro p e s m args below meth c R H locs ls hC hH hL hs hl hn0 hq0
  exact lv_dup hC.1 hC.2.2.2.1 hd (cat1 hC.ok h1) (k p e s m args below meth c R H locs ls hC hH hL (nvs_cons (nvs_hd hs) hs) hl hn0 hq0)
theorem wc_pop {v : V} (hd : decode (mB y) pc = .ok (.pop, 1)) (h1 : is1 v = true) (k : Wc G y d h0 post (pc + 1) L (st) h) : Wc G y d h0 post pc L (v :: st) h := by
  intro p e s m args below meth c R H locs ls hC hH hL hs hl hn0 hq0
  exact lv_pop hC.1 hC.2.2.2.1 hd (cat1 hC.ok h1) (k p e s m args below meth c R H locs ls hC hH hL (nvs_tl hs) hl hn0 hq0)
theorem wc_dup_x1 {v w : V} (hd : decode (mB y) pc = .ok (.dup_x1, 1)) (h1 : is1 v = true) (h2 : is1 w = true) (k : Wc G y d h0 post (pc + 1) L (v :: w :: v :: st) h) : Wc G y d h0 post pc L (v :: w :: st) h := by
  intro p e s m args below meth c R H locs ls hC hH hL hs hl hn0 hq0
  exact lv_dup_x1 hC.1 hC.2.2.2.1 hd (cat1 hC.ok h1) (cat1 hC.ok h2) (k p e s m args below meth c R H locs ls hC hH hL (nvs_cons (nvs_hd hs) (nvs_cons (nvs_hd (nvs_tl hs)) (nvs_cons (nvs_hd hs) (nvs_tl (nvs_tl hs))))) hl hn0 hq0)
theorem wc_dup2 {v w : V} (hd : decode (mB y) pc = .ok (.dup2, 1)) (h1 : is1 v = true) (h2 : is1 w = true) (k : Wc G y d h0 post (pc + 1) L (v :: w :: v :: w :: st) h) : Wc G y d h0 post pc L (v :: w :: st) h := by
  intro p e s m args below meth c R H locs ls hC hH hL hs hl hn0 hq0
  exact lv_dup2_11 hC.1 hC.2.2.2.1 hd (cat1 hC.ok h1) (cat1 hC.ok h2) (k p e s m args below meth c R H locs ls hC hH hL (nvs_cons (nvs_hd hs) (nvs_cons (nvs_hd (nvs_tl hs)) hs)) hl hn0 hq0)
theorem wc_if_eq {x : Int} {off : Int} {tgt : Nat} (hd : decode (mB y) pc = .ok (.ifCond .eq off, 3)) (ht : (pc : Int) + off = (tgt : Int)) (kt : x = 0 → Wc G y d h0 post tgt L st h) (kf : ¬ (x = 0) → Wc G y d h0 post (pc + 3) L st h) : Wc G y d h0 post pc L (vI x :: st) h := by
  intro p e s m args below meth c R H locs ls hC hH hL hs hl hn0 hq0
  have hx : nm x := nvs_hd hs
  have hy : nm 0 := nm_0
  refine lv_if_eq hC.1 hC.2.2.2.1 hd ht (fun q => kt ?_ p e s m args below meth c R H locs ls hC hH hL (nvs_tl (hs)) hl hn0 hq0) (fun q => kf ?_ p e s m args below meth c R H locs ls hC hH hL (nvs_tl (hs)) hl hn0 hq0)
  · have z := (I_eq hx hy).mp q
    first | exact z | exact fun w => z w | omega
  · have z := fun z => q ((I_eq hx hy).mpr z)
    first | exact z | exact fun w => w z | exact fun w => z w | omega
theorem wc_icmp_eq {x y0 : Int} {off : Int} {tgt : Nat} (hd : decode (mB y) pc = .ok (.if_icmp .eq off, 3)) (ht : (pc : Int) + off = (tgt : Int)) (kt : x = y0 → Wc G y d h0 post tgt L st h) (kf : ¬ (x = y0) → Wc G y d h0 post (pc + 3) L st h) : Wc G y d h0 post pc L (vI y0 :: vI x :: st) h := by
  intro p e s m args below meth c R H locs ls hC hH hL hs hl hn0 hq0
  have hx : nm x := nvs_hd (nvs_tl hs)
  have hy : nm y0 := nvs_hd hs
  refine lv_icmp_eq hC.1 hC.2.2.2.1 hd ht (fun q => kt ?_ p e s m args below meth c R H locs ls hC hH hL (nvs_tl (nvs_tl (hs))) hl hn0 hq0) (fun q => kf ?_ p e s m args below meth c R H locs ls hC hH hL (nvs_tl (nvs_tl (hs))) hl hn0 hq0)
  · have z := (I_eq hx hy).mp q
    first | exact z | exact fun w => z w | omega
  · have z := fun z => q ((I_eq hx hy).mpr z)
    first | exact z | exact fun w => w z | exact fun w => z w | omega
theorem wc_if_ne {x : Int} {off : Int} {tgt : Nat} (hd : decode (mB y) pc = .ok (.ifCond .ne off, 3)) (ht : (pc : Int) + off = (tgt : Int)) (kt : x ≠ 0 → Wc G y d h0 post tgt L st h) (kf : ¬ (x ≠ 0) → Wc G y d h0 post (pc + 3) L st h) : Wc G y d h0 post pc L (vI x :: st) h := by
  intro p e s m args below meth c R H locs ls hC hH hL hs hl hn0 hq0
  have hx : nm x := nvs_hd hs
  have hy : nm 0 := nm_0
  refine lv_if_ne hC.1 hC.2.2.2.1 hd ht (fun q => kt ?_ p e s m args below meth c R H locs ls hC hH hL (nvs_tl (hs)) hl hn0 hq0) (fun q => kf ?_ p e s m args below meth c R H locs ls hC hH hL (nvs_tl (hs)) hl hn0 hq0)
  · have z := fun z => q ((I_eq hx hy).mpr z)
    first | exact z | exact fun w => z w | omega
  · have z := (I_eq hx hy).mp q
    first | exact z | exact fun w => w z | exact fun w => z w | omega
theorem wc_icmp_ne {x y0 : Int} {off : Int} {tgt : Nat} (hd : decode (mB y) pc = .ok (.if_icmp .ne off, 3)) (ht : (pc : Int) + off = (tgt : Int)) (kt : x ≠ y0 → Wc G y d h0 post tgt L st h) (kf : ¬ (x ≠ y0) → Wc G y d h0 post (pc + 3) L st h) : Wc G y d h0 post pc L (vI y0 :: vI x :: st) h := by
  intro p e s m args below meth c R H locs ls hC hH hL hs hl hn0 hq0
  have hx : nm x := nvs_hd (nvs_tl hs)
  have hy : nm y0 := nvs_hd hs
  refine lv_icmp_ne hC.1 hC.2.2.2.1 hd ht (fun q => kt ?_ p e s m args below meth c R H locs ls hC hH hL (nvs_tl (nvs_tl (hs))) hl hn0 hq0) (fun q => kf ?_ p e s m args below meth c R H locs ls hC hH hL (nvs_tl (nvs_tl (hs))) hl hn0 hq0)
  · have z := fun z => q ((I_eq hx hy).mpr z)
    first | exact z | exact fun w => z w | omega
  · have z := (I_eq hx hy).mp q
    first | exact z | exact fun w => w z | exact fun w => z w | omega
theorem wc_if_lt {x : Int} {off : Int} {tgt : Nat} (hd : decode (mB y) pc = .ok (.ifCond .lt off, 3)) (ht : (pc : Int) + off = (tgt : Int)) (kt : x < 0 → Wc G y d h0 post tgt L st h) (kf : ¬ (x < 0) → Wc G y d h0 post (pc + 3) L st h) : Wc G y d h0 post pc L (vI x :: st) h := by
  intro p e s m args below meth c R H locs ls hC hH hL hs hl hn0 hq0
  have hx : nm x := nvs_hd hs
  have hy : nm 0 := nm_0
  refine lv_if_lt hC.1 hC.2.2.2.1 hd ht (fun q => kt ?_ p e s m args below meth c R H locs ls hC hH hL (nvs_tl (hs)) hl hn0 hq0) (fun q => kf ?_ p e s m args below meth c R H locs ls hC hH hL (nvs_tl (hs)) hl hn0 hq0)
  · have z := (I_lt hx hy).mp q
    first | exact z | exact fun w => z w | omega
  · have z := fun z => q ((I_lt hx hy).mpr z)
    first | exact z | exact fun w => w z | exact fun w => z w | omega
theorem wc_icmp_lt {x y0 : Int} {off : Int} {tgt : Nat} (hd : decode (mB y) pc = .ok (.if_icmp .lt off, 3)) (ht : (pc : Int) + off = (tgt : Int)) (kt : x < y0 → Wc G y d h0 post tgt L st h) (kf : ¬ (x < y0) → Wc G y d h0 post (pc + 3) L st h) : Wc G y d h0 post pc L (vI y0 :: vI x :: st) h := by
  intro p e s m args below meth c R H locs ls hC hH hL hs hl hn0 hq0
  have hx : nm x := nvs_hd (nvs_tl hs)
  have hy : nm y0 := nvs_hd hs
  refine lv_icmp_lt hC.1 hC.2.2.2.1 hd ht (fun q => kt ?_ p e s m args below meth c R H locs ls hC hH hL (nvs_tl (nvs_tl (hs))) hl hn0 hq0) (fun q => kf ?_ p e s m args below meth c R H locs ls hC hH hL (nvs_tl (nvs_tl (hs))) hl hn0 hq0)
  · have z := (I_lt hx hy).mp q
    first | exact z | exact fun w => z w | omega
  · have z := fun z => q ((I_lt hx hy).mpr z)
    first | exact z | exact fun w => w z | exact fun w => z w | omega
theorem wc_if_ge {x : Int} {off : Int} {tgt : Nat} (hd : decode (mB y) pc = .ok (.ifCond .ge off, 3)) (ht : (pc : Int) + off = (tgt : Int)) (kt : 0 ≤ x → Wc G y d h0 post tgt L st h) (kf : ¬ (0 ≤ x) → Wc G y d h0 post (pc + 3) L st h) : Wc G y d h0 post pc L (vI x :: st) h := by
  intro p e s m args below meth c R H locs ls hC hH hL hs hl hn0 hq0
  have hx : nm x := nvs_hd hs
  have hy : nm 0 := nm_0
  refine lv_if_ge hC.1 hC.2.2.2.1 hd ht (fun q => kt ?_ p e s m args below meth c R H locs ls hC hH hL (nvs_tl (hs)) hl hn0 hq0) (fun q => kf ?_ p e s m args below meth c R H locs ls hC hH hL (nvs_tl (hs)) hl hn0 hq0)
  · have z := (I_le hy hx).mp q
    first | exact z | exact fun w => z w | omega
  · have z := fun z => q ((I_le hy hx).mpr z)
    first | exact z | exact fun w => w z | exact fun w => z w | omega
theorem wc_icmp_ge {x y0 : Int} {off : Int} {tgt : Nat} (hd : decode (mB y) pc = .ok (.if_icmp .ge off, 3)) (ht : (pc : Int) + off = (tgt : Int)) (kt : y0 ≤ x → Wc G y d h0 post tgt L st h) (kf : ¬ (y0 ≤ x) → Wc G y d h0 post (pc + 3) L st h) : Wc G y d h0 post pc L (vI y0 :: vI x :: st) h := by
  intro p e s m args below meth c R H locs ls hC hH hL hs hl hn0 hq0
  have hx : nm x := nvs_hd (nvs_tl hs)
  have hy : nm y0 := nvs_hd hs
  refine lv_icmp_ge hC.1 hC.2.2.2.1 hd ht (fun q => kt ?_ p e s m args below meth c R H locs ls hC hH hL (nvs_tl (nvs_tl (hs))) hl hn0 hq0) (fun q => kf ?_ p e s m args below meth c R H locs ls hC hH hL (nvs_tl (nvs_tl (hs))) hl hn0 hq0)
  · have z := (I_le hy hx).mp q
    first | exact z | exact fun w => z w | omega
  · have z := fun z => q ((I_le hy hx).mpr z)
    first | exact z | exact fun w => w z | exact fun w => z w | omega
theorem wc_if_gt {x : Int} {off : Int} {tgt : Nat} (hd : decode (mB y) pc = .ok (.ifCond .gt off, 3)) (ht : (pc : Int) + off = (tgt : Int)) (kt : 0 < x → Wc G y d h0 post tgt L st h) (kf : ¬ (0 < x) → Wc G y d h0 post (pc + 3) L st h) : Wc G y d h0 post pc L (vI x :: st) h := by
  intro p e s m args below meth c R H locs ls hC hH hL hs hl hn0 hq0
  have hx : nm x := nvs_hd hs
  have hy : nm 0 := nm_0
  refine lv_if_gt hC.1 hC.2.2.2.1 hd ht (fun q => kt ?_ p e s m args below meth c R H locs ls hC hH hL (nvs_tl (hs)) hl hn0 hq0) (fun q => kf ?_ p e s m args below meth c R H locs ls hC hH hL (nvs_tl (hs)) hl hn0 hq0)
  · have z := (I_lt hy hx).mp q
    first | exact z | exact fun w => z w | omega
  · have z := fun z => q ((I_lt hy hx).mpr z)
    first | exact z | exact fun w => w z | exact fun w => z w | omega
theorem wc_icmp_gt {x y0 : Int} {off : Int} {tgt : Nat} (hd : decode (mB y) pc = .ok (.if_icmp .gt off, 3)) (ht : (pc : Int) + off = (tgt : Int)) (kt : y0 < x → Wc G y d h0 post tgt L st h) (kf : ¬ (y0 < x) → Wc G y d h0 post (pc + 3) L st h) : Wc G y d h0 post pc L (vI y0 :: vI x :: st) h := by
  intro p e s m args below meth c R H locs ls hC hH hL hs hl hn0 hq0
  have hx : nm x := nvs_hd (nvs_tl hs)
  have hy : nm y0 := nvs_hd hs
  refine lv_icmp_gt hC.1 hC.2.2.2.1 hd ht (fun q => kt ?_ p e s m args below meth c R H locs ls hC hH hL (nvs_tl (nvs_tl (hs))) hl hn0 hq0) (fun q => kf ?_ p e s m args below meth c R H locs ls hC hH hL (nvs_tl (nvs_tl (hs))) hl hn0 hq0)
  · have z := (I_lt hy hx).mp q
    first | exact z | exact fun w => z w | omega
  · have z := fun z => q ((I_lt hy hx).mpr z)
    first | exact z | exact fun w => w z | exact fun w => z w | omega
theorem wc_if_le {x : Int} {off : Int} {tgt : Nat} (hd : decode (mB y) pc = .ok (.ifCond .le off, 3)) (ht : (pc : Int) + off = (tgt : Int)) (kt : x ≤ 0 → Wc G y d h0 post tgt L st h) (kf : ¬ (x ≤ 0) → Wc G y d h0 post (pc + 3) L st h) : Wc G y d h0 post pc L (vI x :: st) h := by
  intro p e s m args below meth c R H locs ls hC hH hL hs hl hn0 hq0
  have hx : nm x := nvs_hd hs
  have hy : nm 0 := nm_0
  refine lv_if_le hC.1 hC.2.2.2.1 hd ht (fun q => kt ?_ p e s m args below meth c R H locs ls hC hH hL (nvs_tl (hs)) hl hn0 hq0) (fun q => kf ?_ p e s m args below meth c R H locs ls hC hH hL (nvs_tl (hs)) hl hn0 hq0)
  · have z := (I_le hx hy).mp q
    first | exact z | exact fun w => z w | omega
  · have z := fun z => q ((I_le hx hy).mpr z)
    first | exact z | exact fun w => w z | exact fun w => z w | omega
theorem wc_icmp_le {x y0 : Int} {off : Int} {tgt : Nat} (hd : decode (mB y) pc = .ok (.if_icmp .le off, 3)) (ht : (pc : Int) + off = (tgt : Int)) (kt : x ≤ y0 → Wc G y d h0 post tgt L st h) (kf : ¬ (x ≤ y0) → Wc G y d h0 post (pc + 3) L st h) : Wc G y d h0 post pc L (vI y0 :: vI x :: st) h := by
  intro p e s m args below meth c R H locs ls hC hH hL hs hl hn0 hq0
  have hx : nm x := nvs_hd (nvs_tl hs)
  have hy : nm y0 := nvs_hd hs
  refine lv_icmp_le hC.1 hC.2.2.2.1 hd ht (fun q => kt ?_ p e s m args below meth c R H locs ls hC hH hL (nvs_tl (nvs_tl (hs))) hl hn0 hq0) (fun q => kf ?_ p e s m args below meth c R H locs ls hC hH hL (nvs_tl (nvs_tl (hs))) hl hn0 hq0)
  · have z := (I_le hx hy).mp q
    first | exact z | exact fun w => z w | omega
  · have z := fun z => q ((I_le hx hy).mpr z)
    first | exact z | exact fun w => w z | exact fun w => z w | omega
theorem wc_goto {off : Int} {tgt : Nat} (hd : decode (mB y) pc = .ok (.goto off, 3)) (ht : (pc : Int) + off = (tgt : Int)) (k : Wc G y d h0 post tgt L st h) : Wc G y d h0 post pc L st h := by
  intro p e s m args below meth c R H locs ls hC hH hL hs hl hn0 hq0
  exact lv_goto hC.1 hC.2.2.2.1 hd ht (k p e s m args below meth c R H locs ls hC hH hL (hs) hl hn0 hq0)
/-- a reference that is 0 or a thing that is there -/
def rok (h : Hp) (r : Nat) : Prop := r = 0 ∨ (0 < r ∧ r < hn h ∧ (hT h r ∈ cLs ∨ (70 ≤ hT h r ∧ hT h r ≤ 77)))
theorem ob_ref {G : Gx} {h : Hp} {H : Heap} (hH : HR G h H) {a : Nat} (h1 : a < hn h) (h2 : hT h a ∈ cLs ∨ (70 ≤ hT h a ∧ hT h a ≤ 77)) : tr G a = .ref (rho G a) := by
  have hc := hH.2.2.2.2.2.2.1 a h1
  rcases h2 with z | z
  · obtain ⟨cell, q, -⟩ := hc.1 z
    exact q
  · obtain ⟨cell, q, -⟩ := hc.2 z.1 z.2
    exact q
theorem wc_ifnull {r : Nat} {off : Int} {tgt : Nat} (hd : decode (mB y) pc = .ok (.ifnull off, 3)) (ht : (pc : Int) + off = (tgt : Int)) (hr : rok h r) (kt : r = 0 → Wc G y d h0 post tgt L st h) (kf : ¬ r = 0 → Wc G y d h0 post (pc + 3) L st h) : Wc G y d h0 post pc L (vR r :: st) h := by
  intro p e s m args below meth c R H locs ls hC hH hL hs hl hn0 hq0
  by_cases z : r = 0
  · have kk := kt z p e s m args below meth c R H locs ls hC hH hL (nvs_tl hs) hl hn0 hq0
    rw [List.map_cons, z, show tv G (vR 0) = .null from tr_0 hC.ok]
    exact lv_ifnullN hC.1 hC.2.2.2.1 hd ht kk
  · have kk := kf z p e s m args below meth c R H locs ls hC hH hL (nvs_tl hs) hl hn0 hq0
    rcases hr with w | w
    · exact absurd w z
    rw [List.map_cons, show tv G (vR r) = .ref (rho G r) from ob_ref hH w.2.1 w.2.2]
    exact lv_ifnull hC.1 hC.2.2.2.1 hd kk
theorem wc_ifnonnull {r : Nat} {off : Int} {tgt : Nat} (hd : decode (mB y) pc = .ok (.ifnonnull off, 3)) (ht : (pc : Int) + off = (tgt : Int)) (hr : rok h r) (kt : ¬ r = 0 → Wc G y d h0 post tgt L st h) (kf : r = 0 → Wc G y d h0 post (pc + 3) L st h) : Wc G y d h0 post pc L (vR r :: st) h := by
  intro p e s m args below meth c R H locs ls hC hH hL hs hl hn0 hq0
  by_cases z : r = 0
  · have kk := kf z p e s m args below meth c R H locs ls hC hH hL (nvs_tl hs) hl hn0 hq0
    rw [List.map_cons, z, show tv G (vR 0) = .null from tr_0 hC.ok]
    exact lv_ifnonnullN hC.1 hC.2.2.2.1 hd kk
  · have kk := kt z p e s m args below meth c R H locs ls hC hH hL (nvs_tl hs) hl hn0 hq0
    rcases hr with w | w
    · exact absurd w z
    rw [List.map_cons, show tv G (vR r) = .ref (rho G r) from ob_ref hH w.2.1 w.2.2]
    exact lv_ifnonnull hC.1 hC.2.2.2.1 hd ht kk
theorem wc_tableIn {dflt lo hi : Int} {offs : Array Int} {len : Nat} {x : Int} {off : Int} {tgt : Nat} (hd : decode (mB y) pc = .ok (.tableswitch dflt lo hi offs, len)) (h1 : ¬ x < lo) (h2 : ¬ hi < x) (ho : offs[(x - lo).toNat]? = some off) (ht : (pc : Int) + off = (tgt : Int)) (k : Wc G y d h0 post tgt L st h) : Wc G y d h0 post pc L (vI x :: st) h := by
  intro p e s m args below meth c R H locs ls hC hH hL hs hl hn0 hq0
  have hx : nm x := nvs_hd hs
  exact lv_tableIn hC.1 hC.2.2.2.1 hd (by rw [toI hx]; exact h1) (by rw [toI hx]; exact h2) (by rw [toI hx]; exact ho) ht (k p e s m args below meth c R H locs ls hC hH hL (nvs_tl hs) hl hn0 hq0)
theorem wc_tableOut {dflt lo hi : Int} {offs : Array Int} {len : Nat} {x : Int} {tgt : Nat} (hd : decode (mB y) pc = .ok (.tableswitch dflt lo hi offs, len)) (h1 : x < lo ∨ hi < x) (ht : (pc : Int) + dflt = (tgt : Int)) (k : Wc G y d h0 post tgt L st h) : Wc G y d h0 post pc L (vI x :: st) h := by
  intro p e s m args below meth c R H locs ls hC hH hL hs hl hn0 hq0
  have hx : nm x := nvs_hd hs
  exact lv_tableOut hC.1 hC.2.2.2.1 hd (by rw [toI hx]; exact h1) ht (k p e s m args below meth c R H locs ls hC hH hL (nvs_tl hs) hl hn0 hq0)
theorem wc_lookup {dflt : Int} {ps : Array (Int × Int)} {len : Nat} {x off : Int} {tgt : Nat} (hd : decode (mB y) pc = .ok (.lookupswitch dflt ps, len)) (hp : (ps.toList.zip (ps.toList.drop 1)).all (fun (a, next) => a.1 < next.1) = true) (ho : Op.lookupswitch.offset ps.toList dflt x = off) (ht : (pc : Int) + off = (tgt : Int)) (k : Wc G y d h0 post tgt L st h) : Wc G y d h0 post pc L (vI x :: st) h := by
  intro p e s m args below meth c R H locs ls hC hH hL hs hl hn0 hq0
  have hx : nm x := nvs_hd hs
  exact lv_lookup hC.1 hC.2.2.2.1 hd hp (by rw [toI hx]; exact ho) ht (k p e s m args below meth c R H locs ls hC hH hL (nvs_tl hs) hl hn0 hq0)
theorem wc_iret {v : Int} {ty : FieldType} (hd : decode (mB y) pc = .ok (.ireturn, 1)) (hr : mR y = some ty) (hnr : narrow ty (.int (Int32.ofInt v)) = .int (Int32.ofInt v)) (hp : post (rV (vI v)) h) : Wc G y d h0 post pc L [vI v] h := by
  intro p e s m args below meth c R H locs ls hC hH hL hs hl hn0 hq0
  have hlk := hC.2.2.2.2.2.2.1
  exact wc_ret_core (d := d) (y := y) (rV (vI v)) hp (nvs_hd hs) hn0 hq0 (W.zret (v := Int32.ofInt v) hC.1 hC.2.2.2.1 (hC.2.2.2.2.2.1.trans hr) hnr (fun t ht _ => ⟨rfl, by rw [ht]; exact hH⟩) hl hd)
theorem wc_lret {v : Int} (hd : decode (mB y) pc = .ok (.lreturn, 1)) (hr : mR y = some .long) (hp : post (rV (vL v)) h) : Wc G y d h0 post pc L [vL v] h := by
  intro p e s m args below meth c R H locs ls hC hH hL hs hl hn0 hq0
  have hlk := hC.2.2.2.2.2.2.1
  exact wc_ret_core (d := d) (y := y) (rV (vL v)) hp (nvs_hd hs) hn0 hq0 (W.lret (v := Int64.ofInt v) hC.1 hC.2.2.2.1 (hC.2.2.2.2.2.1.trans hr) (fun t ht _ => ⟨rfl, by rw [ht]; exact hH⟩) hl hd)
theorem wc_aret {r : Nat} {ty : FieldType} (hd : decode (mB y) pc = .ok (.areturn, 1)) (hr : mR y = some ty) (hrt : (∃ n, ty = .object n) ∨ ∃ t, ty = .array t) (hp : post (rV (vR r)) h) : Wc G y d h0 post pc L [vR r] h := by
  intro p e s m args below meth c R H locs ls hC hH hL hs hl hn0 hq0
  have hlk := hC.2.2.2.2.2.2.1
  exact wc_ret_core (d := d) (y := y) (rV (vR r)) hp trivial hn0 hq0 (W.aret (v := tr G r) hC.1 hC.2.2.2.1 (hC.2.2.2.2.2.1.trans hr) hrt (tr_cases hC.ok r) (fun t ht _ => ⟨rfl, by rw [ht]; exact hH⟩) hl hd)
theorem wc_vret (hd : decode (mB y) pc = .ok (.return_, 1)) (hr : mR y = none) (hp : post rN h) : Wc G y d h0 post pc L [] h := by
  intro p e s m args below meth c R H locs ls hC hH hL hs hl hn0 hq0
  have hlk := hC.2.2.2.2.2.2.1
  exact wc_ret_core (d := d) (y := y) rN hp trivial hn0 hq0 (W.vret hC.1 hC.2.2.2.1 (hC.2.2.2.2.2.1.trans hr) (fun t ht _ => ⟨rfl, by rw [ht]; exact hH⟩) hl hd)
theorem nar_int (v : Int) : narrow .int (.int (Int32.ofInt v)) = .int (Int32.ofInt v) := rfl
theorem nar_bool {v : Int} (h : v = 0 ∨ v = 1) : narrow .boolean (.int (Int32.ofInt v)) = .int (Int32.ofInt v) := by
  rcases h with rfl | rfl <;> rfl
theorem bool_b2i (c : Prop) [Decidable c] : b2i c = 0 ∨ b2i c = 1 := by
  unfold b2i
  split
  · exact Or.inr rfl
  · exact Or.inl rfl
end RL
