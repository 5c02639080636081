set_option maxRecDepth 100000
set_option maxHeartbeats 1000000
/-! OWN LAYER, 3: rules for instructions that touch the heap -/
theorem tr_new {G : Gx} {a : Nat} (hk : K0 ≤ a) : tr G a = .ref (gB G + (a - K0)) := by
  unfold tr
  rw [if_neg (by omega)]
theorem rho_new {G : Gx} {a : Nat} (hk : K0 ≤ a) : rho G a = gB G + (a - K0) := by
  unfold rho
  rw [tr_new hk]
theorem tr_rho {G : Gx} {a : Nat} (hk : K0 ≤ a) : tr G a = .ref (rho G a) := by rw [rho_new hk, tr_new hk]
theorem rho_lt {G : Gx} {h : Hp} {H : Heap} (hH : HR G h H) {a : Nat} (ha : a < hn h) (hk : K0 ≤ a) : rho G a < H.size := by
  have h1 := hH.2.2.2.1
  rw [rho_new hk, h1]
  omega
theorem rho_ge {G : Gx} {a : Nat} (hk : K0 ≤ a) : gB G ≤ rho G a := by
  rw [rho_new hk]
  omega
theorem rho_ne {G : Gx} {h : Hp} {H : Heap} (hH : HR G h H) {a b : Nat} (hk : K0 ≤ a) (hb : hT h b ≠ 0) (hne : b ≠ a) : rho G b ≠ rho G a := by
  by_cases hbk : b < K0
  · have h1 := hH.2.2.2.2.2.1 b hbk hb
    have h2 := rho_ge (G := G) hk
    omega
  · rw [rho_new hk, rho_new (by omega)]
    omega
theorem cellR.kept {G : Gx} {h h' : Hp} {a : Nat} {H H' : Heap} (hc : cellR G h a H) (hT' : hT h' a = hT h a) (hN' : hN h' a = hN h a) (hf : ∀ ty j, fv G h' a ty j = fv G h a ty j) (hH : hT h a ≠ 0 → H'[rho G a]? = H[rho G a]?) : cellR G h' a H' := by
  refine ⟨fun hk => ?_, fun h1 h2 => ?_⟩
  · rw [hT'] at hk ⊢
    have h0 : hT h a ≠ 0 := fun z => by rw [z] at hk; exact absurd hk (by decide)
    obtain ⟨cell, q0, q1, q2, q3, q4, q5, q6⟩ := hc.1 hk
    exact ⟨cell, q0, by rw [hH h0]; exact q1, q2, q3, q4, fun j hj => by rw [hf]; exact q5 j hj, q6⟩
  · rw [hT'] at h1 h2 ⊢
    have h0 : hT h a ≠ 0 := by omega
    obtain ⟨cell, q0, q1, q2, q3, q4, q5, q6⟩ := hc.2 h1 h2
    exact ⟨cell, q0, by rw [hH h0]; exact q1, q2, q3, by rw [hN']; exact q4, fun j hj => by rw [hN'] at hj; rw [hf]; exact q5 j hj, q6⟩
/-- a cell of the run is written -/
theorem HR.set {G : Gx} {h h' : Hp} {H H' : Heap} (hH : HR G h H) {a : Nat} (hk : K0 ≤ a) (e1 : hn h' = hn h) (e2 : hq h' = hq h) (e3 : ∀ b, hT h' b = hT h b) (e4 : ∀ b, hN h' b = hN h b) (e5 : ∀ b ty j, b ≠ a → fv G h' b ty j = fv G h b ty j)
    (s1 : H'.size = H.size) (s2 : ∀ q, q ≠ rho G a → H'[q]? = H[q]?) (hc : cellR G h' a H') (n1 : ∀ b j, nm (hI h' b j)) (n2 : ∀ b j, nl (hL h' b j)) (kf : gF G = true → KF h → KF h') (hz : ∀ cell, H'[rho G a]? = some cell → cell.vm.isStatics = false) : HR G h' H' := by
  obtain ⟨c1, c2, c3, c4, c5, c6, c7, c8, c9, c10, c11, c12⟩ := id hH
  refine ⟨by rw [e1]; exact c1, by rw [e1]; exact c2, by rw [e2]; exact c3, by rw [s1, e1]; exact c4, fun q hq => ?_, fun b hb h0 => c6 b hb (by rw [← e3]; exact h0), fun b hb => ?_, n1, n2, fun z => kf z (c10 z), fun b hb => by rw [e3]; exact c11 b hb, fun q cell hq hc2 => ?_⟩
  · rw [s2 q (by have := rho_ge (G := G) hk; omega)]
    exact c5 q hq
  · by_cases hba : b = a
    · subst hba
      exact hc
    · rw [e1] at hb
      exact (c7 b hb).kept (e3 b) (e4 b) (fun ty j => e5 b ty j hba) (fun h0 => s2 _ (rho_ne hH hk h0 hba))
  · by_cases hqa : q = rho G a
    · rw [hqa] at hc2
      exact hz cell hc2
    · rw [s2 q hqa] at hc2
      exact c12 q cell hq hc2
theorem gI_inj {G : Gx} (g : Gok G) {k : Nat} (hk : k ∈ cLs) : ∀ x z, x < cNf k → z < cNf k → x ≠ z → gI G k x ≠ gI G k z := by
  have hK : va_K ((fun _ => gC G k), (fun _ => gI G k)) [(cNm k, cTb k, cNf k)] [] (gs G) := by
    refine ⟨fun c q hq => ?_, fun c q hq => by simp at hq⟩
    cases c with
    | zero => cases hq; exact g.2.1 k hk
    | succ c => simp at hq
  exact va_apart (own := "") (args := #[]) g.1 (fun w hw => lw_all_tbl (cIn k hk w hw)) (cTy k) (cTo k hk) (cNn k hk) hK (ci := 0) rfl
theorem wd {G : Gx} {s : State} {A : Array Value} (g : Gok G) (hW : (gs G).WarmedH s.vm) {w : Cond} (h : w ∈ lw_all) : w.before A s = true :=
  word_at hW (good_of_word (List.mem_filter.mp h).2) (g.1 w (lw_all_tbl h))
theorem kn {G : Gx} {s : State} (g : Gok G) (hW : (gs G).WarmedH s.vm) {k : Nat} (hk : k ∈ cLs) : u_Kn s (cNm k) (cTb k) (cNf k) (gC G k) (gI G k) := u_Kn_moved hW.alike (g.2.1 k hk)
theorem lay {G : Gx} {s : State} {A : Array Value} (g : Gok G) (hW : (gs G).WarmedH s.vm) {k j : Nat} (hk : k ∈ cLs) (hj : j < cNf k) : (Cond.lays (cNm k) (cTb k j).1 (cTb k j).2.1 (cTb k j).2.2.1).before A s = true ∨ (Cond.laysFinal (cNm k) (cTb k j).1 (cTb k j).2.1 (cTb k j).2.2.1).before A s = true :=
  u_lays (ws := lw_all) (fun w h => wd g hW h) (cIn k hk) hj
/-- the entry idx of the class own's pool names field j of the numbered class k -/
def Fl (own : String) (idx k j : Nat) : Prop := k ∈ cLs ∧ j < cNf k ∧ ((Cond.fieldLink own idx (cTb k j).1 (cTb k j).2.1 (cTb k j).2.2.1 ∈ lw_all) ∨ (∃ ref, Cond.fieldLink own idx ref (cTb k j).2.1 (cTb k j).2.2.1 ∈ lw_all ∧ Cond.sameField ref (cTb k j).1 (cTb k j).2.1 (cTb k j).2.2.1 ∈ lw_all) ∨ ∃ host, Cond.fieldLinkNest own idx (cTb k j).1 (cTb k j).2.1 (cTb k j).2.2.1 host ∈ lw_tbl)
def isI (ty : FieldType) : Bool := match ty with
  | .int => true
  | .byte => true
  | .boolean => true
  | .char => true
  | .short => true
  | _ => false
def isA (ty : FieldType) : Bool := match ty with
  | .object _ => true
  | .array _ => true
  | _ => false
theorem fv_I {G : Gx} {h : Hp} {a j : Nat} {ty : FieldType} (ht : isI ty = true) : fv G h a ty j = tv G (vI (hI h a j)) := by
  cases ty <;> first | rfl | cases ht
theorem fv_A {G : Gx} {h : Hp} {a j : Nat} {ty : FieldType} (ht : isA ty = true) : fv G h a ty j = tv G (vR (hR h a j)) := by
  cases ty <;> first | rfl | cases ht
theorem tr_fits {G : Gx} (g : Gok G) (r : Nat) {ty : FieldType} (ht : isA ty = true) : narrow ty (tr G r) = tr G r ∧ fits ty (tr G r) = true := by
  rcases tr_cases g r with z | ⟨q, z⟩ <;> rw [z] <;> cases ty <;> first | exact ⟨rfl, rfl⟩ | cases ht
theorem findC {s : State} {x : MethodName} {m : MethodId} (h : s.methodNamed? x = some m) : s.vm.findClass x.cls = some m.cls := findClass_of_methodNamed h
theorem KF_sI {h : Hp} {a i : Nat} {v : Int} (k : KF h) : KF (sI h a i v) := k
theorem KF_sL {h : Hp} {a i : Nat} {v : Int} (k : KF h) : KF (sL h a i v) := k
theorem kFld_tag : ∀ q ∈ kFld, ∃ t n, (q.1, t, n) ∈ kArr ∧ (t = 1 ∨ t = 3 ∨ t = 4) := by
  intro q hq
  have h : ∀ q ∈ kFld, q.1 = 50 ∨ q.1 = 70 ∨ q.1 = 75 := by decide +kernel
  rcases h q hq with z | z | z <;> rw [z]
  · exact ⟨1, 0, by decide +kernel, Or.inl rfl⟩
  · exact ⟨3, 0, by decide +kernel, Or.inr (Or.inl rfl)⟩
  · exact ⟨4, 0, by decide +kernel, Or.inr (Or.inr rfl)⟩
theorem KF_sR {h : Hp} {a i v : Nat} (k : KF h) (ht : hT h a ≠ 1 ∧ hT h a ≠ 3 ∧ hT h a ≠ 4) : KF (sR h a i v) := by
  refine ⟨fun q hq => ?_, k.2⟩
  obtain ⟨t, n, h1, h2⟩ := kFld_tag q hq
  have h3 : hT h q.1 = t := (k.2 _ h1).1.2.2
  rw [hR_sR, if_neg, k.1 q hq]
  rintro ⟨z, -⟩
  rw [z] at h3
  rcases h2 with e | e | e <;> rw [e] at h3
  · exact ht.1 h3
  · exact ht.2.1 h3
  · exact ht.2.2 h3
theorem KF_nw {h : Hp} {t m q : Nat} (k : KF h) : KF (nw h t m q) := by
  have hlt : ∀ z ∈ kArr, z.1 ≠ hn h := fun z hz e => by
    have := (k.2 z hz).1.2.1
    omega
  refine ⟨fun z hz => ?_, fun z hz => ?_⟩
  · obtain ⟨t, n, h1, h2⟩ := kFld_tag z hz
    rw [hR_nw, if_neg (hlt _ h1), k.1 z hz]
  · obtain ⟨⟨q1, q2, q3⟩, q4⟩ := k.2 z hz
    refine ⟨⟨q1, by rw [hn_nw]; omega, ?_⟩, ?_⟩
    · rw [hT_nw, if_neg (hlt z hz), q3]
    · rw [hN_nw, if_neg (hlt z hz), q4]
theorem kTag_in : ∀ a, a < K0 → kTag a ∈ [0, 43, 70, 71, 74] := by decide +kernel
theorem ob_new {G : Gx} {h : Hp} {H : Heap} (hH : HR G h H) {a k : Nat} (ho : ob h a k) (hk : k ∉ [0, 43, 70, 71, 74]) : K0 ≤ a := by
  by_cases z : a < K0
  · exfalso
    have h1 := hH.2.2.2.2.2.2.2.2.2.2.1 a z
    have h2 := kTag_in a z
    rw [← h1, ho.2.2] at h2
    exact hk h2
  · omega
theorem ob_k0 {k : Nat} (h : k ∈ cLs) : k ≠ 0 := fun z => by rw [z] at h; exact absurd h (by decide)
section RH
variable {G : Gx} {y : Mt} {d : Nat} {h0 : Hp} {post : Rs → Hp → Prop} {pc : Nat} {L : List (Option V)} {st : List V} {h : Hp}
theorem wc_get0 {idx k j a : Nat} {v : V} (hd : decode (mB y) pc = .ok (.getfield idx, 3)) (hf : Fl (mY y).cls idx k j) (ho : ob h a k) (hv : ∀ G : Gx, fv G h a (cTy k j) j = tv G v) (hnv : (∀ a j, nm (hI h a j)) → (∀ a j, nl (hL h a j)) → nv v)
    (kk : Wc G y d h0 post (pc + 3) L (v :: st) h) : Wc G y d h0 post pc L (vR a :: st) h := by
  intro p e s m args below meth c R H locs ls hC hH hL hs hl hn0 hq0
  obtain ⟨ho0, ho1, ho2⟩ := ho
  obtain ⟨cell, q0, q1, q2, q3, q4, q5, -⟩ := (hH.2.2.2.2.2.2.1 a ho1).1 (by rw [ho2]; exact hf.1)
  rw [ho2] at q2 q5
  have hW := hC.2.1
  have g : Gok G := hC.ok
  obtain ⟨hS, hfc, kC, hkC, hkind⟩ := kn g hW hf.1
  obtain ⟨cf, kf, fi, f, hi, hsl⟩ := hS j hf.2.1
  have hst := (u_facts hfc hkC (lay (A := args) g hW hf.1 hf.2.1) hi).1
  have hsv : cell.slots[f.slot]? = some (tv G v) := by rw [hsl, q5 j hf.2.1, hv]
  have w := kk p e s m args below meth c R H locs ls hC hH hL (nvs_cons (hnv hH.2.2.2.2.2.2.2.1 hH.2.2.2.2.2.2.2.2.1) (nvs_tl hs)) hl hn0 hq0
  rw [List.map_cons, show tv G (vR a) = .ref (rho G a) from q0]
  rcases hf.2.2 with h1 | ⟨ref, h1, h2⟩ | ⟨host, h1⟩
  · exact W.getf hC.1 hC.2.2.2.1 (findC hC.2.2.1) (wd g hW h1) hi hst q1 q3 hsv rfl rfl hd w
  · exact W.getf hC.1 hC.2.2.2.1 (findC hC.2.2.1) (wd g hW h1) (u_same (wd (A := args) g hW h2) _ hi) hst q1 q3 hsv rfl rfl hd w
  · exact va_Wgetf hC.1 hC.2.2.2.1 (findC hC.2.2.1) (va_Nw.use rfl (va_Nw.warmF hW (g.1 _ h1))) hi hst q1 q3 hsv rfl rfl hd w
theorem wc_getI {idx k j a : Nat} (hd : decode (mB y) pc = .ok (.getfield idx, 3)) (hf : Fl (mY y).cls idx k j) (ht : isI (cTy k j) = true) (ho : ob h a k)
    (kk : Wc G y d h0 post (pc + 3) L (vI (hI h a j) :: st) h) : Wc G y d h0 post pc L (vR a :: st) h := wc_get0 hd hf ho (fun G => fv_I ht) (fun z _ => z a j) kk
theorem wc_getR {idx k j a : Nat} (hd : decode (mB y) pc = .ok (.getfield idx, 3)) (hf : Fl (mY y).cls idx k j) (ht : isA (cTy k j) = true) (ho : ob h a k)
    (kk : Wc G y d h0 post (pc + 3) L (vR (hR h a j) :: st) h) : Wc G y d h0 post pc L (vR a :: st) h := wc_get0 hd hf ho (fun G => fv_A ht) (fun _ _ => trivial) kk
theorem wc_getL {idx k j a : Nat} (hd : decode (mB y) pc = .ok (.getfield idx, 3)) (hf : Fl (mY y).cls idx k j) (ht : cTy k j = .long) (ho : ob h a k)
    (kk : Wc G y d h0 post (pc + 3) L (vL (hL h a j) :: st) h) : Wc G y d h0 post pc L (vR a :: st) h := wc_get0 (v := vL (hL h a j)) hd hf ho (fun G => by rw [ht]; rfl) (fun _ z => z a j) kk
/-- facts that hold in every memory of a run once the objects are made -/
theorem wc_kf (hg : gF G = true) (kk : KF h → Wc G y d h0 post pc L st h) : Wc G y d h0 post pc L st h := by
  intro p e s m args below meth c R H locs ls hC hH
  exact kk (hH.2.2.2.2.2.2.2.2.2.1 hg) p e s m args below meth c R H locs ls hC hH
theorem wc_nm (kk : (∀ a j, nm (hI h a j)) → Wc G y d h0 post pc L st h) : Wc G y d h0 post pc L st h := by
  intro p e s m args below meth c R H locs ls hC hH
  exact kk hH.2.2.2.2.2.2.2.1 p e s m args below meth c R H locs ls hC hH
/-- a field of an object whose address is known for good -/
theorem wc_getKI {idx k j a n : Nat} (hg : gF G = true) (hd : decode (mB y) pc = .ok (.getfield idx, 3)) (hf : Fl (mY y).cls idx k j) (ht : isI (cTy k j) = true) (ho : (a, k, n) ∈ kArr)
    (kk : Wc G y d h0 post (pc + 3) L (vI (hI h a j) :: st) h) : Wc G y d h0 post pc L (vR a :: st) h := wc_kf hg fun z => wc_getI hd hf ht (z.2 _ ho).1 kk
theorem wc_getKL {idx k j a n : Nat} (hg : gF G = true) (hd : decode (mB y) pc = .ok (.getfield idx, 3)) (hf : Fl (mY y).cls idx k j) (ht : cTy k j = .long) (ho : (a, k, n) ∈ kArr)
    (kk : Wc G y d h0 post (pc + 3) L (vL (hL h a j) :: st) h) : Wc G y d h0 post pc L (vR a :: st) h := wc_kf hg fun z => wc_getL hd hf ht (z.2 _ ho).1 kk
theorem wc_getKR {idx k j a n v : Nat} (hg : gF G = true) (hd : decode (mB y) pc = .ok (.getfield idx, 3)) (hf : Fl (mY y).cls idx k j) (ht : isA (cTy k j) = true) (ho : (a, k, n) ∈ kArr) (hv : (a, j, v) ∈ kFld)
    (kk : Wc G y d h0 post (pc + 3) L (vR v :: st) h) : Wc G y d h0 post pc L (vR a :: st) h := wc_kf hg fun z => wc_getR hd hf ht (z.2 _ ho).1 (by rw [show hR h a j = v from z.1 _ hv]; exact kk)
theorem wc_put0 {idx k j a : Nat} {v : V} {h' : Hp} (hd : decode (mB y) pc = .ok (.putfield idx, 3)) (hf : Fl (mY y).cls idx k j) (hfin : (cTb k j).2.2.2 = false ∨ ((cTb k j).2.2.2 = true ∧ (cTb k j).1 = (mY y).cls ∧ (mY y).name = "<init>")) (ho : ob h a k) (hk : K0 ≤ a)
    (hfit : Gok G → narrow (cTy k j) (tv G v) = tv G v ∧ fits (cTy k j) (tv G v) = true)
    (e1 : hn h' = hn h) (e2 : hq h' = hq h) (e3 : ∀ b, hT h' b = hT h b) (e4 : ∀ b, hN h' b = hN h b) (e5 : ∀ b ty i, b ≠ a → fv G h' b ty i = fv G h b ty i) (e6 : ∀ ty i, i ≠ j → fv G h' a ty i = fv G h a ty i) (e7 : fv G h' a (cTy k j) j = tv G v)
    (e8 : nv v → (∀ b j, nm (hI h b j)) → ∀ b j, nm (hI h' b j)) (e9 : nv v → (∀ b j, nl (hL h b j)) → ∀ b j, nl (hL h' b j)) (e10 : gF G = true → KF h → KF h')
    (kk : Wc G y d h0 post (pc + 3) L st h') : Wc G y d h0 post pc L (v :: vR a :: st) h := by
  intro p e s m args below meth c R H locs ls hC hH hL hs hl hn0 hq0
  obtain ⟨ho0, ho1, ho2⟩ := ho
  obtain ⟨cell, q0, q1, q2, q3, q4, q5, q6⟩ := (hH.2.2.2.2.2.2.1 a ho1).1 (by rw [ho2]; exact hf.1)
  rw [ho2] at q2 q5
  have hW := hC.2.1
  have g : Gok G := hC.ok
  have hfit := hfit g
  have q7 := q6 hk
  obtain ⟨hS, hfc, kC, hkC, hkind⟩ := kn g hW hf.1
  obtain ⟨cf, kf, fi, f, hi, hsl⟩ := hS j hf.2.1
  have hst := (u_facts hfc hkC (lay (A := args) g hW hf.1 hf.2.1) hi).1
  have hlt : f.slot < cell.slots.size := by rw [hsl]; exact k2_hasslot (q5 j hf.2.1)
  have hlay := wd (A := args) g hW (cIn k hf.1 _ (u_in_lay hf.2.1))
  unfold u_lay at hlay
  have h6 := u_fits hfc hkC hkind (lay (A := args) g hW hf.1 hf.2.1) hi (cTo k hf.1 j hf.2.1) hfit.1 hfit.2
  have hflag : hasFlag f.accessFlags Acc.final = false ∨ (m.cls = cf ∧ meth.name = "<init>") := by
    rcases hfin with z | ⟨z, z1, z2⟩
    · rw [if_neg (by rw [z]; decide)] at hlay
      exact Or.inl (u_store hfc hkC hkind hlay hi (cTo k hf.1 j hf.2.1) hfit.1 hfit.2).1
    · refine Or.inr ⟨?_, hC.2.2.2.2.2.2.2.2.1.trans z2⟩
      rw [if_pos z] at hlay
      obtain ⟨_, _, c', _, _, _, -, -, hf', -, -, -, hown2, -⟩ := Cond.laysFinal_spec hlay
      have e1 : c' = cf := by have := hi.symm.trans hf'; simp at this; exact this.1.symm
      rw [z1] at hown2
      rw [← e1]
      exact Option.some.inj ((findC hC.2.2.1).symm.trans hown2)
  have hlt2 : rho G a < H.size := (Array.getElem?_eq_some_iff.mp q1).1
  have w : W p (gl G) e R s m args below meth c (H.setIfInBounds (rho G a) (cell.setSlot f.slot (tv G v))) (locs ++ [⟨rho G a, f.slot⟩]) (hn h - hn h0) (hq h - hq h0) (MQx G h0 s below post) (F0 m (pc + 3) ls (st.map (tv G))) := by
    rw [← e1, ← e2]
    refine kk p e s m args below meth c R _ _ ls hC ?_ hL (nvs_tl (nvs_tl hs)) ?_ (by rw [e1]; exact hn0) (by rw [e2]; exact hq0)
    · refine hH.set hk e1 e2 e3 e4 e5 (by simp) (fun q hq => by simp [Array.getElem?_setIfInBounds, Ne.symm hq]) ⟨fun _ => ?_, fun z1 z2 => ?_⟩ (e8 (nvs_hd hs) hH.2.2.2.2.2.2.2.1) (e9 (nvs_hd hs) hH.2.2.2.2.2.2.2.2.1) e10 (fun cl hcl => by simp [Array.getElem?_setIfInBounds, hlt2] at hcl; rw [← hcl]; exact q4)
      · rw [e3, ho2]
        refine ⟨cell.setSlot f.slot (tv G v), q0, by simp [Array.getElem?_setIfInBounds, hlt2], q2, q3, q4, fun i hi2 => ?_, fun _ => q7⟩
        have h9 := t_set q5 (gI_inj g hf.1) hf.2.1 (tv G v) i hi2
        rw [hsl, h9]
        unfold updV
        split
        · rename_i z
          subst z
          rw [e7]
        · rename_i z
          rw [e6 _ _ z]
      · rw [e3, ho2] at z1 z2
        exfalso
        have : ∀ k ∈ cLs, ¬ 70 ≤ k := by decide
        exact this k hf.1 z1
    · intro q hq
      rcases List.mem_append.mp hq with z | z
      · exact hl q z
      · rw [List.mem_singleton.mp z]
        exact rho_ge hk
  rw [List.map_cons, List.map_cons, show tv G (vR a) = .ref (rho G a) from q0]
  rcases hf.2.2 with h1 | ⟨ref, h1, h2⟩ | ⟨host, h1⟩
  · exact W.putf hC.1 hC.2.2.2.1 (findC hC.2.2.1) (wd g hW h1) hi hst hflag q1 q3 hlt h6.1 (by rw [q7, q2]; exact h6.2) rfl rfl hd w
  · exact W.putf hC.1 hC.2.2.2.1 (findC hC.2.2.1) (wd g hW h1) (u_same (wd (A := args) g hW h2) _ hi) hst hflag q1 q3 hlt h6.1 (by rw [q7, q2]; exact h6.2) rfl rfl hd w
  · exact va_Wputf hC.1 hC.2.2.2.1 (findC hC.2.2.1) (va_Nw.use rfl (va_Nw.warmF hW (g.1 _ h1))) hi hst hflag q1 q3 hlt h6.1 (by rw [q7, q2]; exact h6.2) rfl rfl hd w
theorem fv_sI {G : Gx} {h : Hp} {a i : Nat} {v : Int} {b : Nat} {ty : FieldType} {j : Nat} (hne : ¬ (b = a ∧ j = i)) : fv G (sI h a i v) b ty j = fv G h b ty j := by
  cases ty <;> simp only [fv, hI_sI, hL_sI, hR_sI, if_neg hne]
theorem fv_sL {G : Gx} {h : Hp} {a i : Nat} {v : Int} {b : Nat} {ty : FieldType} {j : Nat} (hne : ¬ (b = a ∧ j = i)) : fv G (sL h a i v) b ty j = fv G h b ty j := by
  cases ty <;> simp only [fv, hI_sL, hL_sL, hR_sL, if_neg hne]
theorem fv_sR {G : Gx} {h : Hp} {a i : Nat} {v : Nat} {b : Nat} {ty : FieldType} {j : Nat} (hne : ¬ (b = a ∧ j = i)) : fv G (sR h a i v) b ty j = fv G h b ty j := by
  cases ty <;> simp only [fv, hI_sR, hL_sR, hR_sR, if_neg hne]
theorem nm_sI {h : Hp} {a i : Nat} {v : Int} (hv : nm v) (hh : ∀ b j, nm (hI h b j)) : ∀ b j, nm (hI (sI h a i v) b j) := by
  intro b j
  rw [hI_sI]
  split
  · exact hv
  · exact hh b j
theorem nl_sL {h : Hp} {a i : Nat} {v : Int} (hv : nl v) (hh : ∀ b j, nl (hL h b j)) : ∀ b j, nl (hL (sL h a i v) b j) := by
  intro b j
  rw [hL_sL]
  split
  · exact hv
  · exact hh b j
/-- an int fits a field's type -/
def okI (ty : FieldType) (x : Int) : Prop := narrow ty (.int (Int32.ofInt x)) = .int (Int32.ofInt x) ∧ fits ty (.int (Int32.ofInt x)) = true
theorem okI_int (x : Int) : okI .int x := ⟨rfl, rfl⟩
theorem okI_bool {x : Int} (h : x = 0 ∨ x = 1) : okI .boolean x := by rcases h with rfl | rfl <;> exact ⟨rfl, rfl⟩
theorem wc_putI {idx k j a : Nat} {v : Int} (hd : decode (mB y) pc = .ok (.putfield idx, 3)) (hf : Fl (mY y).cls idx k j) (hfin : (cTb k j).2.2.2 = false ∨ ((cTb k j).2.2.2 = true ∧ (cTb k j).1 = (mY y).cls ∧ (mY y).name = "<init>")) (ht : isI (cTy k j) = true) (ho : ob h a k) (hk : K0 ≤ a) (hfit : okI (cTy k j) v)
    (kk : Wc G y d h0 post (pc + 3) L st (sI h a j v)) : Wc G y d h0 post pc L (vI v :: vR a :: st) h :=
  wc_put0 (h' := sI h a j v) hd hf hfin ho hk (fun _ => hfit) rfl rfl (fun _ => rfl) (fun _ => rfl) (fun b ty i hb => fv_sI (fun z => hb z.1)) (fun ty i hi => fv_sI (fun z => hi z.2)) (by rw [fv_I ht, hI_sI, if_pos ⟨rfl, rfl⟩]) (fun z1 z2 => nm_sI z1 z2) (fun _ z => z) (fun _ z => z) kk
theorem wc_putKI {idx k j a n : Nat} {v : Int} (hg : gF G = true) (hd : decode (mB y) pc = .ok (.putfield idx, 3)) (hf : Fl (mY y).cls idx k j) (hfin : (cTb k j).2.2.2 = false ∨ ((cTb k j).2.2.2 = true ∧ (cTb k j).1 = (mY y).cls ∧ (mY y).name = "<init>")) (ht : isI (cTy k j) = true) (ho : (a, k, n) ∈ kArr) (hk : K0 ≤ a) (hfit : okI (cTy k j) v)
    (kk : Wc G y d h0 post (pc + 3) L st (sI h a j v)) : Wc G y d h0 post pc L (vI v :: vR a :: st) h := wc_kf hg fun z => wc_putI hd hf hfin ht (z.2 _ ho).1 hk hfit kk
theorem wc_putR {idx k j a v : Nat} (hd : decode (mB y) pc = .ok (.putfield idx, 3)) (hf : Fl (mY y).cls idx k j) (hfin : (cTb k j).2.2.2 = false ∨ ((cTb k j).2.2.2 = true ∧ (cTb k j).1 = (mY y).cls ∧ (mY y).name = "<init>")) (ht : isA (cTy k j) = true) (ho : ob h a k) (hk : K0 ≤ a) (hp : gF G = true → k ≠ 1 ∧ k ≠ 3 ∧ k ≠ 4)
    (kk : Wc G y d h0 post (pc + 3) L st (sR h a j v)) : Wc G y d h0 post pc L (vR v :: vR a :: st) h :=
  wc_put0 (h' := sR h a j v) hd hf hfin ho hk (fun g => tr_fits g v ht) rfl rfl (fun _ => rfl) (fun _ => rfl) (fun b ty i hb => fv_sR (fun z => hb z.1)) (fun ty i hi => fv_sR (fun z => hi z.2)) (by rw [fv_A ht, hR_sR, if_pos ⟨rfl, rfl⟩]) (fun _ z => z) (fun _ z => z) (fun z1 z2 => KF_sR z2 (by rw [ho.2.2]; exact hp z1)) kk
theorem wc_putL {idx k j a : Nat} {v : Int} (hd : decode (mB y) pc = .ok (.putfield idx, 3)) (hf : Fl (mY y).cls idx k j) (hfin : (cTb k j).2.2.2 = false ∨ ((cTb k j).2.2.2 = true ∧ (cTb k j).1 = (mY y).cls ∧ (mY y).name = "<init>")) (ht : cTy k j = .long) (ho : ob h a k) (hk : K0 ≤ a)
    (kk : Wc G y d h0 post (pc + 3) L st (sL h a j v)) : Wc G y d h0 post pc L (vL v :: vR a :: st) h :=
  wc_put0 (h' := sL h a j v) hd hf hfin ho hk (fun _ => by rw [ht]; exact ⟨rfl, rfl⟩) rfl rfl (fun _ => rfl) (fun _ => rfl) (fun b ty i hb => fv_sL (fun z => hb z.1)) (fun ty i hi => fv_sL (fun z => hi z.2)) (by rw [ht]; show Value.long (Int64.ofInt (hL (sL h a j v) a j)) = _; rw [hL_sL, if_pos ⟨rfl, rfl⟩]; rfl) (fun _ z => z) (fun z1 z2 => nl_sL z1 z2) (fun _ z => z) kk
theorem wc_putKL {idx k j a n : Nat} {v : Int} (hg : gF G = true) (hd : decode (mB y) pc = .ok (.putfield idx, 3)) (hf : Fl (mY y).cls idx k j) (hfin : (cTb k j).2.2.2 = false ∨ ((cTb k j).2.2.2 = true ∧ (cTb k j).1 = (mY y).cls ∧ (mY y).name = "<init>")) (ht : cTy k j = .long) (ho : (a, k, n) ∈ kArr) (hk : K0 ≤ a)
    (kk : Wc G y d h0 post (pc + 3) L st (sL h a j v)) : Wc G y d h0 post pc L (vL v :: vR a :: st) h := wc_kf hg fun z => wc_putL hd hf hfin ht (z.2 _ ho).1 hk kk
end RH
