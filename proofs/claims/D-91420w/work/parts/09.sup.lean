set_option maxRecDepth 100000
set_option maxHeartbeats 1000000
/-! OWN LAYER, 7: what the printed walks lean on -/
def kI (Q : Rs → Hp → Prop) (k : Int → Hp → Prop) : Rs → Hp → Prop := fun r h => match r with
  | .inl (some (.inl x)) => k x h
  | .inr a => Q (.inr a) h
  | _ => False
def kL (Q : Rs → Hp → Prop) (k : Int → Hp → Prop) : Rs → Hp → Prop := fun r h => match r with
  | .inl (some (.inr (.inl x))) => k x h
  | .inr a => Q (.inr a) h
  | _ => False
def kR (Q : Rs → Hp → Prop) (k : Nat → Hp → Prop) : Rs → Hp → Prop := fun r h => match r with
  | .inl (some (.inr (.inr x))) => k x h
  | .inr a => Q (.inr a) h
  | _ => False
def kN (Q : Rs → Hp → Prop) (k : Hp → Prop) : Rs → Hp → Prop := fun r h => match r with
  | .inl none => k h
  | .inr a => Q (.inr a) h
  | _ => False
theorem kI_v (Q : Rs → Hp → Prop) (k : Int → Hp → Prop) (x : Int) (h : Hp) : kI Q k (rV (vI x)) h = k x h := rfl
theorem kL_v (Q : Rs → Hp → Prop) (k : Int → Hp → Prop) (x : Int) (h : Hp) : kL Q k (rV (vL x)) h = k x h := rfl
theorem kR_v (Q : Rs → Hp → Prop) (k : Nat → Hp → Prop) (x : Nat) (h : Hp) : kR Q k (rV (vR x)) h = k x h := rfl
theorem kN_v (Q : Rs → Hp → Prop) (k : Hp → Prop) (h : Hp) : kN Q k rN h = k h := rfl
theorem kI_x (Q : Rs → Hp → Prop) (k : Int → Hp → Prop) (a : Nat) (h : Hp) : kI Q k (rX a) h = Q (rX a) h := rfl
theorem kL_x (Q : Rs → Hp → Prop) (k : Int → Hp → Prop) (a : Nat) (h : Hp) : kL Q k (rX a) h = Q (rX a) h := rfl
theorem kR_x (Q : Rs → Hp → Prop) (k : Nat → Hp → Prop) (a : Nat) (h : Hp) : kR Q k (rX a) h = Q (rX a) h := rfl
theorem kN_x (Q : Rs → Hp → Prop) (k : Hp → Prop) (a : Nat) (h : Hp) : kN Q k (rX a) h = Q (rX a) h := rfl
/-- loops: so many rounds at the most -/
def wl1 {A : Type} (b : (A → Prop) → A → Prop) : Nat → A → Prop
  | 0, _ => False
  | n + 1, x => b (wl1 b n) x
def wl2 {A B : Type} (b : (A → B → Prop) → A → B → Prop) : Nat → A → B → Prop
  | 0, _, _ => False
  | n + 1, x, y => b (wl2 b n) x y
def wl3 {A B C : Type} (b : (A → B → C → Prop) → A → B → C → Prop) : Nat → A → B → C → Prop
  | 0, _, _, _ => False
  | n + 1, x, y, z => b (wl3 b n) x y z
def wl4 {A B C D : Type} (b : (A → B → C → D → Prop) → A → B → C → D → Prop) : Nat → A → B → C → D → Prop
  | 0, _, _, _, _ => False
  | n + 1, x, y, z, u => b (wl4 b n) x y z u
def wl5 {A B C D E : Type} (b : (A → B → C → D → E → Prop) → A → B → C → D → E → Prop) : Nat → A → B → C → D → E → Prop
  | 0, _, _, _, _, _ => False
  | n + 1, x, y, z, u, v => b (wl5 b n) x y z u v
def wl6 {A B C D E F : Type} (b : (A → B → C → D → E → F → Prop) → A → B → C → D → E → F → Prop) : Nat → A → B → C → D → E → F → Prop
  | 0, _, _, _, _, _, _ => False
  | n + 1, x, y, z, u, v, w => b (wl6 b n) x y z u v w
def wl7 {A B C D E F K : Type} (b : (A → B → C → D → E → F → K → Prop) → A → B → C → D → E → F → K → Prop) : Nat → A → B → C → D → E → F → K → Prop
  | 0, _, _, _, _, _, _, _ => False
  | n + 1, x, y, z, u, v, w, q => b (wl7 b n) x y z u v w q
def wh1 {A : Type} (b : (A → Prop) → A → Prop) (x : A) : Prop := ∃ n, wl1 b n x
def wh2 {A B : Type} (b : (A → B → Prop) → A → B → Prop) (x : A) (y : B) : Prop := ∃ n, wl2 b n x y
def wh3 {A B C : Type} (b : (A → B → C → Prop) → A → B → C → Prop) (x : A) (y : B) (z : C) : Prop := ∃ n, wl3 b n x y z
def wh4 {A B C D : Type} (b : (A → B → C → D → Prop) → A → B → C → D → Prop) (x : A) (y : B) (z : C) (u : D) : Prop := ∃ n, wl4 b n x y z u
def wh5 {A B C D E : Type} (b : (A → B → C → D → E → Prop) → A → B → C → D → E → Prop) (x : A) (y : B) (z : C) (u : D) (v : E) : Prop := ∃ n, wl5 b n x y z u v
def wh6 {A B C D E F : Type} (b : (A → B → C → D → E → F → Prop) → A → B → C → D → E → F → Prop) (x : A) (y : B) (z : C) (u : D) (v : E) (w : F) : Prop := ∃ n, wl6 b n x y z u v w
def wh7 {A B C D E F K : Type} (b : (A → B → C → D → E → F → K → Prop) → A → B → C → D → E → F → K → Prop) (x : A) (y : B) (z : C) (u : D) (v : E) (w : F) (q : K) : Prop := ∃ n, wl7 b n x y z u v w q
/-- a place where roads meet: R what follows, B how it is come to -/
def jn {α : Sort _} (R : α) (B : α → Prop) : Prop := B R
theorem ite_t {c A B : Prop} [Decidable c] (hc : c) (h : if c then A else B) : A := by rwa [if_pos hc] at h
theorem ite_f {c A B : Prop} [Decidable c] (hc : ¬ c) (h : if c then A else B) : B := by rwa [if_neg hc] at h
theorem ob_sI {h h1 : Hp} {a j : Nat} {v : Int} {b k : Nat} (e : h1 = sI h a j v) (o : ob h b k) : ob h1 b k := by subst e; exact o
theorem ob_sL {h h1 : Hp} {a j : Nat} {v : Int} {b k : Nat} (e : h1 = sL h a j v) (o : ob h b k) : ob h1 b k := by subst e; exact o
theorem ob_sR {h h1 : Hp} {a j v : Nat} {b k : Nat} (e : h1 = sR h a j v) (o : ob h b k) : ob h1 b k := by subst e; exact o
theorem ob_nw {h h1 : Hp} {t m q : Nat} {b k : Nat} (e : h1 = nw h t m q) (o : ob h b k) : ob h1 b k := by
  subst e
  obtain ⟨o1, o2, o3⟩ := o
  exact ⟨o1, by rw [hn_nw]; omega, by rw [hT_nw, if_neg (by omega)]; exact o3⟩
theorem ob_nw_self {h h1 : Hp} {t m q : Nat} (e : h1 = nw h t m q) (h0 : 0 < hn h) : ob h1 (hn h) t := by
  subst e
  exact ⟨h0, by rw [hn_nw]; omega, by rw [hT_nw, if_pos rfl]⟩
/-- all the instructions of a list stand in the code -/
def chkD (c : ByteArray) (D : List (Nat × Instr × Nat)) : Bool := D.all (fun q => decide (decode c q.1 = .ok (q.2.1, q.2.2)))
theorem dAt {c : ByteArray} {D : List (Nat × Instr × Nat)} (h : chkD c D = true) (k : Nat) {pc len : Nat} {i : Instr} (hk : D[k]? = some (pc, i, len)) : decode c pc = .ok (i, len) := by
  unfold chkD at h
  rw [List.all_eq_true] at h
  have h1 := h (pc, i, len) (List.mem_of_getElem? hk)
  have h2 : decide (decode c pc = .ok (i, len)) = true := h1
  exact of_decide_eq_true h2
def drp (ks : List Nat) (L : List (Option V)) : List (Option V) := ks.foldl (fun L k => L.set k none) L
section SUP
variable {G : Gx} {y : Mt} {d : Nat} {h0 : Hp} {post : Rs → Hp → Prop} {pc : Nat} {L L' : List (Option V)} {st : List V} {h h1 : Hp}
theorem wc_vi {v x : Int} (e : v = x) (k : Wc G y d h0 post pc L (vI v :: st) h) : Wc G y d h0 post pc L (vI x :: st) h := e ▸ k
theorem wc_vl {v x : Int} (e : v = x) (k : Wc G y d h0 post pc L (vL v :: st) h) : Wc G y d h0 post pc L (vL x :: st) h := e ▸ k
theorem wc_vr {v x : Nat} (e : v = x) (k : Wc G y d h0 post pc L (vR v :: st) h) : Wc G y d h0 post pc L (vR x :: st) h := e ▸ k
theorem wc_hp (e : h1 = h) (k : Wc G y d h0 post pc L st h1) : Wc G y d h0 post pc L st h := e ▸ k
theorem wc_L (e : L = L') (k : Wc G y d h0 post pc L' st h) : Wc G y d h0 post pc L st h := e ▸ k
theorem wc_drp (ks : List Nat) (e : drp ks L = L') (k : Wc G y d h0 post pc L' st h) : Wc G y d h0 post pc L st h := by
  subst e
  intro p e s m args below meth c R H locs ls hC hH hL
  refine k p e s m args below meth c R H locs ls hC hH ?_
  clear k
  have : ∀ (ks : List Nat) (L : List (Option V)), Lr G ls (mX y) L → Lr G ls (mX y) (drp ks L) := by
    intro ks
    induction ks with
    | nil => exact fun L h => h
    | cons q ks ih =>
      intro L hL
      refine ih (L.set q none) ⟨hL.1, by simpa using hL.2.1, hL.2.2.1, fun i v hv => ?_⟩
      by_cases z : q = i
      · subst z
        rw [List.getElem?_set_self'] at hv
        cases hc : L[q]? <;> rw [hc] at hv <;> simp at hv
      · rw [List.getElem?_set_ne z] at hv
        exact hL.2.2.2 i v hv
  exact this ks L hL
theorem kr_I {len : Nat} {k : Int → Hp → Prop} (hk : ∀ x h', k x h' → Wc G y d h0 post (pc + len) L (vI x :: st) h') : ∀ (v : Option V) (h' : Hp), kI post k (.inl v) h' → Wc G y d h0 post (pc + len) L (v.toList ++ st) h' := by
  intro v h' hv
  rcases v with _ | x | x | x
  · cases hv
  · exact hk x h' hv
  · cases hv
  · cases hv
theorem kr_L {len : Nat} {k : Int → Hp → Prop} (hk : ∀ x h', k x h' → Wc G y d h0 post (pc + len) L (vL x :: st) h') : ∀ (v : Option V) (h' : Hp), kL post k (.inl v) h' → Wc G y d h0 post (pc + len) L (v.toList ++ st) h' := by
  intro v h' hv
  rcases v with _ | x | x | x
  · cases hv
  · cases hv
  · exact hk x h' hv
  · cases hv
theorem kr_R {len : Nat} {k : Nat → Hp → Prop} (hk : ∀ x h', k x h' → Wc G y d h0 post (pc + len) L (vR x :: st) h') : ∀ (v : Option V) (h' : Hp), kR post k (.inl v) h' → Wc G y d h0 post (pc + len) L (v.toList ++ st) h' := by
  intro v h' hv
  rcases v with _ | x | x | x
  · cases hv
  · cases hv
  · cases hv
  · exact hk x h' hv
theorem kr_N {len : Nat} {k : Hp → Prop} (hk : ∀ h', k h' → Wc G y d h0 post (pc + len) L st h') : ∀ (v : Option V) (h' : Hp), kN post k (.inl v) h' → Wc G y d h0 post (pc + len) L (v.toList ++ st) h' := by
  intro v h' hv
  rcases v with _ | x | x | x
  · exact hk h' hv
  · cases hv
  · cases hv
  · cases hv
theorem kx_I {k : Int → Hp → Prop} (hh : (mH y).all (fun q => !cov q pc) = true) : ∀ (a : Nat) (h' : Hp), kI post k (.inr a) h' → Wx G y d h0 post pc L h' a := fun a h' hv => wx_out hh hv
theorem kx_L {k : Int → Hp → Prop} (hh : (mH y).all (fun q => !cov q pc) = true) : ∀ (a : Nat) (h' : Hp), kL post k (.inr a) h' → Wx G y d h0 post pc L h' a := fun a h' hv => wx_out hh hv
theorem kx_R {k : Nat → Hp → Prop} (hh : (mH y).all (fun q => !cov q pc) = true) : ∀ (a : Nat) (h' : Hp), kR post k (.inr a) h' → Wx G y d h0 post pc L h' a := fun a h' hv => wx_out hh hv
theorem kx_N {k : Hp → Prop} (hh : (mH y).all (fun q => !cov q pc) = true) : ∀ (a : Nat) (h' : Hp), kN post k (.inr a) h' → Wx G y d h0 post pc L h' a := fun a h' hv => wx_out hh hv
/-- the end of a call that gives a number and changes nothing -/
def eI (x : Int) (h : Hp) : Rs → Hp → Prop := fun r h' => r = rV (vI x) ∧ h' = h
def eL (x : Int) (h : Hp) : Rs → Hp → Prop := fun r h' => r = rV (vL x) ∧ h' = h
def eR (x : Nat) (h : Hp) : Rs → Hp → Prop := fun r h' => r = rV (vR x) ∧ h' = h
theorem ep_I {len : Nat} {x : Int} (hk : Wc G y d h0 post (pc + len) L (vI x :: st) h) : ∀ (v : Option V) (h' : Hp), eI x h (.inl v) h' → Wc G y d h0 post (pc + len) L (v.toList ++ st) h' := by
  rintro v h' ⟨e1, rfl⟩
  cases e1
  exact hk
theorem ep_L {len : Nat} {x : Int} (hk : Wc G y d h0 post (pc + len) L (vL x :: st) h) : ∀ (v : Option V) (h' : Hp), eL x h (.inl v) h' → Wc G y d h0 post (pc + len) L (v.toList ++ st) h' := by
  rintro v h' ⟨e1, rfl⟩
  cases e1
  exact hk
theorem ep_R {len : Nat} {x : Nat} (hk : Wc G y d h0 post (pc + len) L (vR x :: st) h) : ∀ (v : Option V) (h' : Hp), eR x h (.inl v) h' → Wc G y d h0 post (pc + len) L (v.toList ++ st) h' := by
  rintro v h' ⟨e1, rfl⟩
  cases e1
  exact hk
theorem ex_I {x : Int} : ∀ (a : Nat) (h' : Hp), eI x h (.inr a) h' → Wx G y d h0 post pc L h' a := fun a h' hv => by cases hv.1
theorem ex_L {x : Int} : ∀ (a : Nat) (h' : Hp), eL x h (.inr a) h' → Wx G y d h0 post pc L h' a := fun a h' hv => by cases hv.1
theorem ex_R {x : Nat} : ∀ (a : Nat) (h' : Hp), eR x h (.inr a) h' → Wx G y d h0 post pc L h' a := fun a h' hv => by cases hv.1
/-- arrays whose address is known for good -/
theorem wc_ialdK {a n : Nat} {i : Int} (hg : gF G = true) (hd : decode (mB y) pc = .ok (.iaload, 1)) (ho : (a, 70, n) ∈ kArr) (h1 : 0 ≤ i) (h2 : i < n) (kk : Wc G y d h0 post (pc + 1) L (vI (hI h a i.toNat) :: st) h) : Wc G y d h0 post pc L (vI i :: vR a :: st) h := wc_kf hg fun z => wc_iald hd (z.2 _ ho).1 h1 (by rw [show hN h a = n from (z.2 _ ho).2]; exact h2) kk
theorem wc_baldK {a n : Nat} {i : Int} (hg : gF G = true) (hd : decode (mB y) pc = .ok (.baload, 1)) (ho : (a, 71, n) ∈ kArr) (h1 : 0 ≤ i) (h2 : i < n) (kk : Wc G y d h0 post (pc + 1) L (vI (hI h a i.toNat) :: st) h) : Wc G y d h0 post pc L (vI i :: vR a :: st) h := wc_kf hg fun z => wc_bald hd (z.2 _ ho).1 h1 (by rw [show hN h a = n from (z.2 _ ho).2]; exact h2) kk
theorem wc_zaldK {a n : Nat} {i : Int} (hg : gF G = true) (hd : decode (mB y) pc = .ok (.baload, 1)) (ho : (a, 72, n) ∈ kArr) (h1 : 0 ≤ i) (h2 : i < n) (kk : Wc G y d h0 post (pc + 1) L (vI (hI h a i.toNat) :: st) h) : Wc G y d h0 post pc L (vI i :: vR a :: st) h := wc_kf hg fun z => wc_zald hd (z.2 _ ho).1 h1 (by rw [show hN h a = n from (z.2 _ ho).2]; exact h2) kk
theorem wc_laldK {a n : Nat} {i : Int} (hg : gF G = true) (hd : decode (mB y) pc = .ok (.laload, 1)) (ho : (a, 73, n) ∈ kArr) (h1 : 0 ≤ i) (h2 : i < n) (kk : Wc G y d h0 post (pc + 1) L (vL (hL h a i.toNat) :: st) h) : Wc G y d h0 post pc L (vI i :: vR a :: st) h := wc_kf hg fun z => wc_lald hd (z.2 _ ho).1 h1 (by rw [show hN h a = n from (z.2 _ ho).2]; exact h2) kk
theorem wc_aaldK {a n t : Nat} {i : Int} (hg : gF G = true) (hd : decode (mB y) pc = .ok (.aaload, 1)) (ht : 74 ≤ t ∧ t ≤ 77) (ho : (a, t, n) ∈ kArr) (h1 : 0 ≤ i) (h2 : i < n) (kk : Wc G y d h0 post (pc + 1) L (vR (hR h a i.toNat) :: st) h) : Wc G y d h0 post pc L (vI i :: vR a :: st) h := wc_kf hg fun z => wc_aald hd ht (z.2 _ ho).1 h1 (by rw [show hN h a = n from (z.2 _ ho).2]; exact h2) kk
theorem wc_iastK {a n : Nat} {i v : Int} (hg : gF G = true) (hd : decode (mB y) pc = .ok (.iastore, 1)) (ho : (a, 70, n) ∈ kArr) (hk : K0 ≤ a) (h1 : 0 ≤ i) (h2 : i < n) (kk : Wc G y d h0 post (pc + 1) L st (sI h a i.toNat v)) : Wc G y d h0 post pc L (vI v :: vI i :: vR a :: st) h := wc_kf hg fun z => wc_iast hd (z.2 _ ho).1 hk h1 (by rw [show hN h a = n from (z.2 _ ho).2]; exact h2) kk
theorem wc_bastK {a n : Nat} {i v : Int} (hg : gF G = true) (hd : decode (mB y) pc = .ok (.bastore, 1)) (ho : (a, 71, n) ∈ kArr) (hk : K0 ≤ a) (h1 : 0 ≤ i) (h2 : i < n) (hf : okI .byte v) (kk : Wc G y d h0 post (pc + 1) L st (sI h a i.toNat v)) : Wc G y d h0 post pc L (vI v :: vI i :: vR a :: st) h := wc_kf hg fun z => wc_bast hd (z.2 _ ho).1 hk h1 (by rw [show hN h a = n from (z.2 _ ho).2]; exact h2) hf kk
theorem wc_zastK {a n : Nat} {i v : Int} (hg : gF G = true) (hd : decode (mB y) pc = .ok (.bastore, 1)) (ho : (a, 72, n) ∈ kArr) (hk : K0 ≤ a) (h1 : 0 ≤ i) (h2 : i < n) (hf : v = 0 ∨ v = 1) (kk : Wc G y d h0 post (pc + 1) L st (sI h a i.toNat v)) : Wc G y d h0 post pc L (vI v :: vI i :: vR a :: st) h := wc_kf hg fun z => wc_zast hd (z.2 _ ho).1 hk h1 (by rw [show hN h a = n from (z.2 _ ho).2]; exact h2) hf kk
theorem wc_lastK {a n : Nat} {i v : Int} (hg : gF G = true) (hd : decode (mB y) pc = .ok (.lastore, 1)) (ho : (a, 73, n) ∈ kArr) (hk : K0 ≤ a) (h1 : 0 ≤ i) (h2 : i < n) (kk : Wc G y d h0 post (pc + 1) L st (sL h a i.toNat v)) : Wc G y d h0 post pc L (vL v :: vI i :: vR a :: st) h := wc_kf hg fun z => wc_last hd (z.2 _ ho).1 hk h1 (by rw [show hN h a = n from (z.2 _ ho).2]; exact h2) kk
theorem wc_aastK {a t n v k : Nat} {i : Int} (hg : gF G = true) (hd : decode (mB y) pc = .ok (.aastore, 1)) (ht : 74 ≤ t ∧ t ≤ 76) (ho : (a, t, n) ∈ kArr) (hk : K0 ≤ a) (hv : ob h v k) (hkc : k ∈ cLs) (has : As (cNm k) (aE t)) (h1 : 0 ≤ i) (h2 : i < n) (kk : Wc G y d h0 post (pc + 1) L st (sR h a i.toNat v)) : Wc G y d h0 post pc L (vR v :: vI i :: vR a :: st) h := wc_kf hg fun z => wc_aast hd ht (z.2 _ ho).1 hk hv hkc has h1 (by rw [show hN h a = n from (z.2 _ ho).2]; exact h2) kk
/-- an object that isn't a constant lies behind the constants -/
theorem wc_newer {a k : Nat} (ho : ob h a k) (hk : k ∉ [0, 43, 70, 71, 74]) (kk : K0 ≤ a → Wc G y d h0 post pc L st h) : Wc G y d h0 post pc L st h := by
  intro p e s m args below meth c R H locs ls hC hH
  exact kk (ob_new hH ho hk) p e s m args below meth c R H locs ls hC hH
theorem wc_ldc {idx : Nat} {v : Int32} {n : Int} (hd : decode (mB y) pc = .ok (.ldc idx, 2)) (hw : Cond.constant (mY y).cls idx v ∈ lw_all) (hv : v = Int32.ofInt n) (hm : nm n) (kk : Wc G y d h0 post (pc + 2) L (vI n :: st) h) : Wc G y d h0 post pc L st h := by
  subst hv
  intro p e s m args below meth c R H locs ls hC hH hL hs hl hn0 hq0
  exact lv_ldc hC.1 hC.2.2.2.1 (findC hC.2.2.1) (wd hC.ok hC.2.1 hw) hd (kk p e s m args below meth c R H locs ls hC hH hL (nvs_cons hm hs) hl hn0 hq0)
theorem wc_ldcw {idx : Nat} {v : Int32} {n : Int} (hd : decode (mB y) pc = .ok (.ldc_w idx, 3)) (hw : Cond.constant (mY y).cls idx v ∈ lw_all) (hv : v = Int32.ofInt n) (hm : nm n) (kk : Wc G y d h0 post (pc + 3) L (vI n :: st) h) : Wc G y d h0 post pc L st h := by
  subst hv
  intro p e s m args below meth c R H locs ls hC hH hL hs hl hn0 hq0
  exact lv_ldcw hC.1 hC.2.2.2.1 (findC hC.2.2.1) (wd hC.ok hC.2.1 hw) hd (kk p e s m args below meth c R H locs ls hC hH hL (nvs_cons hm hs) hl hn0 hq0)
theorem wc_ldc2 {idx : Nat} {v : Int64} {n : Int} (hd : decode (mB y) pc = .ok (.ldc2_w idx, 3)) (hw : Cond.constantLong (mY y).cls idx v ∈ lw_all) (hv : v = Int64.ofInt n) (hm : nl n) (kk : Wc G y d h0 post (pc + 3) L (vL n :: st) h) : Wc G y d h0 post pc L st h := by
  subst hv
  intro p e s m args below meth c R H locs ls hC hH hL hs hl hn0 hq0
  exact lv_ldc2 hC.1 hC.2.2.2.1 (findC hC.2.2.1) (wd hC.ok hC.2.1 hw) hd (kk p e s m args below meth c R H locs ls hC hH hL (nvs_cons hm hs) hl hn0 hq0)
/-- two references whose likeness the machine can tell as the pure memory does -/
def acok (h : Hp) (a b : Nat) : Prop := a = b ∨ (rok h a ∧ rok h b ∧ (K0 ≤ a ∨ K0 ≤ b ∨ a = 0 ∨ b = 0))
theorem acok_eq {H : Heap} (g : Gok G) (hH : HR G h H) {a b : Nat} (hc : acok h a b) : ∃ ra rb : Option Nat, tr G a = va_rf ra ∧ tr G b = va_rf rb ∧ (ra = rb ↔ a = b) := by
  have one : ∀ {z : Nat}, rok h z → z ≠ 0 → tr G z = .ref (rho G z) := fun hz h0 => by
    rcases hz with w | w
    · exact absurd w h0
    · exact ob_ref hH w.2.1 w.2.2
  have lt : ∀ {z : Nat}, rok h z → z ≠ 0 → z < K0 → rho G z < gB G := fun hz h0 hk => by
    rcases hz with w | w
    · exact absurd w h0
    · refine hH.2.2.2.2.2.1 _ hk (fun e => ?_)
      rcases w.2.2 with q | q
      · rw [e] at q; exact absurd q (by decide)
      · omega
  have ge : ∀ {z : Nat}, K0 ≤ z → rho G z = gB G + (z - K0) := fun hk => rho_new hk
  rcases hc with rfl | ⟨ha, hb, hab⟩
  · rcases tr_cases g a with z | ⟨r, z⟩
    · exact ⟨none, none, z, z, by simp⟩
    · exact ⟨some r, some r, z, z, by simp⟩
  · by_cases a0 : a = 0
    · by_cases b0 : b = 0
      · subst a0; subst b0
        exact ⟨none, none, tr_0 g, tr_0 g, by simp⟩
      · refine ⟨none, some (rho G b), by rw [a0]; exact tr_0 g, one hb b0, ?_⟩
        simp
        omega
    · by_cases b0 : b = 0
      · refine ⟨some (rho G a), none, one ha a0, by rw [b0]; exact tr_0 g, ?_⟩
        simp
        omega
      · refine ⟨some (rho G a), some (rho G b), one ha a0, one hb b0, ?_⟩
        constructor
        · intro e
          have e := Option.some.inj e
          by_cases ka : K0 ≤ a
          · by_cases kb : K0 ≤ b
            · rw [ge ka, ge kb] at e
              omega
            · have := lt hb b0 (by omega)
              rw [ge ka] at e
              omega
          · by_cases kb : K0 ≤ b
            · have := lt ha a0 (by omega)
              rw [ge kb] at e
              omega
            · omega
        · rintro rfl
          rfl
theorem wc_acmp_eq {a b : Nat} {off : Int} {tgt : Nat} (hd : decode (mB y) pc = .ok (.if_acmp .eq off, 3)) (ht : (pc : Int) + off = (tgt : Int)) (hc : acok h a b) (kt : a = b → Wc G y d h0 post tgt L st h) (kf : ¬ a = b → Wc G y d h0 post (pc + 3) L st h) : Wc G y d h0 post pc L (vR b :: vR a :: st) h := by
  intro p e s m args below meth c R H locs ls hC hH hL hs hl hn0 hq0
  obtain ⟨ra, rb, e1, e2, e3⟩ := acok_eq hC.ok hH hc
  rw [List.map_cons, List.map_cons, show tv G (vR b) = va_rf rb from e2, show tv G (vR a) = va_rf ra from e1]
  exact lv_acmp_eq hC.1 hC.2.2.2.1 hd ht (fun q => kt (e3.mp q) p e s m args below meth c R H locs ls hC hH hL (nvs_tl (nvs_tl hs)) hl hn0 hq0) (fun q => kf (fun z => q (e3.mpr z)) p e s m args below meth c R H locs ls hC hH hL (nvs_tl (nvs_tl hs)) hl hn0 hq0)
theorem wc_acmp_ne {a b : Nat} {off : Int} {tgt : Nat} (hd : decode (mB y) pc = .ok (.if_acmp .ne off, 3)) (ht : (pc : Int) + off = (tgt : Int)) (hc : acok h a b) (kt : a ≠ b → Wc G y d h0 post tgt L st h) (kf : ¬ a ≠ b → Wc G y d h0 post (pc + 3) L st h) : Wc G y d h0 post pc L (vR b :: vR a :: st) h := by
  intro p e s m args below meth c R H locs ls hC hH hL hs hl hn0 hq0
  obtain ⟨ra, rb, e1, e2, e3⟩ := acok_eq hC.ok hH hc
  rw [List.map_cons, List.map_cons, show tv G (vR b) = va_rf rb from e2, show tv G (vR a) = va_rf ra from e1]
  exact lv_acmp_ne hC.1 hC.2.2.2.1 hd ht (fun q => kt (fun z => q (e3.mpr z)) p e s m args below meth c R H locs ls hC hH hL (nvs_tl (nvs_tl hs)) hl hn0 hq0) (fun q => kf (fun z => z (e3.mp q)) p e s m args below meth c R H locs ls hC hH hL (nvs_tl (nvs_tl hs)) hl hn0 hq0)
end SUP
theorem b2i_t {c : Prop} [Decidable c] (h : c) : b2i c = 1 := if_pos h
theorem b2i_f {c : Prop} [Decidable c] (h : ¬ c) : b2i c = 0 := if_neg h
theorem wh1_ind {A : Type} {b : (A → Prop) → A → Prop} {P : A → Prop} (st : ∀ C : A → Prop, (∀ x, C x → P x) → ∀ x, b C x → P x) {x : A} (h : wh1 b x) : P x := by
  obtain ⟨n, h⟩ := h
  induction n generalizing x with
  | zero => exact h.elim
  | succ n ih => exact st _ (fun x h => ih h) _ h
theorem wh2_ind {A B : Type} {b : (A → B → Prop) → A → B → Prop} {P : A → B → Prop} (st : ∀ C : A → B → Prop, (∀ x y, C x y → P x y) → ∀ x y, b C x y → P x y) {x : A} {y : B} (h : wh2 b x y) : P x y := by
  obtain ⟨n, h⟩ := h
  induction n generalizing x y with
  | zero => exact h.elim
  | succ n ih => exact st _ (fun x y h => ih h) _ _ h
theorem wh3_ind {A B C : Type} {b : (A → B → C → Prop) → A → B → C → Prop} {P : A → B → C → Prop} (st : ∀ K : A → B → C → Prop, (∀ x y z, K x y z → P x y z) → ∀ x y z, b K x y z → P x y z) {x : A} {y : B} {z : C} (h : wh3 b x y z) : P x y z := by
  obtain ⟨n, h⟩ := h
  induction n generalizing x y z with
  | zero => exact h.elim
  | succ n ih => exact st _ (fun x y z h => ih h) _ _ _ h
theorem wh4_ind {A B C D : Type} {b : (A → B → C → D → Prop) → A → B → C → D → Prop} {P : A → B → C → D → Prop} (st : ∀ K : A → B → C → D → Prop, (∀ x y z u, K x y z u → P x y z u) → ∀ x y z u, b K x y z u → P x y z u) {x : A} {y : B} {z : C} {u : D} (h : wh4 b x y z u) : P x y z u := by
  obtain ⟨n, h⟩ := h
  induction n generalizing x y z u with
  | zero => exact h.elim
  | succ n ih => exact st _ (fun x y z u h => ih h) _ _ _ _ h
theorem wh5_ind {A B C D E : Type} {b : (A → B → C → D → E → Prop) → A → B → C → D → E → Prop} {P : A → B → C → D → E → Prop} (st : ∀ K : A → B → C → D → E → Prop, (∀ x y z u v, K x y z u v → P x y z u v) → ∀ x y z u v, b K x y z u v → P x y z u v) {x : A} {y : B} {z : C} {u : D} {v : E} (h : wh5 b x y z u v) : P x y z u v := by
  obtain ⟨n, h⟩ := h
  induction n generalizing x y z u v with
  | zero => exact h.elim
  | succ n ih => exact st _ (fun x y z u v h => ih h) _ _ _ _ _ h
theorem wh6_ind {A B C D E F : Type} {b : (A → B → C → D → E → F → Prop) → A → B → C → D → E → F → Prop} {P : A → B → C → D → E → F → Prop} (st : ∀ K : A → B → C → D → E → F → Prop, (∀ x y z u v w, K x y z u v w → P x y z u v w) → ∀ x y z u v w, b K x y z u v w → P x y z u v w) {x : A} {y : B} {z : C} {u : D} {v : E} {w : F} (h : wh6 b x y z u v w) : P x y z u v w := by
  obtain ⟨n, h⟩ := h
  induction n generalizing x y z u v w with
  | zero => exact h.elim
  | succ n ih => exact st _ (fun x y z u v w h => ih h) _ _ _ _ _ _ h
theorem wh7_ind {A B C D E F J : Type} {b : (A → B → C → D → E → F → J → Prop) → A → B → C → D → E → F → J → Prop} {P : A → B → C → D → E → F → J → Prop} (st : ∀ K : A → B → C → D → E → F → J → Prop, (∀ x y z u v w q, K x y z u v w q → P x y z u v w q) → ∀ x y z u v w q, b K x y z u v w q → P x y z u v w q) {x : A} {y : B} {z : C} {u : D} {v : E} {w : F} {q : J} (h : wh7 b x y z u v w q) : P x y z u v w q := by
  obtain ⟨n, h⟩ := h
  induction n generalizing x y z u v w q with
  | zero => exact h.elim
  | succ n ih => exact st _ (fun x y z u v w q h => ih h) _ _ _ _ _ _ _ h
theorem jn0_ind {R : Prop} {B : Prop → Prop} {P X : Prop} (hR : R → P) (hB : ∀ K : Prop, (K → P) → B K → X) (h : jn R B) : X := hB R hR h
theorem jn1_ind {A : Type} {R : A → Prop} {B : (A → Prop) → Prop} {P : A → Prop} {X : Prop} (hR : ∀ x, R x → P x) (hB : ∀ K : A → Prop, (∀ x, K x → P x) → B K → X) (h : jn R B) : X := hB R hR h
theorem jn2_ind {A A2 : Type} {R : A → A2 → Prop} {B : (A → A2 → Prop) → Prop} {P : A → A2 → Prop} {X : Prop} (hR : ∀ x y, R x y → P x y) (hB : ∀ K : A → A2 → Prop, (∀ x y, K x y → P x y) → B K → X) (h : jn R B) : X := hB R hR h
theorem jn3_ind {A A2 A3 : Type} {R : A → A2 → A3 → Prop} {B : (A → A2 → A3 → Prop) → Prop} {P : A → A2 → A3 → Prop} {X : Prop} (hR : ∀ x y z, R x y z → P x y z) (hB : ∀ K : A → A2 → A3 → Prop, (∀ x y z, K x y z → P x y z) → B K → X) (h : jn R B) : X := hB R hR h
theorem jn4_ind {A A2 A3 A4 : Type} {R : A → A2 → A3 → A4 → Prop} {B : (A → A2 → A3 → A4 → Prop) → Prop} {P : A → A2 → A3 → A4 → Prop} {X : Prop} (hR : ∀ x y z u, R x y z u → P x y z u) (hB : ∀ K : A → A2 → A3 → A4 → Prop, (∀ x y z u, K x y z u → P x y z u) → B K → X) (h : jn R B) : X := hB R hR h
theorem jn5_ind {A A2 A3 A4 A5 : Type} {R : A → A2 → A3 → A4 → A5 → Prop} {B : (A → A2 → A3 → A4 → A5 → Prop) → Prop} {P : A → A2 → A3 → A4 → A5 → Prop} {X : Prop} (hR : ∀ x y z u v, R x y z u v → P x y z u v) (hB : ∀ K : A → A2 → A3 → A4 → A5 → Prop, (∀ x y z u v, K x y z u v → P x y z u v) → B K → X) (h : jn R B) : X := hB R hR h
theorem wc_k0 {G : Gx} {y : Mt} {d : Nat} {h0 : Hp} {post : Rs → Hp → Prop} {pc : Nat} {L : List (Option V)} {st : List V} {h : Hp} (kk : 50 ≤ hn h → Wc G y d h0 post pc L st h) : Wc G y d h0 post pc L st h := by
  intro p e s m args below meth c R H locs ls hC hH
  exact kk hH.1 p e s m args below meth c R H locs ls hC hH
theorem ob_at {h h1 : Hp} {a t m q : Nat} (ea : a = hn h) (eh : h1 = nw h t m q) (k : 50 ≤ hn h) : ob h1 a t := by
  subst ea
  exact ob_nw_self eh (by omega)
theorem k0_at {h : Hp} {a : Nat} (ea : a = hn h) (k : 50 ≤ hn h) : 50 ≤ a := by omega
theorem ka50 : (50, 1, 0) ∈ kArr := by decide +kernel
theorem ka70 : (70, 3, 0) ∈ kArr := by decide +kernel
theorem ka75 : (75, 4, 0) ∈ kArr := by decide +kernel
theorem kr51 : (51, 70, 12) ∈ kArr := by decide +kernel
theorem kr52 : (52, 70, 12) ∈ kArr := by decide +kernel
theorem kr53 : (53, 75, 12) ∈ kArr := by decide +kernel
theorem ka54 : (54, 32, 0) ∈ kArr := by decide +kernel
theorem ka55 : (55, 32, 0) ∈ kArr := by decide +kernel
theorem ka56 : (56, 32, 0) ∈ kArr := by decide +kernel
theorem ka57 : (57, 32, 0) ∈ kArr := by decide +kernel
theorem ka58 : (58, 32, 0) ∈ kArr := by decide +kernel
theorem ka59 : (59, 32, 0) ∈ kArr := by decide +kernel
theorem ka60 : (60, 32, 0) ∈ kArr := by decide +kernel
theorem ka61 : (61, 32, 0) ∈ kArr := by decide +kernel
theorem ka62 : (62, 32, 0) ∈ kArr := by decide +kernel
theorem ka63 : (63, 32, 0) ∈ kArr := by decide +kernel
theorem ka64 : (64, 32, 0) ∈ kArr := by decide +kernel
theorem kr65 : (65, 71, 800) ∈ kArr := by decide +kernel
theorem ka66 : (66, 2, 0) ∈ kArr := by decide +kernel
theorem kr67 : (67, 70, 5) ∈ kArr := by decide +kernel
theorem ka68 : (68, 32, 0) ∈ kArr := by decide +kernel
theorem ka69 : (69, 32, 0) ∈ kArr := by decide +kernel
theorem kr71 : (71, 70, 10) ∈ kArr := by decide +kernel
theorem kr72 : (72, 70, 5) ∈ kArr := by decide +kernel
theorem kr73 : (73, 70, 8) ∈ kArr := by decide +kernel
theorem kr74 : (74, 76, 60) ∈ kArr := by decide +kernel
theorem kr76 : (76, 70, 12) ∈ kArr := by decide +kernel
theorem kr77 : (77, 70, 12) ∈ kArr := by decide +kernel
theorem kr78 : (78, 70, 12) ∈ kArr := by decide +kernel
theorem kr79 : (79, 70, 12) ∈ kArr := by decide +kernel
theorem kr80 : (80, 70, 12) ∈ kArr := by decide +kernel
theorem kr81 : (81, 70, 6) ∈ kArr := by decide +kernel
theorem kr82 : (82, 70, 6) ∈ kArr := by decide +kernel
theorem kr83 : (83, 70, 6) ∈ kArr := by decide +kernel
theorem kr84 : (84, 70, 6) ∈ kArr := by decide +kernel
theorem kr85 : (85, 70, 6) ∈ kArr := by decide +kernel
theorem kr86 : (86, 70, 6) ∈ kArr := by decide +kernel
theorem kr87 : (87, 70, 6) ∈ kArr := by decide +kernel
theorem kr88 : (88, 70, 12) ∈ kArr := by decide +kernel
theorem kr89 : (89, 70, 12) ∈ kArr := by decide +kernel
theorem kr90 : (90, 70, 12) ∈ kArr := by decide +kernel
theorem kr91 : (91, 70, 12) ∈ kArr := by decide +kernel
theorem kr92 : (92, 70, 12) ∈ kArr := by decide +kernel
theorem kr93 : (93, 70, 800) ∈ kArr := by decide +kernel
theorem kr94 : (94, 73, 27) ∈ kArr := by decide +kernel
theorem kr95 : (95, 70, 12) ∈ kArr := by decide +kernel
theorem kr96 : (96, 70, 60) ∈ kArr := by decide +kernel
theorem kr97 : (97, 70, 12) ∈ kArr := by decide +kernel
theorem kr98 : (98, 70, 12) ∈ kArr := by decide +kernel
theorem kr99 : (99, 70, 360) ∈ kArr := by decide +kernel
theorem kr100 : (100, 70, 12) ∈ kArr := by decide +kernel
theorem kr101 : (101, 70, 360) ∈ kArr := by decide +kernel
theorem kr102 : (102, 70, 360) ∈ kArr := by decide +kernel
theorem kr103 : (103, 70, 360) ∈ kArr := by decide +kernel
theorem kr104 : (104, 73, 32) ∈ kArr := by decide +kernel
theorem kr105 : (105, 70, 12) ∈ kArr := by decide +kernel
theorem kr106 : (106, 70, 22000) ∈ kArr := by decide +kernel
theorem kr107 : (107, 70, 820) ∈ kArr := by decide +kernel
theorem kr108 : (108, 72, 9) ∈ kArr := by decide +kernel
theorem kr109 : (109, 70, 10) ∈ kArr := by decide +kernel
theorem kr110 : (110, 70, 820) ∈ kArr := by decide +kernel
theorem kr111 : (111, 70, 150) ∈ kArr := by decide +kernel
theorem kr112 : (112, 70, 150) ∈ kArr := by decide +kernel
theorem kr113 : (113, 70, 150) ∈ kArr := by decide +kernel
theorem kr114 : (114, 70, 150) ∈ kArr := by decide +kernel
theorem kr115 : (115, 70, 12) ∈ kArr := by decide +kernel
theorem kr116 : (116, 70, 12) ∈ kArr := by decide +kernel
theorem kr117 : (117, 72, 12) ∈ kArr := by decide +kernel
theorem kr118 : (118, 72, 12) ∈ kArr := by decide +kernel
theorem kr119 : (119, 70, 60) ∈ kArr := by decide +kernel
theorem kr120 : (120, 70, 60) ∈ kArr := by decide +kernel
theorem kr121 : (121, 70, 60) ∈ kArr := by decide +kernel
theorem kr122 : (122, 70, 60) ∈ kArr := by decide +kernel
theorem kr123 : (123, 70, 60) ∈ kArr := by decide +kernel
theorem kr124 : (124, 70, 60) ∈ kArr := by decide +kernel
theorem kr125 : (125, 70, 150) ∈ kArr := by decide +kernel
theorem kr126 : (126, 70, 150) ∈ kArr := by decide +kernel
theorem kr127 : (127, 72, 150) ∈ kArr := by decide +kernel
theorem kr128 : (128, 70, 60) ∈ kArr := by decide +kernel
theorem kr129 : (129, 70, 60) ∈ kArr := by decide +kernel
theorem kr130 : (130, 70, 60) ∈ kArr := by decide +kernel
theorem kr131 : (131, 70, 60) ∈ kArr := by decide +kernel
theorem kr132 : (132, 70, 60) ∈ kArr := by decide +kernel
theorem kr133 : (133, 70, 60) ∈ kArr := by decide +kernel
theorem kr134 : (134, 70, 60) ∈ kArr := by decide +kernel
theorem kr135 : (135, 70, 60) ∈ kArr := by decide +kernel
theorem kr136 : (136, 70, 420) ∈ kArr := by decide +kernel
theorem kr137 : (137, 70, 420) ∈ kArr := by decide +kernel
theorem kr138 : (138, 70, 420) ∈ kArr := by decide +kernel
theorem kr139 : (139, 70, 420) ∈ kArr := by decide +kernel
theorem kr140 : (140, 70, 420) ∈ kArr := by decide +kernel
theorem kr141 : (141, 70, 420) ∈ kArr := by decide +kernel
theorem kr142 : (142, 70, 420) ∈ kArr := by decide +kernel
theorem kr143 : (143, 70, 12) ∈ kArr := by decide +kernel
theorem kr144 : (144, 70, 8) ∈ kArr := by decide +kernel
theorem kr145 : (145, 70, 8) ∈ kArr := by decide +kernel
theorem kr146 : (146, 70, 8) ∈ kArr := by decide +kernel
theorem kr147 : (147, 70, 8) ∈ kArr := by decide +kernel
theorem kr148 : (148, 70, 256) ∈ kArr := by decide +kernel
theorem kr149 : (149, 70, 2048) ∈ kArr := by decide +kernel
theorem kr150 : (150, 70, 1792) ∈ kArr := by decide +kernel
theorem kr151 : (151, 70, 1792) ∈ kArr := by decide +kernel
theorem kr152 : (152, 70, 6) ∈ kArr := by decide +kernel
theorem kr153 : (153, 70, 6) ∈ kArr := by decide +kernel
theorem kr154 : (154, 70, 372) ∈ kArr := by decide +kernel
theorem kr155 : (155, 70, 12) ∈ kArr := by decide +kernel
theorem kr156 : (156, 70, 12) ∈ kArr := by decide +kernel
theorem kr157 : (157, 70, 12) ∈ kArr := by decide +kernel
theorem kr158 : (158, 73, 1) ∈ kArr := by decide +kernel
theorem kf50_0 : (50, 0, 51) ∈ kFld := by decide +kernel
theorem kf50_1 : (50, 1, 52) ∈ kFld := by decide +kernel
theorem kf50_2 : (50, 2, 53) ∈ kFld := by decide +kernel
theorem kf50_4 : (50, 4, 54) ∈ kFld := by decide +kernel
theorem kf50_5 : (50, 5, 55) ∈ kFld := by decide +kernel
theorem kf50_6 : (50, 6, 56) ∈ kFld := by decide +kernel
theorem kf50_7 : (50, 7, 57) ∈ kFld := by decide +kernel
theorem kf50_8 : (50, 8, 58) ∈ kFld := by decide +kernel
theorem kf50_9 : (50, 9, 59) ∈ kFld := by decide +kernel
theorem kf50_10 : (50, 10, 60) ∈ kFld := by decide +kernel
theorem kf50_11 : (50, 11, 61) ∈ kFld := by decide +kernel
theorem kf50_12 : (50, 12, 62) ∈ kFld := by decide +kernel
theorem kf50_13 : (50, 13, 63) ∈ kFld := by decide +kernel
theorem kf50_14 : (50, 14, 64) ∈ kFld := by decide +kernel
theorem kf50_15 : (50, 15, 65) ∈ kFld := by decide +kernel
theorem kf50_16 : (50, 16, 66) ∈ kFld := by decide +kernel
theorem kf70_0 : (70, 0, 71) ∈ kFld := by decide +kernel
theorem kf70_1 : (70, 1, 72) ∈ kFld := by decide +kernel
theorem kf50_17 : (50, 17, 70) ∈ kFld := by decide +kernel
theorem kf50_18 : (50, 18, 73) ∈ kFld := by decide +kernel
theorem kf50_19 : (50, 19, 74) ∈ kFld := by decide +kernel
theorem kf75_5 : (75, 5, 76) ∈ kFld := by decide +kernel
theorem kf75_6 : (75, 6, 77) ∈ kFld := by decide +kernel
theorem kf75_7 : (75, 7, 78) ∈ kFld := by decide +kernel
theorem kf75_8 : (75, 8, 79) ∈ kFld := by decide +kernel
theorem kf75_9 : (75, 9, 80) ∈ kFld := by decide +kernel
theorem kf75_10 : (75, 10, 81) ∈ kFld := by decide +kernel
theorem kf75_11 : (75, 11, 82) ∈ kFld := by decide +kernel
theorem kf75_12 : (75, 12, 83) ∈ kFld := by decide +kernel
theorem kf75_13 : (75, 13, 84) ∈ kFld := by decide +kernel
theorem kf75_14 : (75, 14, 85) ∈ kFld := by decide +kernel
theorem kf75_15 : (75, 15, 86) ∈ kFld := by decide +kernel
theorem kf75_16 : (75, 16, 87) ∈ kFld := by decide +kernel
theorem kf75_17 : (75, 17, 88) ∈ kFld := by decide +kernel
theorem kf75_18 : (75, 18, 89) ∈ kFld := by decide +kernel
theorem kf75_19 : (75, 19, 90) ∈ kFld := by decide +kernel
theorem kf75_20 : (75, 20, 91) ∈ kFld := by decide +kernel
theorem kf75_21 : (75, 21, 92) ∈ kFld := by decide +kernel
theorem kf75_22 : (75, 22, 93) ∈ kFld := by decide +kernel
theorem kf75_34 : (75, 34, 94) ∈ kFld := by decide +kernel
theorem kf75_40 : (75, 40, 95) ∈ kFld := by decide +kernel
theorem kf75_41 : (75, 41, 96) ∈ kFld := by decide +kernel
theorem kf75_42 : (75, 42, 97) ∈ kFld := by decide +kernel
theorem kf75_43 : (75, 43, 98) ∈ kFld := by decide +kernel
theorem kf75_44 : (75, 44, 99) ∈ kFld := by decide +kernel
theorem kf75_45 : (75, 45, 100) ∈ kFld := by decide +kernel
theorem kf75_46 : (75, 46, 101) ∈ kFld := by decide +kernel
theorem kf75_47 : (75, 47, 102) ∈ kFld := by decide +kernel
theorem kf75_48 : (75, 48, 103) ∈ kFld := by decide +kernel
theorem kf75_49 : (75, 49, 104) ∈ kFld := by decide +kernel
theorem kf75_50 : (75, 50, 105) ∈ kFld := by decide +kernel
theorem kf75_51 : (75, 51, 106) ∈ kFld := by decide +kernel
theorem kf75_53 : (75, 53, 107) ∈ kFld := by decide +kernel
theorem kf75_56 : (75, 56, 108) ∈ kFld := by decide +kernel
theorem kf75_57 : (75, 57, 109) ∈ kFld := by decide +kernel
theorem kf75_58 : (75, 58, 110) ∈ kFld := by decide +kernel
theorem kf75_61 : (75, 61, 111) ∈ kFld := by decide +kernel
theorem kf75_62 : (75, 62, 112) ∈ kFld := by decide +kernel
theorem kf75_63 : (75, 63, 113) ∈ kFld := by decide +kernel
theorem kf75_64 : (75, 64, 114) ∈ kFld := by decide +kernel
theorem kf75_65 : (75, 65, 115) ∈ kFld := by decide +kernel
theorem kf75_66 : (75, 66, 116) ∈ kFld := by decide +kernel
theorem kf75_67 : (75, 67, 117) ∈ kFld := by decide +kernel
theorem kf75_68 : (75, 68, 118) ∈ kFld := by decide +kernel
theorem kf75_70 : (75, 70, 119) ∈ kFld := by decide +kernel
theorem kf75_71 : (75, 71, 120) ∈ kFld := by decide +kernel
theorem kf75_72 : (75, 72, 121) ∈ kFld := by decide +kernel
theorem kf75_73 : (75, 73, 122) ∈ kFld := by decide +kernel
theorem kf75_74 : (75, 74, 123) ∈ kFld := by decide +kernel
theorem kf75_75 : (75, 75, 124) ∈ kFld := by decide +kernel
theorem kf75_77 : (75, 77, 125) ∈ kFld := by decide +kernel
theorem kf75_78 : (75, 78, 126) ∈ kFld := by decide +kernel
theorem kf75_79 : (75, 79, 127) ∈ kFld := by decide +kernel
theorem kf75_82 : (75, 82, 128) ∈ kFld := by decide +kernel
theorem kf75_83 : (75, 83, 129) ∈ kFld := by decide +kernel
theorem kf75_84 : (75, 84, 130) ∈ kFld := by decide +kernel
theorem kf75_85 : (75, 85, 131) ∈ kFld := by decide +kernel
theorem kf75_86 : (75, 86, 132) ∈ kFld := by decide +kernel
theorem kf75_87 : (75, 87, 133) ∈ kFld := by decide +kernel
theorem kf75_88 : (75, 88, 134) ∈ kFld := by decide +kernel
theorem kf75_89 : (75, 89, 135) ∈ kFld := by decide +kernel
theorem kf75_90 : (75, 90, 136) ∈ kFld := by decide +kernel
theorem kf75_91 : (75, 91, 137) ∈ kFld := by decide +kernel
theorem kf75_92 : (75, 92, 138) ∈ kFld := by decide +kernel
theorem kf75_93 : (75, 93, 139) ∈ kFld := by decide +kernel
theorem kf75_94 : (75, 94, 140) ∈ kFld := by decide +kernel
theorem kf75_95 : (75, 95, 141) ∈ kFld := by decide +kernel
theorem kf75_96 : (75, 96, 142) ∈ kFld := by decide +kernel
theorem kf75_97 : (75, 97, 143) ∈ kFld := by decide +kernel
theorem kf75_101 : (75, 101, 144) ∈ kFld := by decide +kernel
theorem kf75_102 : (75, 102, 145) ∈ kFld := by decide +kernel
theorem kf75_103 : (75, 103, 146) ∈ kFld := by decide +kernel
theorem kf75_104 : (75, 104, 147) ∈ kFld := by decide +kernel
theorem kf75_105 : (75, 105, 148) ∈ kFld := by decide +kernel
theorem kf75_106 : (75, 106, 149) ∈ kFld := by decide +kernel
theorem kf75_107 : (75, 107, 150) ∈ kFld := by decide +kernel
theorem kf75_108 : (75, 108, 151) ∈ kFld := by decide +kernel
theorem kf75_109 : (75, 109, 152) ∈ kFld := by decide +kernel
theorem kf75_110 : (75, 110, 153) ∈ kFld := by decide +kernel
theorem kf75_112 : (75, 112, 154) ∈ kFld := by decide +kernel
theorem kf75_114 : (75, 114, 155) ∈ kFld := by decide +kernel
theorem kf75_115 : (75, 115, 156) ∈ kFld := by decide +kernel
theorem kf75_116 : (75, 116, 157) ∈ kFld := by decide +kernel
theorem bo_tr {a b : Int} (q : a = b) (o : a = 0 ∨ a = 1) : b = 0 ∨ b = 1 := q ▸ o
theorem bo_ite {c : Prop} [Decidable c] {a b : Int} (ha : a = 0 ∨ a = 1) (hb : b = 0 ∨ b = 1) : (if c then a else b) = 0 ∨ (if c then a else b) = 1 := by
  split
  · exact ha
  · exact hb
theorem nar_tr {ty : FieldType} {a b : Int} (q : a = b) (o : narrow ty (.int (Int32.ofInt a)) = .int (Int32.ofInt a)) : narrow ty (.int (Int32.ofInt b)) = .int (Int32.ofInt b) := q ▸ o
