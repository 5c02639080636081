set_option maxRecDepth 100000
set_option maxHeartbeats 1000000
/-! OWN LAYER, 12: private methods of a class above, expressions (a class out of six), objects as objects -/
section PV
variable {G : Gx} {y : Mt} {d : Nat} {h0 : Hp} {post : Rs → Hp → Prop} {pc : Nat} {L : List (Option V)} {st stk : List V} {h : Hp} {y' : Mt} {av : List V} {P : Rs → Hp → Prop}
theorem wc_callP {idx n a k : Nat} (hd : decode (mB y) pc = .ok (.invokevirtual idx, 3)) (hlk : Cond.methodLink (mY y).cls idx (mY y') ∈ lw_all) (hsame : Cond.sameMethod (mY y').cls (mY y').cls (mY y').name (mY y').desc ∈ lw_all) (hpriv : Cond.privateMethod (mY y') ∈ lw_tbl) (hmo : MethOk y' n) (hinst : Cond.instanceMethod (mY y') ∈ lw_all) (hk : k ∈ cLs) (ho : ob h a k) (hn : av.length = n) (hst : stk = av.reverse ++ vR a :: st) (hw : 2 * st.length + mX y' ≤ 89)
    (hct : Ct G y' d (vR a :: av) h P) (kr : ∀ v h', P (.inl v) h' → Wc G y (d + 1) h0 post (pc + 3) L (v.toList ++ st) h') (kx : ∀ a h', P (.inr a) h' → Wx G y (d + 1) h0 post pc L h' a) : Wc G y (d + 1) h0 post pc L stk h := by
  subst hst
  intro p e s m args below meth c R H locs ls hC hH hL hs hl hn0 hq0 T hT X
  have hW := hC.2.1
  have g : Gok G := hC.ok
  obtain ⟨mk, methk, ck, f1, f2, f3, f4, f5, f6, f7, f8, f9, f10⟩ := callee g hW hmo.1
  obtain ⟨cn, ck2, r1, hcn, hck, hni, hf, hn1⟩ := Cond.sameMethod_found (wd (A := args) g hW hsame)
  cases f1.symm.trans hn1
  obtain ⟨mk2, methM, hnamed, hmethM, hstM, habM⟩ := Cond.instanceMethod_spec (wd (A := args) g hW hinst)
  cases f1.symm.trans hnamed
  cases f2.symm.trans hmethM
  have hcls2 : mk.cls = cn := Option.some.inj ((findClass_of_methodNamed f1).symm.trans hcn)
  obtain ⟨cellB, q0, hcell, hobj, hcls, kB, hkB⟩ := obj_at hH ho hk g hW
  have hpv : s.PrivateAt (mY y') := Cond.privateMethod_at (args := #[]) (va_tabs rfl (rfl : ((gs G).setVm s.vm).vm = s.vm) (by rw [Cond.privateMethod_setVm hW.alike]; exact g.1 _ hpriv))
  have hselP : selectMethod e.platform s.vm cellB.cls mk = .method mk := selectMethod_private hmethM (hpv mk methk f1 f2)
  have hlen : (av.map (tv G)).length = methk.sig.parameters.length := by rw [List.length_map, hn]; exact hmo.len _ f10
  have hdg : decode c.code pc = .ok (.invokevirtual idx, 3) := by rw [hC.2.2.2.1]; exact hd
  have hav : ((vR a :: av).map (tv G)).toArray = (Value.ref (rho G a) :: av.map (tv G)).toArray := by rw [List.map_cons, show tv G (vR a) = .ref (rho G a) from q0]
  rw [List.map_append, map_rev, List.map_cons, show tv G (vR a) = .ref (rho G a) from q0]
  have hsa := nvs_app hs
  obtain ⟨vm₁, X₁, stp⟩ := X.invokevirtual hC.1 (findC hC.2.2.1) (wd g hW hlk) hnamed hmethM hstM (by rw [hcls2]; exact hck) hni hmo.2.2.1 (a := rho G a) (cell := cellB) (by rw [hT]; exact hcell)
    (fun z h => by rw [h] at hobj; cases hobj) hselP hmethM habM (by rw [hcls2]; exact hck) hni (g := F0 m pc ls ((av.map (tv G)).reverse ++ .ref (rho G a) :: st.map (tv G))) rfl (argsL := av.map (tv G)) (rest := st.map (tv G)) hlen rfl hdg
  obtain ⟨t, a1, b1⟩ := call_core hct kr kx hC hH hL (nvs_tl hsa.2) (nvs_cons trivial (nvs_rev hsa.1)) hl hn0 hq0 (T₁ := T.setVm vm₁) hT X₁ hdg f1 hmo.1 hmo.2.1 hw
  rw [hav] at a1
  exact ⟨t, stp t fun acts => by rw [doInvoke_state]; exact a1, b1⟩
/-- an expression: an object of one of six classes -/
def obX (h : Hp) (a : Nat) : Prop := 0 < a ∧ a < hn h ∧ 11 ≤ hT h a ∧ hT h a ≤ 16
theorem obX_six {h : Hp} {a : Nat} (o : obX h a) : ob h a 11 ∨ ob h a 12 ∨ ob h a 13 ∨ ob h a 14 ∨ ob h a 15 ∨ ob h a 16 := by
  obtain ⟨o1, o2, o3, o4⟩ := o
  unfold ob
  omega
theorem obX_of {h : Hp} {a k : Nat} (o : ob h a k) (h1 : 11 ≤ k) (h2 : k ≤ 16) : obX h a := ⟨o.1, o.2.1, by rw [o.2.2]; exact h1, by rw [o.2.2]; exact h2⟩
end PV
/-- an answer, or an exception that is caught -/
def kIx (E : Nat → Hp → Prop) (k : Int → Hp → Prop) : Rs → Hp → Prop := fun r h => match r with
  | .inl (some (.inl x)) => k x h
  | .inr a => E a h
  | _ => False
def kLx (E : Nat → Hp → Prop) (k : Int → Hp → Prop) : Rs → Hp → Prop := fun r h => match r with
  | .inl (some (.inr (.inl x))) => k x h
  | .inr a => E a h
  | _ => False
def kRx (E : Nat → Hp → Prop) (k : Nat → Hp → Prop) : Rs → Hp → Prop := fun r h => match r with
  | .inl (some (.inr (.inr x))) => k x h
  | .inr a => E a h
  | _ => False
def kNx (E : Nat → Hp → Prop) (k : Hp → Prop) : Rs → Hp → Prop := fun r h => match r with
  | .inl none => k h
  | .inr a => E a h
  | _ => False
section KX
variable {G : Gx} {y : Mt} {d : Nat} {h0 : Hp} {post : Rs → Hp → Prop} {pc : Nat} {L : List (Option V)} {st : List V} {E : Nat → Hp → Prop}
theorem krx_I {len : Nat} {k : Int → Hp → Prop} (hk : ∀ x h', k x h' → Wc G y d h0 post (pc + len) L (vI x :: st) h') : ∀ (v : Option V) (h' : Hp), kIx E k (.inl v) h' → Wc G y d h0 post (pc + len) L (v.toList ++ st) h' := by
  intro v h' hv
  match v, hv with
  | some (.inl x), hv => exact hk x h' hv
  | some (.inr (.inl _)), hv => exact hv.elim
  | some (.inr (.inr _)), hv => exact hv.elim
  | none, hv => exact hv.elim
theorem krx_L {len : Nat} {k : Int → Hp → Prop} (hk : ∀ x h', k x h' → Wc G y d h0 post (pc + len) L (vL x :: st) h') : ∀ (v : Option V) (h' : Hp), kLx E k (.inl v) h' → Wc G y d h0 post (pc + len) L (v.toList ++ st) h' := by
  intro v h' hv
  match v, hv with
  | some (.inl _), hv => exact hv.elim
  | some (.inr (.inl x)), hv => exact hk x h' hv
  | some (.inr (.inr _)), hv => exact hv.elim
  | none, hv => exact hv.elim
theorem krx_R {len : Nat} {k : Nat → Hp → Prop} (hk : ∀ x h', k x h' → Wc G y d h0 post (pc + len) L (vR x :: st) h') : ∀ (v : Option V) (h' : Hp), kRx E k (.inl v) h' → Wc G y d h0 post (pc + len) L (v.toList ++ st) h' := by
  intro v h' hv
  match v, hv with
  | some (.inl _), hv => exact hv.elim
  | some (.inr (.inl _)), hv => exact hv.elim
  | some (.inr (.inr x)), hv => exact hk x h' hv
  | none, hv => exact hv.elim
theorem krx_N {len : Nat} {k : Hp → Prop} (hk : ∀ h', k h' → Wc G y d h0 post (pc + len) L st h') : ∀ (v : Option V) (h' : Hp), kNx E k (.inl v) h' → Wc G y d h0 post (pc + len) L (v.toList ++ st) h' := by
  intro v h' hv
  match v, hv with
  | none, hv => exact hk h' hv
  | some _, hv => exact hv.elim
theorem kxx_I {k : Int → Hp → Prop} (hx : ∀ a h', E a h' → Wx G y d h0 post pc L h' a) : ∀ (a : Nat) (h' : Hp), kIx E k (.inr a) h' → Wx G y d h0 post pc L h' a := fun a h' hv => hx a h' hv
theorem kxx_L {k : Int → Hp → Prop} (hx : ∀ a h', E a h' → Wx G y d h0 post pc L h' a) : ∀ (a : Nat) (h' : Hp), kLx E k (.inr a) h' → Wx G y d h0 post pc L h' a := fun a h' hv => hx a h' hv
theorem kxx_R {k : Nat → Hp → Prop} (hx : ∀ a h', E a h' → Wx G y d h0 post pc L h' a) : ∀ (a : Nat) (h' : Hp), kRx E k (.inr a) h' → Wx G y d h0 post pc L h' a := fun a h' hv => hx a h' hv
theorem kxx_N {k : Hp → Prop} (hx : ∀ a h', E a h' → Wx G y d h0 post pc L h' a) : ∀ (a : Nat) (h' : Hp), kNx E k (.inr a) h' → Wx G y d h0 post pc L h' a := fun a h' hv => hx a h' hv
end KX
/-- an object -/
def rOo (h : Hp) (r : Nat) : Prop := 0 < r ∧ r < hn h ∧ hT h r ∈ cLs
