set_option maxRecDepth 100000
set_option maxHeartbeats 1000000
/-! OWN LAYER, 4: arrays, new objects, casts -/
/-- a class (by name) can be taken for another -/
def As (C E : String) : Prop := C = E ∨ Cond.castable C E ∈ lw_tbl
theorem As.use {G : Gx} {s : State} (g : Gok G) (hW : (gs G).WarmedH s.vm) {C E : String} (h : As C E) : ∀ comp c0 : ClassId, s.vm.findClass E = some comp → s.vm.findClass C = some c0 → s.vm.assignable c0 comp = true := by
  intro comp c0 h1 h2
  rcases h with rfl | h
  · exact vb_asgS comp c0 h1 h2
  · exact vb_asgC (va_Nw.warmC hW (g.1 _ h)) comp c0 h1 h2
theorem ix {i : Int} (hi : nm i) : (Int32.ofInt i).toNatClampNeg = i.toNat := by
  show (Int32.ofInt i).toInt.toNat = i.toNat
  rw [toI hi]
theorem inb {i : Int} {n : Nat} (hi : nm i) (h1 : 0 ≤ i) (h2 : i < n) : ¬ (Int32.ofInt i < 0 ∨ n ≤ (Int32.ofInt i).toNatClampNeg) := by
  rw [ix hi, show (0 : Int32) = Int32.ofInt 0 from rfl, I_lt hi nm_0]
  omega
theorem aK.arr {G : Gx} {t : Nat} (h : aK G t) {s : State} (hW : (gs G).WarmedH s.vm) : ArrOfT s (gA G t) (aY t) := by
  obtain ⟨kA, comp, h1, h2, h3, -⟩ := h
  obtain ⟨k', hk', he⟩ := hW.alike.2.2 _ _ h2
  exact fun n z => ⟨fun q hq => (by cases hq), k', hk', comp, by rw [he]; exact h3⟩
/-- the array at an address, as the machine has it -/
theorem arr_at {G : Gx} {h : Hp} {H : Heap} (hH : HR G h H) {a t : Nat} (ho : ob h a t) (h1 : 70 ≤ t) (h2 : t ≤ 77) {s : State} (hW : (gs G).WarmedH s.vm) :
    ∃ cell : Cell, tr G a = .ref (rho G a) ∧ H[rho G a]? = some cell ∧ s.isArrayOf cell (aY t) ∧ cell.vm ≠ .unknown ∧ lz a cell.slots.size (hN h a) ∧ (∀ j, j < hN h a → cell.slots[j]? = some (fv G h a (aY t) j)) ∧ (K0 ≤ a → cell.vm = .none ∧ cell.cls = gA G t) := by
  obtain ⟨cell, q0, q1, q2, q3, q4, q5, q6⟩ := (hH.2.2.2.2.2.2.1 a ho.2.1).2 (by rw [ho.2.2]; exact h1) (by rw [ho.2.2]; exact h2)
  rw [ho.2.2] at q2 q5 q6
  exact ⟨cell, q0, q1, State.isArrayOf_alike hW.alike q2, q3, q4, q5, q6⟩
/-- a slot of an array is written -/
theorem hp_aset {G : Gx} {h h' : Hp} {H H' : Heap} (hH : HR G h H) {a t i : Nat} {cell : Cell} {v : Value} (ho : ob h a t) (h1 : 70 ≤ t) (h2 : t ≤ 77) (hk : K0 ≤ a) (hi : i < hN h a)
    (q0 : tr G a = .ref (rho G a)) (q2 : (gs G).isArrayOf cell (aY t)) (q3 : cell.vm ≠ .unknown) (q4 : cell.slots.size = hN h a) (q5 : ∀ j, j < hN h a → cell.slots[j]? = some (fv G h a (aY t) j)) (q6 : cell.vm = .none ∧ cell.cls = gA G t)
    (e1 : hn h' = hn h) (e2 : hq h' = hq h) (e3 : ∀ b, hT h' b = hT h b) (e4 : ∀ b, hN h' b = hN h b) (e5 : ∀ b ty j, b ≠ a → fv G h' b ty j = fv G h b ty j) (e6 : ∀ ty j, j ≠ i → fv G h' a ty j = fv G h a ty j) (e7 : fv G h' a (aY t) i = v)
    (n1 : ∀ b j, nm (hI h' b j)) (n2 : ∀ b j, nl (hL h' b j)) (kf : gF G = true → KF h → KF h')
    (g1 : H'[rho G a]? = some (cell.setSlot i v)) (g2 : H'.size = H.size) (g3 : ∀ q, q ≠ rho G a → H'[q]? = H[q]?) : HR G h' H' := by
  refine hH.set hk e1 e2 e3 e4 e5 g2 g3 ⟨fun z => ?_, fun _ _ => ?_⟩ n1 n2 kf (fun cl hcl => by rw [g1] at hcl; cases hcl; show cell.vm.isStatics = false; rw [q6.1]; rfl)
  · rw [e3, ho.2.2] at z
    exfalso
    have : ∀ k ∈ cLs, ¬ 70 ≤ k := by decide
    exact this t z h1
  · rw [e3, ho.2.2]
    refine ⟨cell.setSlot i v, q0, g1, q2, q3, ?_, fun j hj => ?_, fun _ => q6⟩
    · refine lz_of ?_
      rw [e4, ← q4]
      simp [Cell.setSlot]
    · rw [e4] at hj
      by_cases z : j = i
      · subst z
        rw [e7]
        simp [Cell.setSlot, q4, hi]
      · rw [e6 _ _ z, ← q5 j hj]
        simp [Cell.setSlot, Ne.symm z]
/-- a new cell is made -/
theorem HR.push {G : Gx} {h : Hp} {H H' : Heap} (hH : HR G h H) {t n q : Nat} (r1 : hn h + 1 ≤ MC) (r2 : hq h + q ≤ MS) (z1 : H'.size = H.size + 1) (o1 : ∀ q, q < H.size → H'[q]? = H[q]?) (hc : cellR G (nw h t n q) (hn h) H') (hz : ∀ cell, H'[H.size]? = some cell → cell.vm.isStatics = false) : HR G (nw h t n q) H' := by
  obtain ⟨c1, c2, c3, c4, c5, c6, c7, c8, c9, c10, c11, c12⟩ := id hH
  refine ⟨by rw [hn_nw]; omega, r1, r2, by rw [z1, hn_nw, c4]; omega, fun x hx => ?_, fun b hb h0 => ?_, fun b hb => ?_, fun b j => ?_, fun b j => ?_, fun z => KF_nw (c10 z), fun b hb => by rw [hT_nw, if_neg (by omega)]; exact c11 b hb, fun q cell hq hc2 => ?_⟩
  · rw [o1 x (by omega)]
    exact c5 x hx
  · rw [hT_nw, if_neg (by omega)] at h0
    exact c6 b hb h0
  · by_cases hbn : b = hn h
    · rw [hbn]
      exact hc
    · rw [hn_nw] at hb
      refine (c7 b (by omega)).kept (by rw [hT_nw, if_neg hbn]) (by rw [hN_nw, if_neg hbn]) (fun ty j => by cases ty <;> simp only [fv, hI_nw, hL_nw, hR_nw, if_neg hbn]) (fun h0 => o1 _ ?_)
      by_cases hk : K0 ≤ b
      · exact rho_lt hH (by omega) hk
      · have := c6 b (by omega) h0
        omega
  · rw [hI_nw]
    split
    · exact nm_0
    · exact c8 b j
  · rw [hL_nw]
    split
    · exact ⟨by decide, by decide⟩
    · exact c9 b j
  · by_cases hqs : q < H.size
    · rw [o1 q hqs] at hc2
      exact c12 q cell hq hc2
    · have := (Array.getElem?_eq_some_iff.mp hc2).1
      have e : q = H.size := by omega
      rw [e] at hc2
      exact hz cell hc2
theorem rho_next {G : Gx} {h : Hp} {H : Heap} (hH : HR G h H) : rho G (hn h) = H.size := by
  rw [rho_new hH.1, hH.2.2.2.1]
theorem fv_nw {G : Gx} (g : Gok G) {h : Hp} {t m q : Nat} (ty : FieldType) (hty : isI ty = true ∨ isA ty = true ∨ ty = .long) (j : Nat) : fv G (nw h t m q) (hn h) ty j = defaultValue ty := by
  rcases hty with z | z | z
  · cases ty <;> first | (simp only [fv, hI_nw, if_pos]; rfl) | cases z
  · cases ty <;> first | (simp only [fv, hR_nw, if_pos]; exact tr_0 g) | cases z
  · subst z
    simp only [fv, hL_nw, if_pos]
    rfl
theorem cTy_ok : ∀ k ∈ cLs, ∀ j, j < cNf k → (isI (cTy k j) = true ∨ isA (cTy k j) = true ∨ cTy k j = .long) := by
  decide +kernel
section RA
variable {G : Gx} {y : Mt} {d : Nat} {h0 : Hp} {post : Rs → Hp → Prop} {pc : Nat} {L : List (Option V)} {st : List V} {h : Hp}
theorem wc_iald {a : Nat} {i : Int} (hd : decode (mB y) pc = .ok (.iaload, 1)) (ho : ob h a 70) (h1 : 0 ≤ i) (h2 : i < hN h a) (kk : Wc G y d h0 post (pc + 1) L (vI (hI h a i.toNat) :: st) h) : Wc G y d h0 post pc L (vI i :: vR a :: st) h := by
  intro p e s m args below meth c R H locs ls hC hH hL hs hl hn0 hq0
  have hi : nm i := nvs_hd hs
  obtain ⟨cell, q0, q1, q2, q3, q4, q5, -⟩ := arr_at hH ho (by decide) (by decide) hC.2.1
  rw [List.map_cons, List.map_cons, show tv G (vR a) = .ref (rho G a) from q0]
  exact W.iald hC.1 hC.2.2.2.1 q1 q2 q3 (fun z => inb hi h1 h2 (z.imp id (Nat.le_trans q4.1))) (by rw [ix hi]; exact q5 _ (by omega)) rfl rfl hd (kk p e s m args below meth c R H locs ls hC hH hL (nvs_cons (hH.2.2.2.2.2.2.2.1 _ _) (nvs_tl (nvs_tl hs))) hl hn0 hq0)
theorem wc_bald {a : Nat} {i : Int} (hd : decode (mB y) pc = .ok (.baload, 1)) (ho : ob h a 71) (h1 : 0 ≤ i) (h2 : i < hN h a) (kk : Wc G y d h0 post (pc + 1) L (vI (hI h a i.toNat) :: st) h) : Wc G y d h0 post pc L (vI i :: vR a :: st) h := by
  intro p e s m args below meth c R H locs ls hC hH hL hs hl hn0 hq0
  have hi : nm i := nvs_hd hs
  obtain ⟨cell, q0, q1, q2, q3, q4, q5, -⟩ := arr_at hH ho (by decide) (by decide) hC.2.1
  rw [List.map_cons, List.map_cons, show tv G (vR a) = .ref (rho G a) from q0]
  exact W.bald hC.1 hC.2.2.2.1 q1 q2 q3 (fun z => inb hi h1 h2 (z.imp id (Nat.le_trans q4.1))) (by rw [ix hi]; exact q5 _ (by omega)) rfl rfl hd (kk p e s m args below meth c R H locs ls hC hH hL (nvs_cons (hH.2.2.2.2.2.2.2.1 _ _) (nvs_tl (nvs_tl hs))) hl hn0 hq0)
theorem wc_zald {a : Nat} {i : Int} (hd : decode (mB y) pc = .ok (.baload, 1)) (ho : ob h a 72) (h1 : 0 ≤ i) (h2 : i < hN h a) (kk : Wc G y d h0 post (pc + 1) L (vI (hI h a i.toNat) :: st) h) : Wc G y d h0 post pc L (vI i :: vR a :: st) h := by
  intro p e s m args below meth c R H locs ls hC hH hL hs hl hn0 hq0
  have hi : nm i := nvs_hd hs
  obtain ⟨cell, q0, q1, q2, q3, q4, q5, -⟩ := arr_at hH ho (by decide) (by decide) hC.2.1
  rw [List.map_cons, List.map_cons, show tv G (vR a) = .ref (rho G a) from q0]
  exact W.zald hC.1 hC.2.2.2.1 q1 q2 q3 (fun z => inb hi h1 h2 (z.imp id (Nat.le_trans q4.1))) (by rw [ix hi]; exact q5 _ (by omega)) rfl rfl hd (kk p e s m args below meth c R H locs ls hC hH hL (nvs_cons (hH.2.2.2.2.2.2.2.1 _ _) (nvs_tl (nvs_tl hs))) hl hn0 hq0)
theorem wc_lald {a : Nat} {i : Int} (hd : decode (mB y) pc = .ok (.laload, 1)) (ho : ob h a 73) (h1 : 0 ≤ i) (h2 : i < hN h a) (kk : Wc G y d h0 post (pc + 1) L (vL (hL h a i.toNat) :: st) h) : Wc G y d h0 post pc L (vI i :: vR a :: st) h := by
  intro p e s m args below meth c R H locs ls hC hH hL hs hl hn0 hq0
  have hi : nm i := nvs_hd hs
  obtain ⟨cell, q0, q1, q2, q3, q4, q5, -⟩ := arr_at hH ho (by decide) (by decide) hC.2.1
  rw [List.map_cons, List.map_cons, show tv G (vR a) = .ref (rho G a) from q0]
  exact W.lald hC.1 hC.2.2.2.1 q1 q2 q3 (fun z => inb hi h1 h2 (z.imp id (Nat.le_trans q4.1))) (by rw [ix hi]; exact q5 _ (by omega)) rfl rfl hd (kk p e s m args below meth c R H locs ls hC hH hL (nvs_cons (hH.2.2.2.2.2.2.2.2.1 _ _) (nvs_tl (nvs_tl hs))) hl hn0 hq0)
theorem wc_aald {a t : Nat} {i : Int} (hd : decode (mB y) pc = .ok (.aaload, 1)) (ht : 74 ≤ t ∧ t ≤ 77) (ho : ob h a t) (h1 : 0 ≤ i) (h2 : i < hN h a) (kk : Wc G y d h0 post (pc + 1) L (vR (hR h a i.toNat) :: st) h) : Wc G y d h0 post pc L (vI i :: vR a :: st) h := by
  intro p e s m args below meth c R H locs ls hC hH hL hs hl hn0 hq0
  have hi : nm i := nvs_hd hs
  obtain ⟨cell, q0, q1, q2, q3, q4, q5, -⟩ := arr_at hH ho (by omega) ht.2 hC.2.1
  have hA : isA (aY t) = true ∧ (aY t).isReference = true := by
    have : t = 74 ∨ t = 75 ∨ t = 76 ∨ t = 77 := by omega
    rcases this with rfl | rfl | rfl | rfl <;> exact ⟨rfl, rfl⟩
  rw [List.map_cons, List.map_cons, show tv G (vR a) = .ref (rho G a) from q0]
  exact W.aald hC.1 hC.2.2.2.1 q1 q2 hA.2 q3 (fun z => inb hi h1 h2 (z.imp id (Nat.le_trans q4.1))) (by rw [ix hi, q5 _ (by omega), fv_A hA.1]) rfl rfl hd (kk p e s m args below meth c R H locs ls hC hH hL (nvs_cons trivial (nvs_tl (nvs_tl hs))) hl hn0 hq0)
theorem wc_alen {a t : Nat} (hd : decode (mB y) pc = .ok (.arraylength, 1)) (ht : 70 ≤ t ∧ t ≤ 77) (ho : ob h a t) (hm : nm (hN h a)) (kk : Wc G y d h0 post (pc + 1) L (vI (hN h a) :: st) h) : Wc G y d h0 post pc L (vR a :: st) h := by
  intro p e s m args below meth c R H locs ls hC hH hL hs hl hn0 hq0
  obtain ⟨cell, q0, q1, q2, q3, q4, q5, -⟩ := arr_at hH ho ht.1 ht.2 hC.2.1
  rw [List.map_cons, show tv G (vR a) = .ref (rho G a) from q0]
  exact W.alen (n := Int32.ofInt (hN h a)) hC.1 hC.2.2.2.1 q1 q2 (q4.2.1.trans (Int32.ofInt_eq_ofNat (n := hN h a)).symm) rfl rfl hd (kk p e s m args below meth c R H locs ls hC hH hL (nvs_cons hm (nvs_tl hs)) hl hn0 hq0)
theorem arr_gs {G : Gx} {s : State} (hW : (gs G).WarmedH s.vm) {cell : Cell} {ty : FieldType} (h : s.isArrayOf cell ty) : (gs G).isArrayOf cell ty := State.isArrayOf_alike hW.alike.symm h
theorem wc_iast {a : Nat} {i v : Int} (hd : decode (mB y) pc = .ok (.iastore, 1)) (ho : ob h a 70) (hk : K0 ≤ a) (h1 : 0 ≤ i) (h2 : i < hN h a) (kk : Wc G y d h0 post (pc + 1) L st (sI h a i.toNat v)) : Wc G y d h0 post pc L (vI v :: vI i :: vR a :: st) h := by
  intro p e s m args below meth c R H locs ls hC hH hL hs hl hn0 hq0
  have hv : nm v := nvs_hd hs
  have hi : nm i := nvs_hd (nvs_tl hs)
  obtain ⟨cell, q0, q1, q2, q3, q4, q5, q6⟩ := arr_at hH ho (by decide) (by decide) hC.2.1
  rw [List.map_cons, List.map_cons, List.map_cons, show tv G (vR a) = .ref (rho G a) from q0]
  refine W.iast hC.1 hC.2.2.2.1 q1 q2 q3 (by rw [q4.2.2 hk]; exact inb hi h1 h2) rfl rfl hd fun H' g1 g2 g3 => ?_
  rw [ix hi] at g1 ⊢
  refine kk p e s m args below meth c R H' _ ls hC ?_ hL (nvs_tl (nvs_tl (nvs_tl hs))) (fun q hq => ?_) hn0 hq0
  · exact hp_aset hH ho (by decide) (by decide) hk (by omega) q0 (arr_gs hC.2.1 q2) q3 (q4.2.2 hk) q5 (q6 hk) rfl rfl (fun _ => rfl) (fun _ => rfl) (fun b ty j hb => fv_sI (fun z => hb z.1)) (fun ty j hj => fv_sI (fun z => hj z.2)) (by rw [fv_I rfl, hI_sI, if_pos ⟨rfl, rfl⟩]; rfl) (nm_sI hv hH.2.2.2.2.2.2.2.1) hH.2.2.2.2.2.2.2.2.1 (fun _ z => z) g1 g2 g3
  · rcases List.mem_append.mp hq with z | z
    · exact hl q z
    · rw [List.mem_singleton.mp z]
      exact rho_ge hk
theorem wc_bast {a : Nat} {i v : Int} (hd : decode (mB y) pc = .ok (.bastore, 1)) (ho : ob h a 71) (hk : K0 ≤ a) (h1 : 0 ≤ i) (h2 : i < hN h a) (hf : okI .byte v) (kk : Wc G y d h0 post (pc + 1) L st (sI h a i.toNat v)) : Wc G y d h0 post pc L (vI v :: vI i :: vR a :: st) h := by
  intro p e s m args below meth c R H locs ls hC hH hL hs hl hn0 hq0
  have hv : nm v := nvs_hd hs
  have hi : nm i := nvs_hd (nvs_tl hs)
  obtain ⟨cell, q0, q1, q2, q3, q4, q5, q6⟩ := arr_at hH ho (by decide) (by decide) hC.2.1
  rw [List.map_cons, List.map_cons, List.map_cons, show tv G (vR a) = .ref (rho G a) from q0]
  refine W.bast hC.1 hC.2.2.2.1 q1 q2 q3 (by rw [q4.2.2 hk]; exact inb hi h1 h2) rfl rfl hd fun H' g1 g2 g3 => ?_
  rw [ix hi] at g1 ⊢
  rw [hf.1] at g1
  refine kk p e s m args below meth c R H' _ ls hC ?_ hL (nvs_tl (nvs_tl (nvs_tl hs))) (fun q hq => ?_) hn0 hq0
  · exact hp_aset hH ho (by decide) (by decide) hk (by omega) q0 (arr_gs hC.2.1 q2) q3 (q4.2.2 hk) q5 (q6 hk) rfl rfl (fun _ => rfl) (fun _ => rfl) (fun b ty j hb => fv_sI (fun z => hb z.1)) (fun ty j hj => fv_sI (fun z => hj z.2)) (by rw [fv_I rfl, hI_sI, if_pos ⟨rfl, rfl⟩]; rfl) (nm_sI hv hH.2.2.2.2.2.2.2.1) hH.2.2.2.2.2.2.2.2.1 (fun _ z => z) g1 g2 g3
  · rcases List.mem_append.mp hq with z | z
    · exact hl q z
    · rw [List.mem_singleton.mp z]
      exact rho_ge hk
theorem wc_zast {a : Nat} {i v : Int} (hd : decode (mB y) pc = .ok (.bastore, 1)) (ho : ob h a 72) (hk : K0 ≤ a) (h1 : 0 ≤ i) (h2 : i < hN h a) (hf : v = 0 ∨ v = 1) (kk : Wc G y d h0 post (pc + 1) L st (sI h a i.toNat v)) : Wc G y d h0 post pc L (vI v :: vI i :: vR a :: st) h := by
  intro p e s m args below meth c R H locs ls hC hH hL hs hl hn0 hq0
  have hv : nm v := nvs_hd hs
  have hi : nm i := nvs_hd (nvs_tl hs)
  obtain ⟨cell, q0, q1, q2, q3, q4, q5, q6⟩ := arr_at hH ho (by decide) (by decide) hC.2.1
  rw [List.map_cons, List.map_cons, List.map_cons, show tv G (vR a) = .ref (rho G a) from q0]
  refine W.zast hC.1 hC.2.2.2.1 q1 q2 q3 (by rw [q4.2.2 hk]; exact inb hi h1 h2) rfl rfl hd fun H' g1 g2 g3 => ?_
  rw [ix hi] at g1 ⊢
  rw [(okI_bool hf).1] at g1
  refine kk p e s m args below meth c R H' _ ls hC ?_ hL (nvs_tl (nvs_tl (nvs_tl hs))) (fun q hq => ?_) hn0 hq0
  · exact hp_aset hH ho (by decide) (by decide) hk (by omega) q0 (arr_gs hC.2.1 q2) q3 (q4.2.2 hk) q5 (q6 hk) rfl rfl (fun _ => rfl) (fun _ => rfl) (fun b ty j hb => fv_sI (fun z => hb z.1)) (fun ty j hj => fv_sI (fun z => hj z.2)) (by rw [fv_I rfl, hI_sI, if_pos ⟨rfl, rfl⟩]; rfl) (nm_sI hv hH.2.2.2.2.2.2.2.1) hH.2.2.2.2.2.2.2.2.1 (fun _ z => z) g1 g2 g3
  · rcases List.mem_append.mp hq with z | z
    · exact hl q z
    · rw [List.mem_singleton.mp z]
      exact rho_ge hk
theorem wc_last {a : Nat} {i v : Int} (hd : decode (mB y) pc = .ok (.lastore, 1)) (ho : ob h a 73) (hk : K0 ≤ a) (h1 : 0 ≤ i) (h2 : i < hN h a) (kk : Wc G y d h0 post (pc + 1) L st (sL h a i.toNat v)) : Wc G y d h0 post pc L (vL v :: vI i :: vR a :: st) h := by
  intro p e s m args below meth c R H locs ls hC hH hL hs hl hn0 hq0
  have hv : nl v := nvs_hd hs
  have hi : nm i := nvs_hd (nvs_tl hs)
  obtain ⟨cell, q0, q1, q2, q3, q4, q5, q6⟩ := arr_at hH ho (by decide) (by decide) hC.2.1
  rw [List.map_cons, List.map_cons, List.map_cons, show tv G (vR a) = .ref (rho G a) from q0]
  refine W.last hC.1 hC.2.2.2.1 q1 q2 q3 (by rw [q4.2.2 hk]; exact inb hi h1 h2) rfl rfl hd fun H' g1 g2 g3 => ?_
  rw [ix hi] at g1 ⊢
  refine kk p e s m args below meth c R H' _ ls hC ?_ hL (nvs_tl (nvs_tl (nvs_tl hs))) (fun q hq => ?_) hn0 hq0
  · exact hp_aset hH ho (by decide) (by decide) hk (by omega) q0 (arr_gs hC.2.1 q2) q3 (q4.2.2 hk) q5 (q6 hk) rfl rfl (fun _ => rfl) (fun _ => rfl) (fun b ty j hb => fv_sL (fun z => hb z.1)) (fun ty j hj => fv_sL (fun z => hj z.2)) (by show Value.long (Int64.ofInt ((sL h a i.toNat v).2.1 a i.toNat)) = _; rw [show (sL h a i.toNat v).2.1 a i.toNat = v from (hL_sL h a i.toNat v a i.toNat).trans (if_pos ⟨rfl, rfl⟩)]) hH.2.2.2.2.2.2.2.1 (nl_sL hv hH.2.2.2.2.2.2.2.2.1) (fun _ z => z) g1 g2 g3
  · rcases List.mem_append.mp hq with z | z
    · exact hl q z
    · rw [List.mem_singleton.mp z]
      exact rho_ge hk
/-- the name of the component class of an array of references -/
def aE (t : Nat) : String := match aY t with
  | .object C => C
  | _ => ""
/-- an object (not an array) is put into an array of objects -/
theorem wc_aast {a t v k : Nat} {i : Int} (hd : decode (mB y) pc = .ok (.aastore, 1)) (ht : 74 ≤ t ∧ t ≤ 76) (ho : ob h a t) (hk : K0 ≤ a) (hv : ob h v k) (hkc : k ∈ cLs) (has : As (cNm k) (aE t)) (h1 : 0 ≤ i) (h2 : i < hN h a) (kk : Wc G y d h0 post (pc + 1) L st (sR h a i.toNat v)) : Wc G y d h0 post pc L (vR v :: vI i :: vR a :: st) h := by
  intro p e s m args below meth c R H locs ls hC hH hL hs hl hn0 hq0
  have hi : nm i := nvs_hd (nvs_tl hs)
  have hW := hC.2.1
  have g : Gok G := hC.ok
  obtain ⟨cell, q0, q1, q2, q3, q4, q5, q6⟩ := arr_at hH ho (by omega) (by omega) hW
  obtain ⟨cv, w0, w1, w2, w3, w4, w5, w6⟩ := (hH.2.2.2.2.2.2.1 v hv.2.1).1 (by rw [hv.2.2]; exact hkc)
  rw [hv.2.2] at w2
  have hE : ∃ C, aY t = .object C ∧ aE t = C ∧ (aY t).isReference = true ∧ isA (aY t) = true := by
    have : t = 74 ∨ t = 75 ∨ t = 76 := by omega
    rcases this with rfl | rfl | rfl <;> exact ⟨_, rfl, rfl, rfl, rfl⟩
  obtain ⟨C, hC1, hC2, hC3, hC4⟩ := hE
  obtain ⟨kA, comp, k1, k2, k3, k4⟩ := g.2.2.1 t (by omega) (by omega)
  obtain ⟨kA', hkA', heA⟩ := hW.alike.2.2 _ _ k2
  have hcomp : s.vm.findClass (aE t) = some comp := by rw [hC2, hW.alike.findClass]; exact k4 C hC1
  obtain ⟨kE, hkE, -⟩ := Vm.findClass_spec hcomp
  obtain ⟨-, hfk, kC, hkC, -⟩ := kn g hW hkc
  have hass := As.use g hW has comp (gC G k) hcomp hfk
  rw [List.map_cons, List.map_cons, List.map_cons, show tv G (vR a) = .ref (rho G a) from q0, show tv G (vR v) = .ref (rho G v) from w0]
  refine W.aast hC.1 hC.2.2.2.1 q1 (fun q h => by rw [(q6 hk).1] at h; cases h) q3 (by rw [(q6 hk).2]; exact hkA') (by rw [heA]; exact k3) hC3 hkE ⟨fun z => inb hi h1 h2 (Or.inl z), by rw [q4.2.2 hk, ix hi]; omega⟩ w1 (fun q h => by rw [h] at w4; cases w4) (by rw [w2]; exact hkC) (by rw [w2]; exact hass) rfl rfl hd fun H' g1 g2 g3 => ?_
  rw [ix hi] at g1 ⊢
  refine kk p e s m args below meth c R H' _ ls hC ?_ hL (nvs_tl (nvs_tl (nvs_tl hs))) (fun q hq => ?_) hn0 hq0
  · exact hp_aset hH ho (by omega) (by omega) hk (by omega) q0 (arr_gs hC.2.1 q2) q3 (q4.2.2 hk) q5 (q6 hk) rfl rfl (fun _ => rfl) (fun _ => rfl) (fun b ty j hb => fv_sR (fun z => hb z.1)) (fun ty j hj => fv_sR (fun z => hj z.2)) (by rw [fv_A hC4, hR_sR, if_pos ⟨rfl, rfl⟩]; exact w0) hH.2.2.2.2.2.2.2.1 hH.2.2.2.2.2.2.2.2.1 (fun _ z => KF_sR z (by rw [ho.2.2]; omega)) g1 g2 g3
  · rcases List.mem_append.mp hq with z | z
    · exact hl q z
    · rw [List.mem_singleton.mp z]
      exact rho_ge hk
theorem hp_room {R : Room} {d : Nat} {h0 h : Hp} {n : Nat} (hr : RmOk R d h0) (hn0 : hn h0 ≤ hn h) (hq0 : hq h0 ≤ hq h) (r1 : hn h + 1 ≤ MC) (r2 : hq h + n ≤ MS) : hn h - hn h0 + 1 ≤ R.cells ∧ hq h - hq h0 + n ≤ R.slots := by
  have h1 := hr.2.2.1
  have h2 := hr.2.2.2
  exact ⟨by omega, by omega⟩
theorem Cx.room {G : Gx} {y : Mt} {p : Program} {s : State} {m : MethodId} {meth : Method} {c : Code} {R : Room} {d : Nat} {h0 : Hp} (hC : Cx G y p s m meth c R d h0) : RmOk R d h0 := hC.2.2.2.2.2.2.2.2.2.1
theorem wc_new {idx k n : Nat} (hd : decode (mB y) pc = .ok (.new idx, 3)) (hcl : Cond.classLink (mY y).cls idx (cNm k) ∈ lw_all) (hin : Cond.instantiable (cNm k) n ∈ lw_all) (hini : Cond.initialized (cNm k) ∈ lw_all) (hk : k ∈ cLs) (r1 : hn h + 1 ≤ MC) (r2 : hq h + n ≤ MS)
    (kk : Wc G y d h0 post (pc + 3) L (vR (hn h) :: st) (nw h k 0 n)) : Wc G y d h0 post pc L st h := by
  intro p e s m args below meth c R H locs ls hC hH hL hs hl hn0 hq0
  have hW := hC.2.1
  have g : Gok G := hC.ok
  have hrm := hp_room hC.room hn0 hq0 r1 r2
  have hkn := kn g hW hk
  refine W.newcK hC.1 hC.2.2.2.1 (findC hC.2.2.1) (wd g hW hcl) (wd g hW hin) (wd g hW hini) rfl hd hrm.1 hrm.2 hkn.2.1 rfl fun H' kC hkC e1 z1 o1 => ?_
  have w := kk p e s m args below meth c R H' locs ls hC ?_ hL (nvs_cons trivial hs) hl (by rw [hn_nw]; omega) (by rw [hq_nw]; omega)
  · rw [List.map_cons, show tv G (vR (hn h)) = .ref H.size from by rw [← rho_next hH]; exact tr_rho hH.1, hn_nw, hq_nw, show hn h + 1 - hn h0 = hn h - hn h0 + 1 by omega, show hq h + n - hq h0 = hq h - hq h0 + n by omega] at w
    exact w
  · refine hH.push r1 r2 z1 o1 ⟨fun _ => ?_, fun z1 _ => ?_⟩ (fun cl hcl => by rw [e1] at hcl; cases hcl; rfl)
    · rw [show hT (nw h k 0 n) (hn h) = k from by rw [hT_nw, if_pos rfl]]
      obtain ⟨cell, u1, u2, u3, u4⟩ := u_born (o := H.size) (H := H') (cTy k) (fun w h => wd (A := args) g hW h) (cIn k hk) hkn hkC e1 (cTo k hk)
      refine ⟨cell, tr_rho hH.1, by rw [rho_next hH]; exact u1, u2, (by rw [u3]; intro z; cases z), (by rw [u3]; rfl), fun j hj => ?_, fun _ => u3⟩
      rw [fv_nw g _ (cTy_ok k hk j hj)]
      exact u4 j hj
    · rw [hT_nw, if_pos rfl] at z1
      exfalso
      have : ∀ k ∈ cLs, ¬ 70 ≤ k := by decide
      exact this k hk z1
theorem wc_newarr {ty : ArrayType} {t : Nat} {i : Int} (hd : decode (mB y) pc = .ok (.newarray ty, 2)) (hty : newarray.typeOf ty = aY t) (ht : 70 ≤ t ∧ t ≤ 73) (hac : Cond.arrayClass (aY t) ∈ lw_all) (h1 : 0 ≤ i) (h2 : i ≤ 30000) (r1 : hn h + 1 ≤ MC) (r2 : hq h + i.toNat ≤ MS)
    (kk : Wc G y d h0 post (pc + 2) L (vR (hn h) :: st) (nw h t i.toNat i.toNat)) : Wc G y d h0 post pc L (vI i :: st) h := by
  intro p e s m args below meth c R H locs ls hC hH hL hs hl hn0 hq0
  have hi : nm i := nvs_hd hs
  have hW := hC.2.1
  have g : Gok G := hC.ok
  have hrm := hp_room hC.room hn0 hq0 r1 r2
  obtain ⟨kA, comp, k1, k2, k3, k4⟩ := g.2.2.1 t ht.1 (by omega)
  have hT4 : t = 70 ∨ t = 71 ∨ t = 72 ∨ t = 73 := by omega
  refine va_newaK hC.1 hC.2.2.2.1 (by rw [hty]; exact wd g hW hac) rfl hd (n := Int32.ofInt i) rfl (fun z => by rw [show (0 : Int32) = Int32.ofInt 0 from rfl, I_lt hi nm_0] at z; omega) (ix hi) (by rw [hty]; rcases hT4 with rfl | rfl | rfl | rfl <;> simp [aY, componentBytes] <;> omega) hrm.1 hrm.2 rfl fun H' cA e1 z1 o1 a1 f1 => ?_
  have hcA : cA = gA G t := by
    rw [hty, hW.alike.findClass, k1] at f1
    exact (Option.some.inj f1).symm
  subst hcA
  have w := kk p e s m args below meth c R H' locs ls hC ?_ hL (nvs_cons trivial (nvs_tl hs)) hl (by rw [hn_nw]; omega) (by rw [hq_nw]; omega)
  · rw [List.map_cons, show tv G (vR (hn h)) = .ref H.size from by rw [← rho_next hH]; exact tr_rho hH.1, hn_nw, hq_nw, show hn h + 1 - hn h0 = hn h - hn h0 + 1 by omega, show hq h + i.toNat - hq h0 = hq h - hq h0 + i.toNat by omega] at w
    exact w
  · refine hH.push r1 r2 z1 o1 ⟨fun z => ?_, fun _ _ => ?_⟩ (fun cl hcl => by rw [e1] at hcl; cases hcl; rfl)
    · rw [hT_nw, if_pos rfl] at z
      exfalso
      have : ∀ k ∈ cLs, ¬ 70 ≤ k := by decide
      exact this t z ht.1
    · rw [show hT (nw h t i.toNat i.toNat) (hn h) = t from by rw [hT_nw, if_pos rfl]]
      have hNn : hN (nw h t i.toNat i.toNat) (hn h) = i.toNat := by rw [hN_nw, if_pos rfl]
      refine ⟨_, tr_rho hH.1, by rw [rho_next hH]; exact e1, ?_, (by intro z; cases z), lz_of (by rw [hNn, arrV_size]), fun j hj => ?_, fun _ => ⟨rfl, rfl⟩⟩
      · rw [← hty]
        exact arr_gs hW (a1 _ _)
      · rw [hNn] at hj
        rw [arrV_read _ _ hj, fv_nw g, hty]
        rcases hT4 with rfl | rfl | rfl | rfl <;> first | exact Or.inl rfl | exact Or.inr (Or.inr rfl)
theorem wc_anewarr {idx t : Nat} {C : String} {i : Int} (hd : decode (mB y) pc = .ok (.anewarray idx, 3)) (ht : 74 ≤ t ∧ t ≤ 76) (hC1 : aY t = .object C) (hcl : Cond.classLink (mY y).cls idx C ∈ lw_all) (hov : Cond.arrayOver (.object C) ∈ lw_tbl) (h1 : 0 ≤ i) (h2 : i ≤ 30000) (r1 : hn h + 1 ≤ MC) (r2 : hq h + i.toNat ≤ MS)
    (kk : Wc G y d h0 post (pc + 3) L (vR (hn h) :: st) (nw h t i.toNat i.toNat)) : Wc G y d h0 post pc L (vI i :: st) h := by
  intro p e s m args below meth c R H locs ls hC hH hL hs hl hn0 hq0
  have hi : nm i := nvs_hd hs
  have hW := hC.2.1
  have g : Gok G := hC.ok
  have hrm := hp_room hC.room hn0 hq0 r1 r2
  obtain ⟨kA, comp, k1, k2, k3, k4⟩ := g.2.2.1 t (by omega) (by omega)
  have hix := ix hi
  refine W.anew hC.1 hC.2.2.2.1 (findC hC.2.2.1) (wd g hW hcl) (va_AO.use (va_AO.moved hW.alike (g.1 _ hov))) rfl hd (n := Int32.ofInt i) rfl (fun z => by rw [show (0 : Int32) = Int32.ofInt 0 from rfl, I_lt hi nm_0] at z; omega) (by rw [hix]; omega) hrm.1 (by rw [hix]; exact hrm.2) fun cA kA2 comp2 f1 f2 f3 f4 => ?_
  have hcA : cA = gA G t := by
    rw [hW.alike.findClass, ← hC1, k1] at f1
    exact (Option.some.inj f1).symm
  subst hcA
  rw [hix, arrV_new]
  have hH' : HR G (nw h t i.toNat i.toNat) (H.push (arrV (gA G t) i.toNat fun _ => .null)) := by
    refine hH.push r1 r2 (by simp) (fun q hq => by simp [Array.getElem?_push, Nat.ne_of_lt hq]) ⟨fun z => ?_, fun _ _ => ?_⟩ (fun cl hcl => by simp at hcl; rw [← hcl]; rfl)
    · rw [hT_nw, if_pos rfl] at z
      exfalso
      have : ∀ k ∈ cLs, ¬ 70 ≤ k := by decide
      exact this t z (by omega)
    · rw [show hT (nw h t i.toNat i.toNat) (hn h) = t from by rw [hT_nw, if_pos rfl]]
      have hNn : hN (nw h t i.toNat i.toNat) (hn h) = i.toNat := by rw [hN_nw, if_pos rfl]
      refine ⟨arrV (gA G t) i.toNat fun _ => .null, tr_rho hH.1, by rw [rho_next hH]; simp, (g.2.2.1 t (by omega) (by omega)).arr (State.WarmedH.refl _) _ _, (by intro z; cases z), lz_of (by rw [hNn, arrV_size]), fun j hj => ?_, fun _ => ⟨rfl, rfl⟩⟩
      rw [hNn] at hj
      rw [arrV_read _ _ hj, fv_nw g _ (by rw [hC1]; exact Or.inr (Or.inl rfl)), hC1]
      rfl
  have w := kk p e s m args below meth c R _ locs ls hC hH' hL (nvs_cons trivial (nvs_tl hs)) hl (by rw [hn_nw]; omega) (by rw [hq_nw]; omega)
  rw [List.map_cons, show tv G (vR (hn h)) = .ref H.size from by rw [← rho_next hH]; exact tr_rho hH.1, hn_nw, hq_nw, show hn h + 1 - hn h0 = hn h - hn h0 + 1 by omega, show hq h + i.toNat - hq h0 = hq h - hq h0 + i.toNat by omega] at w
  exact w
/-- an object is cast to a class that it is of -/
theorem wc_cast {idx k a : Nat} {C : String} (hd : decode (mB y) pc = .ok (.checkcast idx, 3)) (hcl : Cond.classLink (mY y).cls idx C ∈ lw_all) (hk : k ∈ cLs) (has : As (cNm k) C) (ho : ob h a k) (kk : Wc G y d h0 post (pc + 3) L (vR a :: st) h) : Wc G y d h0 post pc L (vR a :: st) h := by
  intro p e s m args below meth c R H locs ls hC hH hL hs hl hn0 hq0
  have hW := hC.2.1
  have g : Gok G := hC.ok
  obtain ⟨cv, w0, w1, w2, w3, w4, -⟩ := (hH.2.2.2.2.2.2.1 a ho.2.1).1 (by rw [ho.2.2]; exact hk)
  rw [ho.2.2] at w2
  obtain ⟨-, hfk, kC, hkC, -⟩ := kn g hW hk
  have w := kk p e s m args below meth c R H locs ls hC hH hL hs hl hn0 hq0
  rw [List.map_cons, show tv G (vR a) = .ref (rho G a) from w0] at w ⊢
  intro T hT X
  have hfc : ∃ t0, s.vm.findClass C = some t0 ∧ s.vm.assignable (gC G k) t0 = true := by
    rcases has with rfl | z
    · exact ⟨_, hfk, vb_asgS _ _ hfk hfk⟩
    · obtain ⟨c0, t0, f1, f2, f3⟩ := Cond.castable_spec (va_Nw.use (A := args) rfl (va_Nw.warmC hW (g.1 _ z)))
      cases hfk.symm.trans f1
      exact ⟨t0, f2, f3⟩
  obtain ⟨t0, f2, f3⟩ := hfc
  obtain ⟨vm', X', stp⟩ := X.checkcastYes hC.1 (findC hC.2.2.1) (wd g hW hcl) (by rw [hT]; exact w1) w4 f2 (by rw [w2]; exact f3) (g := F0 m pc ls (.ref (rho G a) :: st.map (tv G))) rfl rfl (by rw [hC.2.2.2.1]; exact hd)
  obtain ⟨t, a1, b1⟩ := w (T.setVm vm') hT X'
  exact ⟨t, stp t a1, b1⟩
end RA
