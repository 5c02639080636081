set_option maxRecDepth 100000
set_option maxHeartbeats 4000000
theorem q197 : (Jvm.Cond.laysStatic "java/util/ArrayList" "DEFAULTCAPACITY_EMPTY_ELEMENTDATA" "[Ljava/lang/Object;") ∈ lw_tbl := lw_at lw_m1 70 rfl
theorem q846 : (Jvm.Cond.stringRef "FlyingDoctors$Reader" (67 : Nat) ";()+-*/<=") ∈ lw_tbl := lw_at lw_m3 239 rfl
theorem q860 : (Jvm.Cond.laysStatic "java/lang/String" "COMPACT_STRINGS" "Z") ∈ lw_tbl := lw_at lw_m4 13 rfl
theorem q899 : (Jvm.Cond.laysStatic "jdk/internal/util/Preconditions" "SIOOBE_FORMATTER" "Ljava/util/function/BiFunction;") ∈ lw_tbl := lw_at lw_m4 52 rfl
theorem q933 : (Jvm.Cond.stringRef "FlyingDoctors$Reader" (243 : Nat) "word") ∈ lw_tbl := lw_at lw_m4 86 rfl
theorem q957 : (Jvm.Cond.stringRef "FlyingDoctors$Reader" (245 : Nat) "first") ∈ lw_tbl := lw_at lw_m4 110 rfl
theorem q958 : (Jvm.Cond.stringRef "FlyingDoctors$Reader" (247 : Nat) "fly") ∈ lw_tbl := lw_at lw_m4 111 rfl
theorem q959 : (Jvm.Cond.stringRef "FlyingDoctors$Reader" (249 : Nat) "chest") ∈ lw_tbl := lw_at lw_m4 112 rfl
theorem q960 : (Jvm.Cond.stringRef "FlyingDoctors$Reader" (251 : Nat) "set") ∈ lw_tbl := lw_at lw_m4 113 rfl
theorem q995 : (Jvm.Cond.stringRef "FlyingDoctors$Reader" (206 : Nat) " word first fly chest doctor nurse any if set and or not ") ∈ lw_tbl := lw_at lw_m4 148 rfl
theorem q1005 : (Jvm.Cond.stringRef "FlyingDoctors$Reader" (164 : Nat) " rest duty reserve ground fetch ") ∈ lw_tbl := lw_at lw_m4 158 rfl
theorem q1006 : (Jvm.Cond.stringRef "FlyingDoctors$Reader" (156 : Nat) " wet strip needs lamps night miles fuel flown waits left ") ∈ lw_tbl := lw_at lw_m4 159 rfl
theorem q1165 : (Jvm.Cond.stringRef "java/util/Arrays" (337 : Nat) " > ") ∈ lw_tbl := lw_at lw_m5 78 rfl
theorem q1312 : (Jvm.Cond.stringRef "FlyingDoctors$Reader" (190 : Nat) "not") ∈ lw_tbl := lw_at lw_m5 225 rfl
theorem q1426 : (Jvm.Cond.stringRef "FlyingDoctors$Reader" (200 : Nat) "and") ∈ lw_tbl := lw_at lw_m6 99 rfl
theorem q1427 : (Jvm.Cond.stringRef "FlyingDoctors$Reader" (204 : Nat) "or") ∈ lw_tbl := lw_at lw_m6 100 rfl
theorem q1432 : (Jvm.Cond.stringRef "FlyingDoctors$Reader" (217 : Nat) "doctor") ∈ lw_tbl := lw_at lw_m6 105 rfl
theorem q1433 : (Jvm.Cond.stringRef "FlyingDoctors$Reader" (219 : Nat) "nurse") ∈ lw_tbl := lw_at lw_m6 106 rfl
theorem q1434 : (Jvm.Cond.stringRef "FlyingDoctors$Reader" (221 : Nat) "any") ∈ lw_tbl := lw_at lw_m6 107 rfl
theorem q1452 : (Jvm.Cond.stringRef "FlyingDoctors$Reader" (228 : Nat) "if") ∈ lw_tbl := lw_at lw_m6 125 rfl
/-! THE START: constants, tables, the first memory -/
def kTm (i : Nat) : Term := match i with
  | 0 => .string "java/util/Arrays" 337
  | 1 => .string "FlyingDoctors$Reader" 67
  | 2 => .string "FlyingDoctors$Reader" 243
  | 3 => .string "FlyingDoctors$Reader" 245
  | 4 => .string "FlyingDoctors$Reader" 247
  | 5 => .string "FlyingDoctors$Reader" 249
  | 6 => .string "FlyingDoctors$Reader" 251
  | 7 => .string "FlyingDoctors$Reader" 206
  | 8 => .string "FlyingDoctors$Reader" 164
  | 9 => .string "FlyingDoctors$Reader" 156
  | 10 => .string "FlyingDoctors$Reader" 190
  | 11 => .string "FlyingDoctors$Reader" 200
  | 12 => .string "FlyingDoctors$Reader" 204
  | 13 => .string "FlyingDoctors$Reader" 217
  | 14 => .string "FlyingDoctors$Reader" 219
  | 15 => .string "FlyingDoctors$Reader" 221
  | 16 => .string "FlyingDoctors$Reader" 228
  | _ => .string "" 0
def kBy (i : Nat) : List Int32 := match i with
  | 0 => [32, 62, 32]
  | 1 => [59, 40, 41, 43, 45, 42, 47, 60, 61]
  | 2 => [119, 111, 114, 100]
  | 3 => [102, 105, 114, 115, 116]
  | 4 => [102, 108, 121]
  | 5 => [99, 104, 101, 115, 116]
  | 6 => [115, 101, 116]
  | 7 => [32, 119, 111, 114, 100, 32, 102, 105, 114, 115, 116, 32, 102, 108, 121, 32, 99, 104, 101, 115, 116, 32, 100, 111, 99, 116, 111, 114, 32, 110, 117, 114, 115, 101, 32, 97, 110, 121, 32, 105, 102, 32, 115, 101, 116, 32, 97, 110, 100, 32, 111, 114, 32, 110, 111, 116, 32]
  | 8 => [32, 114, 101, 115, 116, 32, 100, 117, 116, 121, 32, 114, 101, 115, 101, 114, 118, 101, 32, 103, 114, 111, 117, 110, 100, 32, 102, 101, 116, 99, 104, 32]
  | 9 => [32, 119, 101, 116, 32, 115, 116, 114, 105, 112, 32, 110, 101, 101, 100, 115, 32, 108, 97, 109, 112, 115, 32, 110, 105, 103, 104, 116, 32, 109, 105, 108, 101, 115, 32, 102, 117, 101, 108, 32, 102, 108, 111, 119, 110, 32, 119, 97, 105, 116, 115, 32, 108, 101, 102, 116, 32]
  | 10 => [110, 111, 116]
  | 11 => [97, 110, 100]
  | 12 => [111, 114]
  | 13 => [100, 111, 99, 116, 111, 114]
  | 14 => [110, 117, 114, 115, 101]
  | 15 => [97, 110, 121]
  | 16 => [105, 102]
  | _ => []
def kCs (i : Nat) : List Cond := [Cond.exactly (kTm i) "java/lang/String", Cond.eq (.field (kTm i) "java/lang/String" "coder" "B") (.int 0), Cond.arrayOf (.field (kTm i) "java/lang/String" "value" "[B") .byte, Cond.eq (.length (.field (kTm i) "java/lang/String" "value" "[B")) (.int (Int32.ofNat (kBy i).length))] ++ (List.range (kBy i).length).map fun j => Cond.eq (.elem (.field (kTm i) "java/lang/String" "value" "[B") (.int (Int32.ofNat j))) (.int ((kBy i).getD j 0))
theorem kCs_0 : ((flatC (Jvm.Cond.and given_1 narrow_1)).drop 670).take 7 = kCs 0 := by decide +kernel
theorem kCs_1 : ((flatC (Jvm.Cond.and given_1 narrow_1)).drop 423).take 13 = kCs 1 := by decide +kernel
theorem kCs_2 : ((flatC (Jvm.Cond.and given_1 narrow_1)).drop 436).take 8 = kCs 2 := by decide +kernel
theorem kCs_3 : ((flatC (Jvm.Cond.and given_1 narrow_1)).drop 445).take 9 = kCs 3 := by decide +kernel
theorem kCs_4 : ((flatC (Jvm.Cond.and given_1 narrow_1)).drop 456).take 7 = kCs 4 := by decide +kernel
theorem kCs_5 : ((flatC (Jvm.Cond.and given_1 narrow_1)).drop 466).take 9 = kCs 5 := by decide +kernel
theorem kCs_6 : ((flatC (Jvm.Cond.and given_1 narrow_1)).drop 479).take 7 = kCs 6 := by decide +kernel
theorem kCs_7 : ((flatC (Jvm.Cond.and given_1 narrow_1)).drop 491).take 61 = kCs 7 := by decide +kernel
theorem kCs_8 : ((flatC (Jvm.Cond.and given_1 narrow_1)).drop 558).take 36 = kCs 8 := by decide +kernel
theorem kCs_9 : ((flatC (Jvm.Cond.and given_1 narrow_1)).drop 601).take 61 = kCs 9 := by decide +kernel
theorem kCs_10 : ((flatC (Jvm.Cond.and given_1 narrow_1)).drop 686).take 7 = kCs 10 := by decide +kernel
theorem kCs_11 : ((flatC (Jvm.Cond.and given_1 narrow_1)).drop 703).take 7 = kCs 11 := by decide +kernel
theorem kCs_12 : ((flatC (Jvm.Cond.and given_1 narrow_1)).drop 721).take 6 = kCs 12 := by decide +kernel
theorem kCs_13 : ((flatC (Jvm.Cond.and given_1 narrow_1)).drop 739).take 10 = kCs 13 := by decide +kernel
theorem kCs_14 : ((flatC (Jvm.Cond.and given_1 narrow_1)).drop 762).take 9 = kCs 14 := by decide +kernel
theorem kCs_15 : ((flatC (Jvm.Cond.and given_1 narrow_1)).drop 785).take 7 = kCs 15 := by decide +kernel
theorem kCs_16 : ((flatC (Jvm.Cond.and given_1 narrow_1)).drop 807).take 6 = kCs 16 := by decide +kernel
theorem kCs_in : ∀ i, i < 17 → ∀ c ∈ kCs i, c ∈ flatC (Jvm.Cond.and given_1 narrow_1) := by
  intro i hi c hc
  rcases (show i = 0 ∨ i = 1 ∨ i = 2 ∨ i = 3 ∨ i = 4 ∨ i = 5 ∨ i = 6 ∨ i = 7 ∨ i = 8 ∨ i = 9 ∨ i = 10 ∨ i = 11 ∨ i = 12 ∨ i = 13 ∨ i = 14 ∨ i = 15 ∨ i = 16 by omega) with rfl | rfl | rfl | rfl | rfl | rfl | rfl | rfl | rfl | rfl | rfl | rfl | rfl | rfl | rfl | rfl | rfl
  · rw [← kCs_0] at hc; exact List.mem_of_mem_drop (List.mem_of_mem_take hc)
  · rw [← kCs_1] at hc; exact List.mem_of_mem_drop (List.mem_of_mem_take hc)
  · rw [← kCs_2] at hc; exact List.mem_of_mem_drop (List.mem_of_mem_take hc)
  · rw [← kCs_3] at hc; exact List.mem_of_mem_drop (List.mem_of_mem_take hc)
  · rw [← kCs_4] at hc; exact List.mem_of_mem_drop (List.mem_of_mem_take hc)
  · rw [← kCs_5] at hc; exact List.mem_of_mem_drop (List.mem_of_mem_take hc)
  · rw [← kCs_6] at hc; exact List.mem_of_mem_drop (List.mem_of_mem_take hc)
  · rw [← kCs_7] at hc; exact List.mem_of_mem_drop (List.mem_of_mem_take hc)
  · rw [← kCs_8] at hc; exact List.mem_of_mem_drop (List.mem_of_mem_take hc)
  · rw [← kCs_9] at hc; exact List.mem_of_mem_drop (List.mem_of_mem_take hc)
  · rw [← kCs_10] at hc; exact List.mem_of_mem_drop (List.mem_of_mem_take hc)
  · rw [← kCs_11] at hc; exact List.mem_of_mem_drop (List.mem_of_mem_take hc)
  · rw [← kCs_12] at hc; exact List.mem_of_mem_drop (List.mem_of_mem_take hc)
  · rw [← kCs_13] at hc; exact List.mem_of_mem_drop (List.mem_of_mem_take hc)
  · rw [← kCs_14] at hc; exact List.mem_of_mem_drop (List.mem_of_mem_take hc)
  · rw [← kCs_15] at hc; exact List.mem_of_mem_drop (List.mem_of_mem_take hc)
  · rw [← kCs_16] at hc; exact List.mem_of_mem_drop (List.mem_of_mem_take hc)
def hst (L : Nat) (xs : Nat → Int32) : Hp := (fun a j => if a = 1 then (xs j).toInt else if 27 ≤ a ∧ a < 44 then ((kBy (a - 27)).getD j 0).toInt else 0, fun _ _ => 0, fun a j => if 10 ≤ a ∧ a < 27 ∧ j = 0 then a + 17 else 0, kTag, fun a => if a = 1 then L else if 27 ≤ a ∧ a < 44 then (kBy (a - 27)).length else 0, 50, 0)
theorem str_at {A : Array Value} {s : State} (h : (Jvm.Cond.and given_1 narrow_1).before A s = true) (i : Nat) (hi : i < 17) : ∃ q : Nat × Nat, (kTm i).eval A s none [] s = some (.ref q.1) ∧ va_O "java/lang/String" q.1 (fun z => s.heap.size ≤ z) s s.heap ∧ va_OF "java/lang/String" "coder" "B" (.int 0) q.1 (fun z => s.heap.size ≤ z) s s.heap ∧ va_OF "java/lang/String" "value" "[B" (.ref q.2) q.1 (fun z => s.heap.size ≤ z) s s.heap ∧ va_T .byte q.2 (kBy i).length (fun j => .int ((kBy i).getD j 0)) (fun z => s.heap.size ≤ z) s s.heap := by
  have hA : ∀ a : Nat, a < s.heap.size → ¬ (fun z : Nat => s.heap.size ≤ z) a := fun a ha => Nat.not_le.mpr ha
  have hs : ∀ c ∈ kCs i, c.before A s = true := fun c hc => flat_of_before _ h c (kCs_in i hi c hc)
  have hln : (kBy i).length < 2 ^ 31 := by
    have : ∀ i, i < 17 → (kBy i).length < 100 := by decide +kernel
    have := this i hi
    omega
  obtain ⟨a, c, cA, kA, q1, q2, q3, q4, q5, q6, -⟩ := Cond.exactly_spec (args := A) (first := s) (o := none) (s := s) (idx := []) (t := kTm i) (cls := "java/lang/String") (hs _ (by simp [kCs]))
  obtain ⟨t, ht, hT⟩ := va_Tof (f := fun j => .int ((kBy i).getD j 0)) (A := fun z => s.heap.size ≤ z) hln (show (Cond.arrayOf (.field (kTm i) "java/lang/String" "value" "[B") .byte).before A s = true from hs _ (by simp [kCs])) (va_eqt (show (Cond.eq (.length (.field (kTm i) "java/lang/String" "value" "[B")) (.int (Int32.ofNat (kBy i).length))).before A s = true from hs _ (by simp [kCs]))) (fun j hj => va_eqt (hs _ (by simp only [kCs, List.mem_append, List.mem_map, List.mem_range]; exact Or.inr ⟨j, hj, rfl⟩))) hA
  exact ⟨(a, t), q1, ⟨cA, q3, q5, by rw [q6]; exact q2, hA a (Array.getElem?_eq_some_iff.mp q3).1⟩, vk_OFof q1 (va_eqt (hs _ (by simp [kCs]))) hA, vk_OFof q1 ht hA, hT⟩
theorem over_ob {A : Array Value} {s : State} {C : String} (h : (Cond.arrayOver (.object C)).before A s = true) : ∃ (c : ClassId) (k : Class) (comp : ClassId), s.vm.findClass ("[" ++ (FieldType.object C).toString) = some c ∧ s.vm.classes[c]? = some k ∧ k.kind = .array comp (.object C) ∧ s.vm.findClass C = some comp := by
  simp only [Cond.before, Cond.holds, Cond.value, beq_iff_eq] at h
  cases hc : s.vm.findClass C with
  | none => simp [hc] at h
  | some comp =>
    simp only [hc, Option.bind_some, Option.bind_eq_some_iff, Option.map_eq_some_iff] at h
    obtain ⟨c, hi, k, hk, hb⟩ := h
    obtain ⟨hlt, hp, -⟩ := Array.findIdx?_eq_some_iff_getElem.mp hi
    have hkk : s.vm.classes[c] = k := (Array.getElem?_eq_some_iff.mp hk).2
    rw [hkk] at hp
    cases hkind : k.kind with
    | array component ty =>
      rw [hkind] at hb hp
      simp at hb hp
      exact ⟨c, k, comp, hb.2, hk, by rw [hkind, hp, hb.1], rfl⟩
    | _ => rw [hkind] at hb; simp at hb
theorem over_ar {A : Array Value} {s : State} (h : (Cond.arrayOver (.array .int)).before A s = true) : ∃ (c : ClassId) (k : Class) (comp : ClassId), s.vm.findClass ("[" ++ (FieldType.array .int).toString) = some c ∧ s.vm.classes[c]? = some k ∧ k.kind = .array comp (.array .int) := by
  simp only [Cond.before, Cond.holds, Cond.value, beq_iff_eq] at h
  cases hc : s.vm.findClass (FieldType.array .int).toString with
  | none => simp [hc] at h
  | some comp =>
    simp only [hc, Option.bind_some, Option.bind_eq_some_iff, Option.map_eq_some_iff] at h
    obtain ⟨c, hi, k, hk, hb⟩ := h
    obtain ⟨hlt, hp, -⟩ := Array.findIdx?_eq_some_iff_getElem.mp hi
    have hkk : s.vm.classes[c] = k := (Array.getElem?_eq_some_iff.mp hk).2
    rw [hkk] at hp
    cases hkind : k.kind with
    | array component ty =>
      rw [hkind] at hb hp
      simp at hb hp
      exact ⟨c, k, comp, hb.2, hk, by rw [hkind, hp, hb.1]⟩
    | _ => rw [hkind] at hb; simp at hb
theorem arr_cls {s : State} (h0 : ∀ w ∈ lw_tbl, w.before #[] s = true) : ∃ gA : Nat → ClassId, ∀ t, 70 ≤ t → t ≤ 77 → ∃ (kA : Class) (comp : ClassId), s.vm.findClass ("[" ++ (aY t).toString) = some (gA t) ∧ s.vm.classes[gA t]? = some kA ∧ kA.kind = .array comp (aY t) ∧ ∀ C, aY t = .object C → s.vm.findClass C = some comp := by
  have h : ∀ t : Nat, ∃ c : ClassId, 70 ≤ t → t ≤ 77 → ∃ (kA : Class) (comp : ClassId), s.vm.findClass ("[" ++ (aY t).toString) = some c ∧ s.vm.classes[c]? = some kA ∧ kA.kind = .array comp (aY t) ∧ ∀ C, aY t = .object C → s.vm.findClass C = some comp := by
    intro t
    by_cases ht : 70 ≤ t ∧ t ≤ 77
    · rcases (show t = 70 ∨ t = 71 ∨ t = 72 ∨ t = 73 ∨ t = 74 ∨ t = 75 ∨ t = 76 ∨ t = 77 by omega) with rfl | rfl | rfl | rfl | rfl | rfl | rfl | rfl
      · obtain ⟨c, k, comp, h1, h2, h3⟩ := Cond.arrayClass_spec (h0 _ (lw_all_tbl q210))
        exact ⟨c, fun _ _ => ⟨k, comp, h1, h2, h3, fun C hC => by cases hC⟩⟩
      · obtain ⟨c, k, comp, h1, h2, h3⟩ := Cond.arrayClass_spec (h0 _ (lw_all_tbl q242))
        exact ⟨c, fun _ _ => ⟨k, comp, h1, h2, h3, fun C hC => by cases hC⟩⟩
      · obtain ⟨c, k, comp, h1, h2, h3⟩ := Cond.arrayClass_spec (h0 _ (lw_all_tbl q2527))
        exact ⟨c, fun _ _ => ⟨k, comp, h1, h2, h3, fun C hC => by cases hC⟩⟩
      · obtain ⟨c, k, comp, h1, h2, h3⟩ := Cond.arrayClass_spec (h0 _ (lw_all_tbl q2526))
        exact ⟨c, fun _ _ => ⟨k, comp, h1, h2, h3, fun C hC => by cases hC⟩⟩
      · obtain ⟨c, k, comp, h1, h2, h3, h4⟩ := over_ob (h0 _ q491)
        exact ⟨c, fun _ _ => ⟨k, comp, h1, h2, h3, fun C hC => by cases hC; exact h4⟩⟩
      · obtain ⟨c, k, comp, h1, h2, h3, h4⟩ := over_ob (h0 _ q183)
        exact ⟨c, fun _ _ => ⟨k, comp, h1, h2, h3, fun C hC => by cases hC; exact h4⟩⟩
      · obtain ⟨c, k, comp, h1, h2, h3, h4⟩ := over_ob (h0 _ q267)
        exact ⟨c, fun _ _ => ⟨k, comp, h1, h2, h3, fun C hC => by cases hC; exact h4⟩⟩
      · obtain ⟨c, k, comp, h1, h2, h3⟩ := over_ar (h0 _ q2001)
        exact ⟨c, fun _ _ => ⟨k, comp, h1, h2, h3, fun C hC => by cases hC⟩⟩
    · exact ⟨0, fun h1 h2 => absurd ⟨h1, h2⟩ ht⟩
  obtain ⟨g, hg⟩ := Classical.axiomOfChoice h
  exact ⟨g, hg⟩
theorem cls_in : ∀ k ∈ cLs, ∃ n, Cond.instantiable (cNm k) n ∈ lw_all := by
  intro k hk
  simp only [cLs, List.mem_cons, List.not_mem_nil, or_false] at hk
  rcases hk with rfl | rfl | rfl | rfl | rfl | rfl | rfl | rfl | rfl | rfl | rfl | rfl | rfl | rfl | rfl | rfl | rfl | rfl | rfl | rfl | rfl | rfl | rfl | rfl | rfl | rfl | rfl | rfl
  · exact ⟨_, q175⟩
  · exact ⟨_, q212⟩
  · exact ⟨_, q244⟩
  · exact ⟨_, q2136⟩
  · exact ⟨_, q376⟩
  · exact ⟨_, q525⟩
  · exact ⟨_, q568⟩
  · exact ⟨_, q781⟩
  · exact ⟨_, q966⟩
  · exact ⟨_, q1303⟩
  · exact ⟨_, q1326⟩
  · exact ⟨_, q1347⟩
  · exact ⟨_, q1357⟩
  · exact ⟨_, q1385⟩
  · exact ⟨_, q1417⟩
  · exact ⟨_, q1436⟩
  · exact ⟨_, q1503⟩
  · exact ⟨_, q1662⟩
  · exact ⟨_, q1821⟩
  · exact ⟨_, q617⟩
  · exact ⟨_, q1993⟩
  · exact ⟨_, q642⟩
  · exact ⟨_, q185⟩
  · exact ⟨_, q690⟩
  · exact ⟨_, q758⟩
  · exact ⟨_, q1106⟩
  · exact ⟨_, q1012⟩
  · exact ⟨_, q1735⟩
theorem cls_known {s : State} (h0 : ∀ w ∈ lw_tbl, w.before #[] s = true) : ∃ (gC : Nat → ClassId) (gI : Nat → Nat → Nat), ∀ k ∈ cLs, u_Kn s (cNm k) (cTb k) (cNf k) (gC k) (gI k) := by
  have h : ∀ k : Nat, ∃ q : ClassId × (Nat → Nat), k ∈ cLs → u_Kn s (cNm k) (cTb k) (cNf k) q.1 q.2 := by
    intro k
    by_cases hk : k ∈ cLs
    · obtain ⟨n, hn⟩ := cls_in k hk
      obtain ⟨c, i, hc⟩ := u_known h0 (fun w hw => lw_all_tbl (cIn k hk w hw)) (h0 _ (lw_all_tbl hn))
      exact ⟨(c, i), fun _ => hc⟩
    · exact ⟨(0, fun _ => 0), fun z => absurd z hk⟩
  obtain ⟨g, hg⟩ := Classical.axiomOfChoice h
  exact ⟨fun k => (g k).1, fun k => (g k).2, fun k hk => hg k hk⟩
def argFree : Cond → Bool
  | .arrayClass _ | .arrayOver _ | .laysStatic .. | .stringRef .. | .soleField .. | .interfaceEntry .. => true
  | w => w.onTables
theorem argFree_eq {A B : Array Value} {s : State} : ∀ c : Cond, argFree c = true → c.before A s = c.before B s := by
  intro c hc
  cases c <;> first | rfl | (simp [argFree, Cond.onTables] at hc)
theorem on_tbl : ∀ w ∈ lw_tbl, argFree w = true := fun w hw => List.all_eq_true.mp (show lw_tbl.all argFree = true from by decide +kernel) w hw
theorem start_G {s : State} {l : Launch} {b L : Nat} {xs : Nat → Int32} (hfl : l.flags = flags0) (hts : ∀ w ∈ lw_tbl, w.before #[Value.ref b] s = true) (hX : va_X b L xs s s.heap) (hbl : b < s.heap.size) (hgv : (Jvm.Cond.and given_1 narrow_1).before #[Value.ref b] s = true) :
    ∃ G : Gx, gs G = s ∧ gl G = l ∧ gF G = false ∧ Gok G ∧ tr G 1 = .ref b ∧ HR G (hst L xs) s.heap := by
  have h0 : ∀ w ∈ lw_tbl, w.before #[] s = true := fun w hw => (argFree_eq w (on_tbl w hw)).trans (hts w hw)
  have hA : ∀ a : Nat, a < s.heap.size → ¬ (fun z : Nat => s.heap.size ≤ z) a := fun a ha => Nat.not_le.mpr ha
  obtain ⟨dC, dI, hK⟩ := cls_known h0
  obtain ⟨dA, hArr⟩ := arr_cls h0
  have hst0 : ∀ i : Nat, ∃ q : Nat × Nat, i < 17 → (kTm i).eval #[Value.ref b] s none [] s = some (.ref q.1) ∧ va_O "java/lang/String" q.1 (fun z => s.heap.size ≤ z) s s.heap ∧ va_OF "java/lang/String" "coder" "B" (.int 0) q.1 (fun z => s.heap.size ≤ z) s s.heap ∧ va_OF "java/lang/String" "value" "[B" (.ref q.2) q.1 (fun z => s.heap.size ≤ z) s s.heap ∧ va_T .byte q.2 (kBy i).length (fun j => .int ((kBy i).getD j 0)) (fun z => s.heap.size ≤ z) s s.heap := by
    intro i
    by_cases hi : i < 17
    · obtain ⟨q, hq⟩ := str_at hgv i hi
      exact ⟨q, fun _ => hq⟩
    · exact ⟨(0, 0), fun z => absurd z hi⟩
  obtain ⟨ad, had⟩ := Classical.axiomOfChoice hst0
  obtain ⟨r2, c2, cl2, k2, e1, e2, e3, e4, e5, e6, -⟩ := Cond.exactly_spec (args := #[Value.ref b]) (first := s) (o := none) (s := s) (idx := []) (t := (.static "java/util/ArrayList" "DEFAULTCAPACITY_EMPTY_ELEMENTDATA" "[Ljava/lang/Object;")) (cls := "[Ljava/lang/Object;") (flat_of_before _ hgv _ (by decide +kernel))
  obtain ⟨t2, f1, f2⟩ := va_Tof (N := 0) (f := fun _ => .null) (A := fun z => s.heap.size ≤ z) (tm := (.static "java/util/ArrayList" "DEFAULTCAPACITY_EMPTY_ELEMENTDATA" "[Ljava/lang/Object;")) (ty := .object "java/lang/Object") (by decide) (flat_of_before _ hgv _ (by decide +kernel)) (va_eqt (flat_of_before _ hgv _ (by decide +kernel))) (fun j hj => absurd hj (Nat.not_lt_zero j)) hA
  have e12 : t2 = r2 := by
    rw [e1] at f1
    cases f1
    rfl
  subst e12
  obtain ⟨v3, w3, n3⟩ := Cond.isRef_spec (show (Cond.isRef (.static "java/lang/Throwable" "UNASSIGNED_STACK" "[Ljava/lang/StackTraceElement;")).before #[Value.ref b] s = true from (flat_of_before _ hgv _ (by decide +kernel)))
  obtain ⟨v4, w4, n4⟩ := Cond.isRef_spec (show (Cond.isRef (.static "java/lang/Throwable" "SUPPRESSED_SENTINEL" "Ljava/util/List;")).before #[Value.ref b] s = true from (flat_of_before _ hgv _ (by decide +kernel)))
  obtain ⟨v5, w5, n5⟩ := Cond.isRef_spec (show (Cond.isRef (.static "jdk/internal/util/Preconditions" "SIOOBE_FORMATTER" "Ljava/util/function/BiFunction;")).before #[Value.ref b] s = true from (flat_of_before _ hgv _ (by decide +kernel)))
  obtain ⟨r6, m6⟩ := va_Mi.of (show (Cond.isRef (.mirror "[Ljava/lang/Object;")).before #[Value.ref b] s = true from (flat_of_before _ hgv _ (by decide +kernel)))
  obtain ⟨G, hG⟩ : ∃ G : Gx, G = (s, l, dC, dI, dA, (fun a => if a = 1 then .ref b else if a = 2 then .ref t2 else if a = 3 then v3 else if a = 4 then v4 else if a = 5 then v5 else if a = 6 then .ref r6 else if 10 ≤ a ∧ a < 27 then .ref (ad (a - 10)).1 else if 27 ≤ a ∧ a < 44 then .ref (ad (a - 27)).2 else .null), false) := ⟨_, rfl⟩
  have g1 : gs G = s := by rw [hG]
  have hV : ∀ a, gV G a = if a = 1 then .ref b else if a = 2 then .ref t2 else if a = 3 then v3 else if a = 4 then v4 else if a = 5 then v5 else if a = 6 then .ref r6 else if 10 ≤ a ∧ a < 27 then .ref (ad (a - 10)).1 else if 27 ≤ a ∧ a < 44 then .ref (ad (a - 27)).2 else .null := by
    intro a
    rw [hG]
  have hgA : ∀ t, gA G t = dA t := by
    intro t
    rw [hG]
  have g2 : gl G = l := by rw [hG]
  have g3 : gF G = false := by rw [hG]
  have hgC : ∀ k, gC G k = dC k := by intro k; rw [hG]
  have hgI : ∀ k, gI G k = dI k := by intro k; rw [hG]
  have hA2 : ∀ a : Nat, a < s.heap.size → ¬ (fun z : Nat => gB G ≤ z) a := fun a ha => by
    show ¬ (gs G).heap.size ≤ a
    rw [g1]
    exact Nat.not_le.mpr ha
  have hb2 : t2 < s.heap.size := (Array.getElem?_eq_some_iff.mp e3).1
  have hc : ∀ a r, a < 50 → gV G a = .ref r → tr G a = .ref r ∧ rho G a = r := by
    intro a r ha hr
    have h1 : tr G a = .ref r := (if_pos ha).trans hr
    refine ⟨h1, ?_⟩
    unfold rho
    rw [h1]
  have hV1 : gV G 1 = .ref b := hV 1
  have hV2 : gV G 2 = .ref t2 := hV 2
  have hVs : ∀ i, i < 17 → gV G (10 + i) = .ref (ad i).1 := by
    intro i hi
    rw [hV, if_neg (by omega), if_neg (by omega), if_neg (by omega), if_neg (by omega), if_neg (by omega), if_neg (by omega), if_pos ⟨by omega, by omega⟩, show 10 + i - 10 = i by omega]
  have hVb : ∀ i, i < 17 → gV G (27 + i) = .ref (ad i).2 := by
    intro i hi
    rw [hV, if_neg (by omega), if_neg (by omega), if_neg (by omega), if_neg (by omega), if_neg (by omega), if_neg (by omega), if_neg (by omega), if_pos ⟨by omega, by omega⟩, show 27 + i - 27 = i by omega]
  have hGok : Gok G := by
    refine ⟨fun w hw => by rw [g1]; exact h0 w hw, fun k hk => by rw [g1, hgC, hgI]; exact hK k hk, fun t h1 h2 => by unfold aK; rw [g1, hgA]; exact hArr t h1 h2, hV 0, fun a ha => ?_, by rw [g2]; exact hfl, fun q hq => ?_, fun q hq => ?_, fun q hq => ?_, ⟨r6, hV 6, by rw [g1]; exact m6⟩, fun q hq c t h1 h2 => ?_, ⟨t2, cl2, hV2, by show t2 < (gs G).heap.size; rw [g1]; exact hb2, by rw [g1]; exact e3, e5, ?_⟩⟩
    · rw [hV]
      repeat' split
      all_goals first | rfl | exact n3 | exact n4 | exact n5
    · rw [g1]
      simp only [kSta, List.mem_cons, List.not_mem_nil, or_false] at hq
      rcases hq with rfl | rfl | rfl | rfl
      · rw [show gV G 2 = _ from hV 2]
        exact va_Zof (hts _ q197) (hts _ (lw_all_tbl q131)) e1 hA2
      · rw [show gV G 3 = _ from hV 3]
        exact va_Zof (hts _ q716) (hts _ (lw_all_tbl q144)) w3 hA2
      · rw [show gV G 4 = _ from hV 4]
        exact va_Zof (hts _ q718) (hts _ (lw_all_tbl q144)) w4 hA2
      · rw [show gV G 5 = _ from hV 5]
        exact va_Zof (hts _ q899) (hts _ (lw_all_tbl q141)) w5 hA2
    · rw [g1]
      simp only [kSti, List.mem_cons, List.not_mem_nil, or_false] at hq
      subst hq
      exact va_Zof (hts _ q860) (hts _ (lw_all_tbl q150)) (va_eqt (flat_of_before _ hgv _ (by decide +kernel))) hA2
    · rw [g1]
      simp only [kStr, List.mem_cons, List.not_mem_nil, or_false] at hq
      rcases hq with rfl | rfl | rfl | rfl | rfl | rfl | rfl | rfl | rfl | rfl | rfl | rfl | rfl | rfl | rfl | rfl | rfl
      · exact ⟨(ad 0).1, hVs 0 (by decide), vk_R.of (A := #[Value.ref b]) (hts _ q1165) (had 0 (by decide)).1⟩
      · exact ⟨(ad 1).1, hVs 1 (by decide), vk_R.of (A := #[Value.ref b]) (hts _ q846) (had 1 (by decide)).1⟩
      · exact ⟨(ad 2).1, hVs 2 (by decide), vk_R.of (A := #[Value.ref b]) (hts _ q933) (had 2 (by decide)).1⟩
      · exact ⟨(ad 3).1, hVs 3 (by decide), vk_R.of (A := #[Value.ref b]) (hts _ q957) (had 3 (by decide)).1⟩
      · exact ⟨(ad 4).1, hVs 4 (by decide), vk_R.of (A := #[Value.ref b]) (hts _ q958) (had 4 (by decide)).1⟩
      · exact ⟨(ad 5).1, hVs 5 (by decide), vk_R.of (A := #[Value.ref b]) (hts _ q959) (had 5 (by decide)).1⟩
      · exact ⟨(ad 6).1, hVs 6 (by decide), vk_R.of (A := #[Value.ref b]) (hts _ q960) (had 6 (by decide)).1⟩
      · exact ⟨(ad 7).1, hVs 7 (by decide), vk_R.of (A := #[Value.ref b]) (hts _ q995) (had 7 (by decide)).1⟩
      · exact ⟨(ad 8).1, hVs 8 (by decide), vk_R.of (A := #[Value.ref b]) (hts _ q1005) (had 8 (by decide)).1⟩
      · exact ⟨(ad 9).1, hVs 9 (by decide), vk_R.of (A := #[Value.ref b]) (hts _ q1006) (had 9 (by decide)).1⟩
      · exact ⟨(ad 10).1, hVs 10 (by decide), vk_R.of (A := #[Value.ref b]) (hts _ q1312) (had 10 (by decide)).1⟩
      · exact ⟨(ad 11).1, hVs 11 (by decide), vk_R.of (A := #[Value.ref b]) (hts _ q1426) (had 11 (by decide)).1⟩
      · exact ⟨(ad 12).1, hVs 12 (by decide), vk_R.of (A := #[Value.ref b]) (hts _ q1427) (had 12 (by decide)).1⟩
      · exact ⟨(ad 13).1, hVs 13 (by decide), vk_R.of (A := #[Value.ref b]) (hts _ q1432) (had 13 (by decide)).1⟩
      · exact ⟨(ad 14).1, hVs 14 (by decide), vk_R.of (A := #[Value.ref b]) (hts _ q1433) (had 14 (by decide)).1⟩
      · exact ⟨(ad 15).1, hVs 15 (by decide), vk_R.of (A := #[Value.ref b]) (hts _ q1434) (had 15 (by decide)).1⟩
      · exact ⟨(ad 16).1, hVs 16 (by decide), vk_R.of (A := #[Value.ref b]) (hts _ q1452) (had 16 (by decide)).1⟩
    · rw [g1] at h1 h2 ⊢
      simp only [kNot, List.mem_cons, List.not_mem_nil, or_false] at hq
      rcases hq with rfl | rfl
      · have z := flat_of_before _ hgv (Cond.not (Cond.castable "java/lang/IllegalArgumentException" "java/util/NoSuchElementException")) (by decide +kernel)
        simpa [Cond.before, Cond.holds, Cond.value, h1, h2] using z
      · have z := flat_of_before _ hgv (Cond.not (Cond.castable "java/lang/IllegalStateException" "java/util/NoSuchElementException")) (by decide +kernel)
        simpa [Cond.before, Cond.holds, Cond.value, h1, h2] using z
    · obtain ⟨kA, comp, a1, -⟩ := hArr 74 (by decide) (by decide)
      have a2 : "[" ++ (aY 74).toString = "[Ljava/lang/Object;" := by decide +kernel
      rw [a2] at a1
      rw [hgA, e6]
      exact Option.some.inj (e2.symm.trans a1)
  refine ⟨G, g1, g2, g3, hGok, (hc 1 b (by decide) hV1).1, ?_⟩
  have cells : ∀ a, a < 50 → cellR G (hst L xs) a s.heap ∧ (kTag a ≠ 0 → rho G a < s.heap.size) := by
    intro a ha
    have htg : hT (hst L xs) a = kTag a := rfl
    by_cases c1 : a = 1
    · subst c1
      obtain ⟨t1, t2'⟩ := hc 1 b (by decide) hV1
      obtain ⟨scr, x1, x2, x3, x4, x5⟩ := hX
      refine ⟨⟨fun z => absurd (show kTag 1 ∈ cLs from z) (by decide), fun _ _ => ⟨scr, by rw [t1, t2'], by rw [t2']; exact x1, by rw [g1]; exact x2, x3, lz_of x4, fun j hj => ?_, fun z => absurd z (by decide)⟩⟩, fun _ => by rw [t2']; exact hbl⟩
      rw [x5 j hj]
      show _ = some (Value.int (Int32.ofInt (xs j).toInt))
      rw [ofI]
    by_cases c2 : a = 2
    · subst c2
      obtain ⟨t1, t2'⟩ := hc 2 t2 (by decide) hV2
      obtain ⟨cl, x1, x2, x3, x4, x5, x6, x7⟩ := f2
      refine ⟨⟨fun z => absurd (show kTag 2 ∈ cLs from z) (by decide), fun _ _ => ⟨cl, by rw [t1, t2'], by rw [t2']; exact x1, by rw [g1]; exact x2, x3, ⟨x4, x5, fun z => absurd z (by decide)⟩, fun j hj => absurd hj (Nat.not_lt_zero j), fun z => absurd z (by decide)⟩⟩, fun _ => by rw [t2']; exact hb2⟩
    by_cases c3 : 10 ≤ a ∧ a < 27
    · obtain ⟨i, rfl, hi⟩ : ∃ i, a = 10 + i ∧ i < 17 := ⟨a - 10, by omega, by omega⟩
      obtain ⟨t1, t2'⟩ := hc (10 + i) _ ha (hVs i hi)
      obtain ⟨y1, y2, y3, y4, y5⟩ := had i hi
      have ht43 : kTag (10 + i) = 43 := by unfold kTag; rw [if_neg (by omega), if_neg (by omega), if_neg (by omega), if_pos (by omega)]
      obtain ⟨cl, x1, x2, x3, x4⟩ := y2
      refine ⟨⟨fun _ => ?_, fun z _ => by rw [htg, ht43] at z; exact absurd z (by decide)⟩, fun _ => by rw [t2']; exact (Array.getElem?_eq_some_iff.mp x1).1⟩
      rw [htg, ht43]
      obtain ⟨u1, u2, -⟩ := hK 43 (by decide)
      obtain ⟨cf, kf, fi, f, cl', p1, p2, p3, p4, p5, p6⟩ := y3
      obtain ⟨cf2, kf2, fi2, f2', cl2', r1, r2, r3, r4, r5, r6'⟩ := y4
      cases x1.symm.trans p3
      cases x1.symm.trans r3
      have u2' : s.vm.findClass "java/lang/String" = some (dC 43) := u2
      refine ⟨cl, by rw [t1, t2'], by rw [t2']; exact x1, by rw [hgC]; exact Option.some.inj (x3.symm.trans u2'), p4, x2, fun j hj => ?_, fun z => absurd z (by show ¬ 50 ≤ 10 + i; omega)⟩
      rw [hgI]
      have hj2 : j = 0 ∨ j = 1 := by
        have : j < 2 := hj
        omega
      rcases hj2 with rfl | rfl
      · obtain ⟨a1, a2, a3, a4, a5, a6⟩ := u1 0 (by decide)
        have a5' : s.fieldFound? "java/lang/String" "value" "[B" = some (a1, a2, a3, a4) := a5
        cases a5'.symm.trans r1
        rw [← a6, r5]
        show _ = some (tr G (hR (hst L xs) (10 + i) 0))
        rw [show hR (hst L xs) (10 + i) 0 = 27 + i from by show (if 10 ≤ 10 + i ∧ 10 + i < 27 ∧ 0 = 0 then 10 + i + 17 else 0) = _; rw [if_pos ⟨by omega, by omega, rfl⟩]; omega, (hc (27 + i) _ (by omega) (hVb i hi)).1]
      · obtain ⟨a1, a2, a3, a4, a5, a6⟩ := u1 1 (by decide)
        have a5' : s.fieldFound? "java/lang/String" "coder" "B" = some (a1, a2, a3, a4) := a5
        cases a5'.symm.trans p1
        rw [← a6, p5]
        show _ = some (Value.int (Int32.ofInt (hI (hst L xs) (10 + i) 1)))
        rw [show hI (hst L xs) (10 + i) 1 = 0 from by show (if 10 + i = 1 then _ else if 27 ≤ 10 + i ∧ 10 + i < 44 then _ else (0 : Int)) = 0; rw [if_neg (by omega), if_neg (by omega)]]
        rfl
    by_cases c4 : 27 ≤ a ∧ a < 44
    · obtain ⟨i, rfl, hi⟩ : ∃ i, a = 27 + i ∧ i < 17 := ⟨a - 27, by omega, by omega⟩
      obtain ⟨t1, t2'⟩ := hc (27 + i) _ ha (hVb i hi)
      obtain ⟨y1, y2, y3, y4, y5⟩ := had i hi
      have ht71 : kTag (27 + i) = 71 := by unfold kTag; rw [if_neg (by omega), if_neg (by omega), if_neg (by omega), if_neg (by omega), if_pos (by omega)]
      obtain ⟨cl, x1, x2, x3, x4, x5, x6, x7⟩ := y5
      have hNe : hN (hst L xs) (27 + i) = (kBy i).length := by
        show (if 27 + i = 1 then L else if 27 ≤ 27 + i ∧ 27 + i < 44 then (kBy (27 + i - 27)).length else 0) = _
        rw [if_neg (by omega), if_pos ⟨by omega, by omega⟩, show 27 + i - 27 = i by omega]
      refine ⟨⟨fun z => by rw [htg, ht71] at z; exact absurd z (by decide), fun _ _ => ?_⟩, fun _ => by rw [t2']; exact (Array.getElem?_eq_some_iff.mp x1).1⟩
      rw [htg, ht71]
      refine ⟨cl, by rw [t1, t2'], by rw [t2']; exact x1, by rw [g1]; exact x2, x3, by rw [hNe]; exact ⟨x4, x5, fun z => absurd z (by show ¬ 50 ≤ 27 + i; omega)⟩, fun j hj => ?_, fun z => absurd z (by show ¬ 50 ≤ 27 + i; omega)⟩
      rw [hNe] at hj
      rw [x6 j hj]
      show _ = some (Value.int (Int32.ofInt (hI (hst L xs) (27 + i) j)))
      rw [show hI (hst L xs) (27 + i) j = ((kBy i).getD j 0).toInt from by show (if 27 + i = 1 then _ else if 27 ≤ 27 + i ∧ 27 + i < 44 then ((kBy (27 + i - 27)).getD j 0).toInt else (0 : Int)) = _; rw [if_neg (by omega), if_pos ⟨by omega, by omega⟩, show 27 + i - 27 = i by omega], ofI]
    have ht0 : kTag a = 0 := by
      unfold kTag
      rw [if_neg c1, if_neg c2]
      by_cases z : a < 10
      · rw [if_pos z]
      · rw [if_neg z, if_neg (by omega), if_neg (by omega)]
    exact ⟨⟨fun z => by rw [htg, ht0] at z; exact absurd z (by decide), fun z _ => by rw [htg, ht0] at z; exact absurd z (by decide)⟩, fun z => absurd ht0 z⟩
  have gb : gB G = s.heap.size := by show (gs G).heap.size = _; rw [g1]
  refine ⟨Nat.le_refl _, (by decide : 50 ≤ MC), Nat.zero_le _, by rw [gb]; rfl, fun q _ => by rw [g1], fun a ha h1 => by rw [gb]; exact (cells a ha).2 h1, fun a ha => (cells a ha).1, fun a j => ?_, fun a j => (show nl 0 from ⟨by decide, by decide⟩), fun z => absurd (g3.symm.trans z) (by decide), fun a _ => rfl, fun q cl h1 h2 => ?_⟩
  · show nm (if a = 1 then _ else if 27 ≤ a ∧ a < 44 then _ else (0 : Int))
    split
    · exact nm_toInt _
    · split
      · exact nm_toInt _
      · exact nm_0
  · rw [gb] at h1
    exact absurd (Array.getElem?_eq_some_iff.mp h2).1 (Nat.not_lt.mpr h1)
