set_option maxRecDepth 100000
set_option maxHeartbeats 1000000
set_option linter.unusedSimpArgs false
set_option linter.unusedVariables false
/-! SPECS, 27: the order of calls -/
def ahB (w hd : Nat → Int) (c d : Nat) : Bool := decide (w d < w c ∨ (w c = w d ∧ (hd c < hd d ∨ (hd c = hd d ∧ c < d))))
def ahM (w hd : Nat → Int) (c d : Nat) : Bool := decide (w d < w c ∨ (w c = w d ∧ hd c < hd d))
/-- worst first: a call is put behind those that it goes ahead of -/
def insR (w hd : Nat → Int) (c : Nat) : List Nat → List Nat
  | [] => [c]
  | d :: l => if ahM w hd c d = true then d :: insR w hd c l else c :: d :: l
def rvL (opn : Nat → Bool) (w hd : Nat → Int) : Nat → List Nat
  | 0 => []
  | c + 1 => if opn c = true then insR w hd c (rvL opn w hd c) else rvL opn w hd c
def opL (opn : Nat → Bool) : Nat → List Nat
  | 0 => []
  | c + 1 => if opn c = true then opL opn c ++ [c] else opL opn c
theorem ins_cnt (w hd : Nat → Int) (P : Nat → Bool) (c : Nat) : ∀ l, List.countP P (insR w hd c l) = List.countP P l + (if P c = true then 1 else 0)
  | [] => by
    show List.countP P [c] = _
    simp [List.countP_cons]
  | d :: l => by
    show List.countP P (if ahM w hd c d = true then d :: insR w hd c l else c :: d :: l) = _
    split
    · rw [List.countP_cons, ins_cnt w hd P c l, List.countP_cons]
      omega
    · rw [List.countP_cons]
theorem cnt_eq (opn : Nat → Bool) (w hd : Nat → Int) (P : Nat → Bool) : ∀ n, List.countP P (opL opn n) = List.countP P (rvL opn w hd n)
  | 0 => rfl
  | n + 1 => by
    show List.countP P (if opn n = true then opL opn n ++ [n] else opL opn n) = List.countP P (if opn n = true then insR w hd n (rvL opn w hd n) else rvL opn w hd n)
    split
    · rw [List.countP_append, ins_cnt, cnt_eq opn w hd P n]
      simp [List.countP_cons]
    · exact cnt_eq opn w hd P n
theorem rv_mem (opn : Nat → Bool) (w hd : Nat → Int) (n c : Nat) : c ∈ rvL opn w hd n ↔ c ∈ opL opn n := by
  have h := cnt_eq opn w hd (fun d => decide (d = c)) n
  have e : ∀ l : List Nat, c ∈ l ↔ 0 < List.countP (fun d => decide (d = c)) l := by
    intro l
    rw [List.countP_pos_iff]
    constructor
    · intro z
      exact ⟨c, z, by simp⟩
    · rintro ⟨a, h1, h2⟩
      have : a = c := by simpa using h2
      rw [← this]
      exact h1
  rw [e, e, h]
theorem rv_len (opn : Nat → Bool) (w hd : Nat → Int) (n : Nat) : (rvL opn w hd n).length = (opL opn n).length := by
  have h := cnt_eq opn w hd (fun _ => true) n
  have e : ∀ l : List Nat, List.countP (fun _ => true) l = l.length := by
    intro l
    induction l with
    | nil => rfl
    | cons a l ih => rw [List.countP_cons, ih]; rfl
  rw [e, e] at h
  exact h.symm
theorem op_lt (opn : Nat → Bool) : ∀ n c, c ∈ opL opn n → c < n ∧ opn c = true
  | 0, c, h => absurd h (by show ¬ (c ∈ ([] : List Nat)); simp)
  | n + 1, c, h => by
    have h : c ∈ (if opn n = true then opL opn n ++ [n] else opL opn n) := h
    by_cases z : opn n = true
    · rw [if_pos z, List.mem_append] at h
      rcases h with h | h
      · have := op_lt opn n c h
        exact ⟨by omega, this.2⟩
      · have : c = n := by simpa using h
        subst this
        exact ⟨by omega, z⟩
    · rw [if_neg z] at h
      have := op_lt opn n c h
      exact ⟨by omega, this.2⟩
theorem ah_trans {w hd : Nat → Int} {a b c : Nat} (h1 : ahB w hd a b = true) (h2 : ahB w hd b c = true) : ahB w hd a c = true := by
  unfold ahB at *
  rw [decide_eq_true_eq] at *
  omega
theorem ah_irr {w hd : Nat → Int} {a b : Nat} (h1 : ahB w hd a b = true) : ahB w hd b a = false := by
  unfold ahB at *
  rw [decide_eq_true_eq] at h1
  rw [decide_eq_false_iff_not]
  omega
theorem ins_mem {w hd : Nat → Int} {c x : Nat} : ∀ {l : List Nat}, x ∈ insR w hd c l → x = c ∨ x ∈ l
  | [], h => Or.inl (by have h : x ∈ [c] := h; simpa using h)
  | d :: l, h => by
    have h : x ∈ (if ahM w hd c d = true then d :: insR w hd c l else c :: d :: l) := h
    by_cases z : ahM w hd c d = true
    · rw [if_pos z, List.mem_cons] at h
      rcases h with h | h
      · exact Or.inr (by rw [h]; exact List.mem_cons_self)
      · rcases ins_mem h with h | h
        · exact Or.inl h
        · exact Or.inr (List.mem_cons_of_mem _ h)
    · rw [if_neg z, List.mem_cons] at h
      exact h
theorem ins_pw {w hd : Nat → Int} {c : Nat} : ∀ {l : List Nat}, (∀ e, e ∈ l → e < c) → List.Pairwise (fun a b => ahB w hd b a = true) l → List.Pairwise (fun a b => ahB w hd b a = true) (insR w hd c l)
  | [], _, _ => by
    show List.Pairwise _ [c]
    simp
  | d :: l, he, hp => by
    rw [List.pairwise_cons] at hp
    show List.Pairwise _ (if ahM w hd c d = true then d :: insR w hd c l else c :: d :: l)
    have hd1 := he d List.mem_cons_self
    by_cases z : ahM w hd c d = true
    · rw [if_pos z, List.pairwise_cons]
      refine ⟨fun x hx => ?_, ins_pw (fun e h => he e (List.mem_cons_of_mem _ h)) hp.2⟩
      rcases ins_mem hx with rfl | hx
      · unfold ahM at z
        unfold ahB
        rw [decide_eq_true_eq] at *
        omega
      · exact hp.1 x hx
    · rw [if_neg z, List.pairwise_cons]
      have dc : ahB w hd d c = true := by
        unfold ahM at z
        unfold ahB
        rw [decide_eq_true_eq] at *
        omega
      refine ⟨fun x hx => ?_, List.pairwise_cons.2 hp⟩
      rw [List.mem_cons] at hx
      rcases hx with rfl | hx
      · exact dc
      · exact ah_trans (hp.1 x hx) dc
theorem rv_pw (opn : Nat → Bool) (w hd : Nat → Int) : ∀ n, List.Pairwise (fun a b => ahB w hd b a = true) (rvL opn w hd n)
  | 0 => List.Pairwise.nil
  | n + 1 => by
    show List.Pairwise _ (if opn n = true then insR w hd n (rvL opn w hd n) else rvL opn w hd n)
    split
    · exact ins_pw (fun e he => (op_lt opn n e ((rv_mem opn w hd n e).1 he)).1) (rv_pw opn w hd n)
    · exact rv_pw opn w hd n
theorem cnt_mid {w hd : Nat → Int} {pre post : List Nat} {c : Nat} (hp : List.Pairwise (fun a b => ahB w hd b a = true) (pre ++ c :: post)) : List.countP (fun d => decide (d ≠ c) && ahB w hd d c) (pre ++ c :: post) = post.length := by
  rw [List.pairwise_append] at hp
  obtain ⟨h1, h2, h3⟩ := hp
  rw [List.pairwise_cons] at h2
  rw [List.countP_append, List.countP_cons]
  have z1 : List.countP (fun d => decide (d ≠ c) && ahB w hd d c) pre = 0 := by
    rw [List.countP_eq_zero]
    intro a ha
    have := ah_irr (h3 a ha c List.mem_cons_self)
    simp [this]
  have z2 : List.countP (fun d => decide (d ≠ c) && ahB w hd d c) post = post.length := by
    rw [List.countP_eq_length]
    intro a ha
    have h := h2.1 a ha
    have ne : a ≠ c := by
      intro e
      rw [e] at h
      have := ah_irr h
      rw [this] at h
      cases h
    simp [h, ne]
  rw [z1, z2]
  simp
theorem cnt_at {w hd : Nat → Int} {l : List Nat} (hp : List.Pairwise (fun a b => ahB w hd b a = true) l) (i : Nat) (hi : i < l.length) : List.countP (fun d => decide (d ≠ l[i]) && ahB w hd d l[i]) l = l.length - 1 - i := by
  have e : l = l.take i ++ l[i] :: l.drop (i + 1) := by
    rw [← List.drop_eq_getElem_cons hi, List.take_append_drop]
  have := cnt_mid (w := w) (hd := hd) (pre := l.take i) (post := l.drop (i + 1)) (c := l[i]) (by rw [← e]; exact hp)
  rw [← e] at this
  rw [this, List.length_drop]
  omega
theorem cnt_iff {w hd : Nat → Int} {l : List Nat} (hp : List.Pairwise (fun a b => ahB w hd b a = true) l) {c i : Nat} (hc : c ∈ l) (hi : i < l.length) : List.countP (fun d => decide (d ≠ c) && ahB w hd d c) l = i ↔ c = l.getD (l.length - 1 - i) 0 := by
  obtain ⟨j, hj, rfl⟩ := List.getElem_of_mem hc
  have hk : l.length - 1 - i < l.length := by omega
  have a1 := cnt_at hp j hj
  have a2 := cnt_at hp (l.length - 1 - i) hk
  have eg : l.getD (l.length - 1 - i) 0 = l[l.length - 1 - i] := by
    rw [List.getD_eq_getElem?_getD, List.getElem?_eq_getElem hk]
    rfl
  rw [eg]
  constructor
  · intro z
    rw [a1] at z
    have : j = l.length - 1 - i := by omega
    subst this
    rfl
  · intro z
    rw [z, a2]
    omega
def opnB (A : Nat → Nat → Int) (c : Nat) : Bool := decide (A 122 c ≠ -1 ∧ A 122 c ≤ A 75 1) && decide (svF A c (A 75 80).toNat = -1 ∨ A 75 1 < svF A c (A 75 80).toNat)
def ordL (A : Nat → Nat → Int) (C : Nat → Nat → List Int) : List Nat := rvL (opnB A) (priF A C) (A 122) (A 75 69).toNat
def gOrder (A : Nat → Nat → Int) (C : Nat → Nat → List Int) (p1 : Int) : Int × Int × (Nat → Nat → Int) := if p1 < -1 ∨ (ordL A C).length ≤ p1 then (1, 0, uA A 75 0 1) else (0, if p1 = -1 then ((ordL A C).length : Int) else ((ordL A C).getD ((ordL A C).length - 1 - p1.toNat) 0 : Nat), uA A 75 0 0)
theorem op_len (opn : Nat → Bool) : ∀ n, (opL opn n).length ≤ n
  | 0 => Nat.le_refl _
  | n + 1 => by
    have := op_len opn n
    show (if opn n = true then opL opn n ++ [n] else opL opn n).length ≤ n + 1
    split
    · rw [List.length_append]
      simp
      omega
    · omega
theorem getD_snoc (l : List Nat) (c k : Nat) (hk : k < l.length + 1) : (l ++ [c]).getD k 0 = if k = l.length then c else l.getD k 0 := by
  by_cases z : k = l.length
  · subst z
    simp
  · rw [if_neg z, List.getD_eq_getElem?_getD, List.getD_eq_getElem?_getD, List.getElem?_append_left (by omega)]
section
variable {K : Hp} {D : Nat} {N M : Nat → Nat} {X : Nat → Nat → Nat → Int} {Z : Nat → Nat → Nat} {C : Nat → Nat → List Int} {Wd : Nat → List Int} {A : Nat → Nat → Int} {h : Hp}
theorem x_order {T : Nat} {Q : Rs → Hp → Prop} (x : XS K D N N X Z C Wd A h) (r : Rel T N X C Wd A) (hD : D ≤ 780000) {p1 : Int} (k : ∀ h', OpS K T (D + 12000) A N X C (gOrder A C p1) h' → Q (rV (vI (gOrder A C p1).1)) h') : mX0_order p1 h Q := by
  obtain ⟨r0, r1, r2, r3, r4, r5, r6, r7, r8, r9, r10, r11, rw0⟩ := id r
  have now := r0.1
  have n60 := r8.2.1
  unfold mX0_order mX1_order
  unfold gOrder ordL at k
  rw [r8.1, Int.toNat_natCast] at k
  have key : ∀ (Y : Nat → Nat → Nat → Int), (∀ c, c ≠ 8 → Y c = X c) → (∀ i f, f ≠ 5 → Y 8 i f = X 8 i f) → Rl8 (N 8) (N 1) (Y 8) A ∧ Rel T N Y C Wd A := by
    intro Y h1 h2
    have r8Y : Rl8 (N 8) (N 1) (Y 8) A := by
      refine ⟨r8.1, r8.2.1, fun i hi => ?_⟩
      have := r8.2.2 i hi
      rw [h2 i 0 (by decide), h2 i 1 (by decide), h2 i 2 (by decide), h2 i 3 (by decide), h2 i 4 (by decide)]
      exact this
    refine ⟨r8Y, ?_⟩
    unfold Rel
    rw [h1 0 (by decide), h1 1 (by decide), h1 2 (by decide), h1 3 (by decide), h1 4 (by decide), h1 6 (by decide), h1 7 (by decide), h1 9 (by decide), h1 10 (by decide), h1 11 (by decide)]
    exact ⟨r0, r1, r2, r3, r4, r5, r6, r7, r8Y, r9, r10, r11, rw0⟩
  refine wh3_of (fun (n : Int) (i : Int) g => ∃ (c : Nat) (Y : Nat → Nat → Nat → Int), i = c ∧ c ≤ N 8 ∧ n = (opL (opnB A) c).length ∧ XS K D N N Y Z C Wd A g ∧ (∀ c, c ≠ 8 → Y c = X c) ∧ (∀ i f, f ≠ 5 → Y 8 i f = X 8 i f) ∧ (∀ d, d ∈ opL (opnB A) c → Y 8 d 5 = priF A C d) ∧ ∀ q, q < (opL (opnB A) c).length → hR g 74 q = Z 8 ((opL (opnB A) c).getD q 0)) (fun _ i _ => (N 8 - i).toNat) ?_ ⟨0, X, rfl, by omega, rfl, x, fun _ _ => rfl, fun _ _ _ => rfl, fun d hd => absurd hd (by show ¬ (d ∈ ([] : List Nat)); simp), fun q hq => absurd hq (Nat.not_lt_zero _)⟩
  rintro R n i g ⟨c, Y, rfl, hc, rfl, y, hY1, hY2, hY3, h74⟩ kk
  obtain ⟨r8Y, rY⟩ := key Y hY1 hY2
  have e : vJ2_size 61 g = N 8 := y.size 8
  have ol := op_len (opnB A) c
  rw [e]
  refine ⟨y.osize 8, ?_⟩
  by_cases z : c < N 8
  · rw [if_pos (by omega)]
    have g0 : vJ2_get 61 (c : Int) g = Z 8 c := y.get 8 (by omega) (by omega)
    rw [g0]
    refine ⟨y.oget 8 (by omega) (by omega), y.obj 8 c z, ?_⟩
    rintro r0' rfl
    have e20 : Y 0 0 20 = A 75 1 := by rw [hY1 0 (by decide)]; exact now.1
    obtain ⟨hh1, hh2⟩ := heard_x y e20 r8Y z
    refine ⟨hh1, y.obj 8 c z, ?_⟩
    have st : ∀ b, opnB A c = b → opL (opnB A) (c + 1) = if b = true then opL (opnB A) c ++ [c] else opL (opnB A) c := by
      rintro b rfl
      rfl
    have skip : opnB A c = false → R ((opL (opnB A) c).length : Int) ((c : Int) + 1) g := by
      intro hb
      have s1 := st false hb
      rw [if_neg (by decide)] at s1
      exact kk _ _ _ ⟨c + 1, Y, rfl, z, by rw [s1], y, hY1, hY2, by rw [s1]; exact hY3, by rw [s1]; exact h74⟩ (by omega)
    by_cases ch : A 122 c = -1 ∨ A 75 1 < A 122 c
    · have : ¬ ¬ (vX19_isHeard (Z 8 c) g = 0) := fun w => w (hh2.2 ch)
      rw [if_neg this]
      refine ⟨⟨by omega, by omega⟩, ?_⟩
      rintro i rfl
      refine skip ?_
      unfold opnB
      have : ¬ (A 122 c ≠ -1 ∧ A 122 c ≤ A 75 1) := by omega
      simp [this]
    · have : ¬ (vX19_isHeard (Z 8 c) g = 0) := fun w => ch (hh2.1 w)
      rw [if_pos this]
      have c4 := (r8.2.2 c z).2.2.2.1
      refine ⟨y.obj 8 c z, x_served y rY z ?_⟩
      rw [kI_v]
      have z8 : hR g (Z 8 c) 6 = 50 := by
        obtain ⟨⟨own, y⟩, _⟩ := y
        exact (y.o 8 c (by decide) (by decide) z).2.2.2.2.2.2 6 (by decide)
      refine ⟨fun _ => ⟨y.obj 8 c z, z8⟩, ?_⟩
      have e20' : hI g 50 20 = A 75 1 := (y.sc 20).trans e20
      rw [e20']
      rintro v rfl
      rw [kI_v]
      by_cases co : svF A c (A 75 80).toNat = -1 ∨ A 75 1 < svF A c (A 75 80).toNat
      · rw [b2i_t (by omega), if_neg (by decide)]
        have ob : opnB A c = true := by
          unfold opnB
          have : A 122 c ≠ -1 ∧ A 122 c ≤ A 75 1 := by omega
          simp [this, co]
        have s1 := st true ob
        rw [if_pos rfl] at s1
        refine ⟨y.obj 8 c z, ?_⟩
        have r1Y : Rl1 (N 1) (Y 1) A := by rw [hY1 1 (by decide)]; exact r1
        have r4Y : Rl4 (N 4) (Y 4) C A := by rw [hY1 4 (by decide)]; exact r4
        have r6Y : Rl6 (N 6) (Y 6) A := by rw [hY1 6 (by decide)]; exact r6
        refine x_pri y e20 now.2.2 r1Y r4Y r6Y r8Y z (by omega) (by omega) (fun g2 y2 q2 => ?_)
        rw [kI_v]
        refine ⟨y2.obj 8 c z, ?_⟩
        rintro g3 rfl
        have y3 := y2.setI 8 c 5 (priF A C c) z
        have ec : (((opL (opnB A) c).length : Int)).toNat = (opL (opnB A) c).length := by omega
        refine ⟨by omega, by omega, ?_⟩
        rintro g4 rfl
        rw [ec]
        refine ⟨⟨by omega, by omega⟩, ?_⟩
        rintro i rfl
        refine ⟨⟨by omega, by omega⟩, ?_⟩
        rintro j rfl
        have y4 : XS K D N N (uX Y 8 c 5 (priF A C c)) Z C Wd A (sR (sI g2 (Z 8 c) 5 (priF A C c)) 74 (opL (opnB A) c).length (Z 8 c)) := by
          obtain ⟨⟨own, y3⟩, e3⟩ := y3
          exact ⟨⟨own, y3.t74⟩, e3⟩
        refine kk _ _ _ ⟨c + 1, _, rfl, z, ?_, y4, fun k hk => (uX_c hk).trans (hY1 k hk), fun i f hf => ?_, fun d hd => ?_, fun q hq => ?_⟩ (by omega)
        · rw [s1, List.length_append]
          simp
        · unfold uX
          rw [if_neg (fun w => hf w.2.2)]
          exact hY2 i f hf
        · rw [s1, List.mem_append] at hd
          by_cases w : d = c
          · subst w
            exact uX_at _ _ _ _ _
          · rcases hd with hd | hd
            · unfold uX
              rw [if_neg (fun v => w v.2.1)]
              exact hY3 d hd
            · exact absurd (by simpa using hd) w
        · rw [s1] at hq ⊢
          rw [List.length_append] at hq
          simp at hq
          rw [getD_snoc _ _ _ hq, hR_sR]
          by_cases w : q = (opL (opnB A) c).length
          · rw [if_pos ⟨rfl, w⟩, if_pos w]
          · rw [if_neg (fun v => w v.2), if_neg w, hR_sI, q2.1]
            exact h74 q (by omega)
      · rw [b2i_f (by omega), if_pos (by decide)]
        refine ⟨⟨by omega, by omega⟩, ?_⟩
        rintro i rfl
        refine skip ?_
        unfold opnB
        simp [co]
  · have : c = N 8 := by omega
    subst this
    rw [if_neg (by omega)]
    have rl := rv_len (opnB A) (priF A C) (A 122) (N 8)
    have pw := rv_pw (opnB A) (priF A C) (A 122) (N 8)
    refine ⟨⟨by omega, by omega⟩, ?_⟩
    have fin : ∀ g2 D2, XS K D2 N N Y Z C Wd A g2 → D2 ≤ D + 12000 → ∀ kk vv, OpS K T (D + 12000) A N X C (kk, vv, uA A 75 0 kk) (sL g2 158 0 vv) := by
      intro g2 D2 y2 h2 kk vv
      refine ⟨N, Y, Z, Wd, (y2.out).more h2 (by omega), rfl, hY1 4 (by decide), rY.thr kk, fun _ => (by rw [hL_sL, if_pos ⟨rfl, rfl⟩]; try rfl)⟩
    refine x_found y (by omega) (fun z2 => ?_) (fun z2 y2 o t => ?_)
    · have z2 := (in_1 _ _ _ _).1 z2
      have nc : ¬ (p1 < -1 ∨ ((rvL (opnB A) (priF A C) (A 122) (N 8)).length : Int) ≤ p1) := by omega
      rw [if_neg nc] at k
      rw [kN_v]
      by_cases cm : p1 = -1
      · rw [if_pos cm] at k
        rw [if_pos (fun w => w cm), kIx_v]
        rintro g2 rfl
        rw [rl] at k
        exact k _ (fin _ _ y (by omega) 0 _)
      · rw [if_neg cm] at k
        rw [if_neg (fun w => w cm)]
        obtain ⟨p, rfl⟩ : ∃ n : Nat, p1 = n := ⟨p1.toNat, by omega⟩
        rw [Int.toNat_natCast] at k
        have hp : p < (rvL (opnB A) (priF A C) (A 122) (N 8)).length := by omega
        have memL : ∀ q, q < (opL (opnB A) (N 8)).length → (opL (opnB A) (N 8)).getD q 0 ∈ opL (opnB A) (N 8) := by
          intro q hq
          rw [List.getD_eq_getElem?_getD, List.getElem?_eq_getElem hq]
          exact List.getElem_mem hq
        refine wh2_of (fun (i : Int) g2 => g2 = g ∧ ∃ q : Nat, i = q ∧ q ≤ (opL (opnB A) (N 8)).length ∧ ∀ j, j < q → (opL (opnB A) (N 8)).getD j 0 ≠ (rvL (opnB A) (priF A C) (A 122) (N 8)).getD ((rvL (opnB A) (priF A C) (A 122) (N 8)).length - 1 - p) 0) (fun i _ => ((opL (opnB A) (N 8)).length - i).toNat) ?_ ⟨rfl, 0, rfl, by omega, fun j hj => absurd hj (Nat.not_lt_zero _)⟩
        rintro R2 i g2 ⟨rfl, q, rfl, hq, hne⟩ kk2
        by_cases cq : q < (opL (opnB A) (N 8)).length
        · rw [if_pos (by omega)]
          have mq := memL q cq
          obtain ⟨lq, _⟩ := op_lt (opnB A) (N 8) _ mq
          rw [Int.toNat_natCast, h74 q cq]
          refine ⟨by omega, by omega, ?_⟩
          have fld : ∀ d, d ∈ opL (opnB A) (N 8) → hI g2 (Z 8 d) 5 = priF A C d ∧ hI g2 (Z 8 d) 3 = A 122 d ∧ hI g2 (Z 8 d) 0 = d := by
            intro d hd
            obtain ⟨ld, _⟩ := op_lt (opnB A) (N 8) _ hd
            have c8 := r8Y.2.2 d ld
            exact ⟨(y.int 8 d 5 ld).trans (hY3 d hd), (y.int 8 d 3 ld).trans c8.2.2.2.1.1, (y.int 8 d 0 ld).trans c8.1⟩
          have inj : ∀ d d', d ∈ opL (opnB A) (N 8) → d' ∈ opL (opnB A) (N 8) → (Z 8 d = Z 8 d' ↔ d = d') := by
            intro d d' h1 h2
            constructor
            · intro w
              have a := (fld d h1).2.2
              have b := (fld d' h2).2.2
              rw [w] at a
              omega
            · intro w
              rw [w]
          have cont : ∀ g5 v, g5 = g2 → v = ((List.countP (fun d => decide (d ≠ (opL (opnB A) (N 8)).getD q 0) && ahB (priF A C) (A 122) d ((opL (opnB A) (N 8)).getD q 0)) (opL (opnB A) (N 8)) : Nat) : Int) → (if ¬ (v ≠ (p : Int)) then ob g5 (hR g5 74 q) 19 ∧ kIx (fun a103 h104 => ob h104 a103 41 ∧ Q (rV (vI 1)) h104) (fun x102 h101 => ∀ h106 : Hp, h106 = sL h101 158 0 x102 → Q (rV (vI 0)) h106) (rV (vI (hI g5 (hR g5 74 q) 0))) g5 else nm ((q : Int) + 1) ∧ ∀ i149 : Int, i149 = ((q : Int) + 1) → R2 i149 g5) := by
            rintro g5 v rfl rfl
            rw [cnt_eq (opnB A) (priF A C) (A 122)]
            have ci := cnt_iff (i := p) pw ((rv_mem (opnB A) (priF A C) (A 122) (N 8) _).2 mq) hp
            by_cases w : List.countP (fun d => decide (d ≠ (opL (opnB A) (N 8)).getD q 0) && ahB (priF A C) (A 122) d ((opL (opnB A) (N 8)).getD q 0)) (rvL (opnB A) (priF A C) (A 122) (N 8)) = p
            · rw [if_pos (fun v => v (by omega)), h74 q cq, (fld _ mq).2.2, kIx_v]
              refine ⟨y.obj 8 _ lq, ?_⟩
              rintro g6 rfl
              rw [ci.1 w]
              exact k _ (fin _ _ y (by omega) 0 _)
            · rw [if_neg (fun v => v (fun u => w (by omega)))]
              refine ⟨⟨by omega, by omega⟩, ?_⟩
              rintro i rfl
              refine kk2 _ _ ⟨rfl, q + 1, rfl, cq, fun j hj => ?_⟩ (by omega)
              by_cases v : j = q
              · subst v
                exact fun u => w (ci.2 u)
              · exact hne j (by omega)
          unfold mX1_ahead
          refine fp2 (opL (opnB A) (N 8)).length (fun j => ((List.countP (fun d => decide (d ≠ (opL (opnB A) (N 8)).getD q 0) && ahB (priF A C) (A 122) d ((opL (opnB A) (N 8)).getD q 0)) ((opL (opnB A) (N 8)).take j) : Nat) : Int)) (fun R3 j hj hR => ?_) (fun R3 => ?_)
          · rw [if_pos (by omega)]
            have mj := memL j hj
            obtain ⟨lj, _⟩ := op_lt (opnB A) (N 8) _ mj
            obtain ⟨f1, f2, f3⟩ := fld _ mj
            obtain ⟨e1, e2, e3⟩ := fld _ mq
            have oj := y.obj 8 _ lj
            have oq := y.obj 8 _ lq
            have bj := y.big 8 _ lj
            rw [Int.toNat_natCast, h74 j hj]
            have cle : List.countP (fun d => decide (d ≠ (opL (opnB A) (N 8)).getD q 0) && ahB (priF A C) (A 122) d ((opL (opnB A) (N 8)).getD q 0)) ((opL (opnB A) (N 8)).take j) ≤ j := by
              refine Nat.le_trans List.countP_le_length ?_
              rw [List.length_take]
              omega
            refine ⟨by omega, by omega, Or.inr ⟨rok_ob oj (by decide), rok_ob oq (by decide), Or.inl (by show 50 ≤ _; omega)⟩, ⟨fun _ => ⟨⟨oj, oq⟩, oj⟩, fun _ => ⟨by omega, by omega⟩⟩, ?_⟩
            rintro v rfl
            refine ⟨⟨by omega, by omega⟩, ?_⟩
            rintro i rfl
            have et : (opL (opnB A) (N 8)).take (j + 1) = (opL (opnB A) (N 8)).take j ++ [(opL (opnB A) (N 8)).getD j 0] := by
              rw [List.take_add_one, List.getElem?_eq_getElem hj, List.getD_eq_getElem?_getD, List.getElem?_eq_getElem hj]
              rfl
            have va : vX19_isAhead (Z 8 ((opL (opnB A) (N 8)).getD j 0)) (Z 8 ((opL (opnB A) (N 8)).getD q 0)) g2 = 0 ↔ ¬ (ahB (priF A C) (A 122) ((opL (opnB A) (N 8)).getD j 0) ((opL (opnB A) (N 8)).getD q 0) = true) := by
              unfold vX19_isAhead b2i ahB
              rw [f1, f2, f3, e1, e2, e3, decide_eq_true_eq]
              split <;> omega
            have hR : R3 ((List.countP (fun d => decide (d ≠ (opL (opnB A) (N 8)).getD q 0) && ahB (priF A C) (A 122) d ((opL (opnB A) (N 8)).getD q 0)) ((opL (opnB A) (N 8)).take (j + 1)) : Nat) : Int) ((j : Int) + 1) := hR
            rw [et, List.countP_append] at hR
            have e1c : List.countP (fun d => decide (d ≠ (opL (opnB A) (N 8)).getD q 0) && ahB (priF A C) (A 122) d ((opL (opnB A) (N 8)).getD q 0)) [(opL (opnB A) (N 8)).getD j 0] = if (decide ((opL (opnB A) (N 8)).getD j 0 ≠ (opL (opnB A) (N 8)).getD q 0) && ahB (priF A C) (A 122) ((opL (opnB A) (N 8)).getD j 0) ((opL (opnB A) (N 8)).getD q 0)) = true then 1 else 0 := by
              rw [List.countP_cons]
              simp
            rw [e1c] at hR
            by_cases cc : (opL (opnB A) (N 8)).getD j 0 ≠ (opL (opnB A) (N 8)).getD q 0 ∧ ahB (priF A C) (A 122) ((opL (opnB A) (N 8)).getD j 0) ((opL (opnB A) (N 8)).getD q 0) = true
            · have ct : (decide ((opL (opnB A) (N 8)).getD j 0 ≠ (opL (opnB A) (N 8)).getD q 0) && ahB (priF A C) (A 122) ((opL (opnB A) (N 8)).getD j 0) ((opL (opnB A) (N 8)).getD q 0)) = true := by
                rw [Bool.and_eq_true, decide_eq_true_eq]
                exact cc
              rw [if_pos ct] at hR
              rw [if_pos ⟨fun w => cc.1 ((inj _ _ mj mq).1 w), fun w => va.1 w cc.2⟩]
              exact hR
            · have ct : ¬ ((decide ((opL (opnB A) (N 8)).getD j 0 ≠ (opL (opnB A) (N 8)).getD q 0) && ahB (priF A C) (A 122) ((opL (opnB A) (N 8)).getD j 0) ((opL (opnB A) (N 8)).getD q 0)) = true) := by
                rw [Bool.and_eq_true, decide_eq_true_eq]
                exact cc
              rw [if_neg ct] at hR
              rw [if_neg (fun w => cc ⟨fun u => w.1 ((inj _ _ mj mq).2 u), Classical.byContradiction fun u => w.2 (va.2 u)⟩)]
              exact hR
          · rw [if_neg (by omega)]
            rw [List.take_length]
            exact cont g2 _ rfl rfl
        · exfalso
          have ql : q = (opL (opnB A) (N 8)).length := by omega
          have hs : (rvL (opnB A) (priF A C) (A 122) (N 8)).getD ((rvL (opnB A) (priF A C) (A 122) (N 8)).length - 1 - p) 0 ∈ rvL (opnB A) (priF A C) (A 122) (N 8) := by
            have hk : (rvL (opnB A) (priF A C) (A 122) (N 8)).length - 1 - p < (rvL (opnB A) (priF A C) (A 122) (N 8)).length := by omega
            rw [List.getD_eq_getElem?_getD, List.getElem?_eq_getElem hk]
            exact List.getElem_mem hk
          have hs2 := (rv_mem (opnB A) (priF A C) (A 122) (N 8) _).1 hs
          obtain ⟨j, hj, ej⟩ := List.getElem_of_mem hs2
          refine hne j (by omega) ?_
          rw [← ej, List.getD_eq_getElem?_getD, List.getElem?_eq_getElem hj]
          rfl
    · have z2 := (in_0 _ _ _ _).1 z2
      have nc : p1 < -1 ∨ ((rvL (opnB A) (priF A C) (A 122) (N 8)).length : Int) ≤ p1 := by omega
      rw [if_pos nc] at k
      exact ⟨o, k _ ⟨N, Y, Z, Wd, y2.more (by omega) (by omega), rfl, hY1 4 (by decide), rY.thr 1, fun z => absurd z ne10⟩⟩
end
theorem svF_c {A B : Nat → Nat → Int} (e : scE A B) (c : Nat) : ∀ n, svF B c n = svF A c n := by
  have ro : ∀ a, a = 88 ∨ a = 142 ∨ a = 136 ∨ a = 119 ∨ a = 122 ∨ a = 138 ∨ a = 130 → B a = A a := fun a ha => e.row a (fun i z => by unfold scr at z; omega)
  have e4 : B 75 4 = A 75 4 := e 75 4 (by unfold scr; omega)
  have d1 : ∀ k n, docB B k n = docB A k n := by
    intro k n
    induction n with
    | zero => rfl
    | succ n ih =>
      show (docB B k n || (decide (B 88 n = 1) && (B 142 k).toNat.testBit n)) = (docB A k n || (decide (A 88 n = 1) && (A 142 k).toNat.testBit n))
      rw [ih, ro 88 (by omega), ro 142 (by omega)]
  have d2 : ∀ f j, qualB B c f j = qualB A c f j := by
    intro f j
    unfold qualB
    rw [d1, e4, ro 136 (by omega), ro 119 (by omega), ro 122 (by omega), ro 138 (by omega)]
  have d3 : ∀ f b n, svL B c f b n = svL A c f b n := by
    intro f b n
    induction n with
    | zero => rfl
    | succ n ih =>
      show (if qualB B c f n = true then lesser (svL B c f b n) (B 138 (7 * f + n)) else svL B c f b n) = if qualB A c f n = true then lesser (svL A c f b n) (A 138 (7 * f + n)) else svL A c f b n
      rw [ih, d2, ro 138 (by omega)]
  intro n
  induction n with
  | zero => rfl
  | succ n ih =>
    show svL B c n (svF B c n) (B 130 n).toNat = svL A c n (svF A c n) (A 130 n).toNat
    rw [ih, d3, ro 130 (by omega)]
theorem priF_c {A B : Nat → Nat → Int} (e : scE A B) (C : Nat → Nat → List Int) (c : Nat) : priF B C c = priF A C c := by
  have ro : ∀ a, a = 122 ∨ a = 95 ∨ a = 111 ∨ a = 112 ∨ a = 113 ∨ a = 114 ∨ a = 119 ∨ a = 78 ∨ a = 79 ∨ a = 76 ∨ a = 77 ∨ a = 96 ∨ a = 120 → B a = A a := fun a ha => e.row a (fun i z => by unfold scr at z; omega)
  have e75 : ∀ i, i ≠ 59 → B 75 i = A 75 i := fun i hi => e 75 i (by unfold scr; omega)
  have et : ∀ k, tN B k = tN A k := fun k => tN_v (e75 35 (by decide)) (ro 95 (by omega)) k
  have em : ∀ p k, mi B p k = mi A p k := by
    intro p k
    unfold mi
    rw [ro 76 (by omega), ro 77 (by omega)]
  have eb : ∀ k, baseB B k = baseB A k := by
    intro k
    unfold baseB
    rw [ro 79 (by omega)]
  have etb : ∀ p k, tbF B p k = tbF A p k := by
    intro p k
    induction k with
    | zero => rfl
    | succ k ih =>
      show (if baseB B k = true ∧ (tbF B p k = -1 ∨ mi B p k < tbF B p k) then mi B p k else tbF B p k) = (if baseB A k = true ∧ (tbF A p k = -1 ∨ mi A p k < tbF A p k) then mi A p k else tbF A p k)
      rw [ih, em, eb]
  have ev : vPri B (B 75 2).toNat c = vPri A (A 75 2).toNat c := by
    funext j
    unfold vPri toB
    rw [ro 119 (by omega), ro 122 (by omega), ro 78 (by omega), ro 79 (by omega), e75 2 (by decide), e75 1 (by decide), etb, wetF_c (A := A) (B := B) (e75 60 (by decide)) (ro 111 (by omega)) (ro 112 (by omega)) (ro 113 (by omega)) (ro 114 (by omega))]
  have ep : prm B = prm A := by
    funext t j
    unfold prm
    rw [ro 96 (by omega)]
  unfold priF
  rw [ev, ep, ro 122 (by omega), ro 120 (by omega), et]
/-- an insertion, from the end: those that were passed, and the rest -/
theorem ins_split {w hd : Nat → Int} {c : Nat} : ∀ (pre rest : List Nat), (∀ e, e ∈ pre → ahM w hd c e = true) → insR w hd c (pre ++ rest) = pre ++ insR w hd c rest
  | [], rest, _ => rfl
  | d :: pre, rest, h => by
    show (if ahM w hd c d = true then d :: insR w hd c (pre ++ rest) else c :: d :: (pre ++ rest)) = _
    rw [if_pos (h d List.mem_cons_self), ins_split pre rest (fun e he => h e (List.mem_cons_of_mem _ he))]
    rfl
section
variable {K : Hp} {D : Nat} {N M : Nat → Nat} {X : Nat → Nat → Nat → Int} {Z : Nat → Nat → Nat} {C : Nat → Nat → List Int} {Wd : Nat → List Int} {A : Nat → Nat → Int} {h : Hp}
theorem m_order {T : Nat} {N0 : Nat → Nat} {X0 : Nat → Nat → Nat → Int} {Wd0 : Nat → List Int} {Q : Rs → Hp → Prop} (x : XS K D N M X Z C Wd A h) (r : Rel T N0 X0 C Wd0 A) (hM : N0 4 ≤ M 4) (hX : X 4 = X0 4) {p1 : Int} (k : ∀ h' B, XS K D N M X Z C Wd B h' → scE (gOrder A C p1).2.2 B → hL h' 158 = hL h 158 → Q (rV (vI (gOrder A C p1).2.1)) h') : mX4_order p1 h Q := by
  have n60 := r.2.2.2.2.2.2.2.2.1.2.1
  have s8 := r.2.2.2.2.2.2.2.2.1.1
  unfold mX4_order mX4_orders
  unfold gOrder ordL at k
  rw [s8, Int.toNat_natCast] at k
  rintro g0 rfl
  have y : XS K D N M X Z C Wd (uA A 75 0 0) (sI h 75 0 0) := x.m5
  have fz : scE (uA A 75 0 0) (uA A 75 0 0) := fun _ _ _ => rfl
  refine wh3_of (fun (n : Int) (i : Int) g => ∃ (c : Nat) (B : Nat → Nat → Int), i = c ∧ c ≤ N0 8 ∧ n = (rvL (opnB A) (priF A C) (A 122) c).length ∧ XS K D N M X Z C Wd B g ∧ scE (uA A 75 0 0) B ∧ hL g 158 = hL h 158 ∧ (∀ d, d ∈ rvL (opnB A) (priF A C) (A 122) c → B 124 d = priF A C d) ∧ ∀ q, q < (rvL (opnB A) (priF A C) (A 122) c).length → B 123 ((rvL (opnB A) (priF A C) (A 122) c).length - 1 - q) = (rvL (opnB A) (priF A C) (A 122) c).getD q 0) (fun _ i _ => (N0 8 - i).toNat) ?_ ⟨0, _, rfl, by omega, rfl, y, fz, rfl, fun d hd => absurd hd (by show ¬ (d ∈ ([] : List Nat)); simp), fun q hq => absurd hq (Nat.not_lt_zero _)⟩
  rintro R n i g ⟨c, B, rfl, hc, rfl, xb, eb, ol, hw, hl⟩ kk
  have rB : Rel (T + 1) N0 X0 C Wd0 B := (r.thr 0).sc eb
  have e75 : ∀ i, i ≠ 59 → i ≠ 0 → B 75 i = A 75 i := fun i h1 h2 => (eb 75 i (by unfold scr; omega)).trans (uA_i h2)
  have e122 : B 122 = A 122 := (eb.row 122 (fun i z => by unfold scr at z; omega)).trans (uA_a (by decide))
  have esv : svF B c (B 75 80).toNat = svF A c (A 75 80).toNat := by
    rw [svF_c eb, svF_u0, e75 80 (by decide) (by decide)]
  have epr : ∀ d, priF B C d = priF A C d := fun d => (priF_c eb C d).trans (priF_u0 A C 0 d)
  have rl := rv_len (opnB A) (priF A C) (A 122) c
  have ol0 := op_len (opnB A) c
  have e69 : hI g 75 69 = N0 8 := (xb.rd 75 69).trans ((e75 69 (by decide) (by decide)).trans s8)
  rw [e69]
  by_cases z : c < N0 8
  · rw [if_pos (by omega)]
    refine m_served xb (T := T + 1) (N0 := N0) (X0 := X0) (C0 := C) (Wd0 := Wd0) rB (by omega) ?_
    rw [kI_v, esv]
    have hh := heard_m (p := (c : Int)) xb
    rw [Int.toNat_natCast, e122, e75 1 (by decide) (by decide)] at hh
    refine ⟨⟨by omega, by omega⟩, ?_⟩
    have st : ∀ b, opnB A c = b → rvL (opnB A) (priF A C) (A 122) (c + 1) = if b = true then insR (priF A C) (A 122) c (rvL (opnB A) (priF A C) (A 122) c) else rvL (opnB A) (priF A C) (A 122) c := by
      rintro b rfl
      rfl
    have skip : opnB A c = false → R ((rvL (opnB A) (priF A C) (A 122) c).length : Int) ((c : Int) + 1) g := by
      intro hb
      have s1 := st false hb
      rw [if_neg (by decide)] at s1
      exact kk _ _ _ ⟨c + 1, B, rfl, z, by rw [s1], xb, eb, ol, by rw [s1]; exact hw, by rw [s1]; exact hl⟩ (by omega)
    by_cases ch : A 122 c = -1 ∨ A 75 1 < A 122 c
    · have : ¬ ¬ (vX4_isHeard c g = 0) := fun w => w (hh.2 ch)
      rw [if_neg this]
      refine ⟨⟨by omega, by omega⟩, ?_⟩
      rintro i rfl
      refine skip ?_
      unfold opnB
      have : ¬ (A 122 c ≠ -1 ∧ A 122 c ≤ A 75 1) := by omega
      simp [this]
    · have : ¬ (vX4_isHeard c g = 0) := fun w => ch (hh.1 w)
      have e1 : hI g 75 1 = A 75 1 := (xb.rd 75 1).trans (e75 1 (by decide) (by decide))
      rw [if_pos this, e1]
      by_cases co : svF A c (A 75 80).toNat = -1 ∨ A 75 1 < svF A c (A 75 80).toNat
      case neg =>
        rw [if_pos (by omega)]
        refine ⟨⟨by omega, by omega⟩, ?_⟩
        rintro i rfl
        refine skip ?_
        unfold opnB
        simp [co]
      rw [if_neg (by omega)]
      have ob : opnB A c = true := by
        unfold opnB
        have : A 122 c ≠ -1 ∧ A 122 c ≤ A 75 1 := by omega
        simp [this, co]
      have s1 := st true ob
      rw [if_pos rfl] at s1
      obtain ⟨b0, b1, b2, b3, b4, b5, b6, b7, b8, b9, b10, b11, bw⟩ := id rB
      have now := b0.1
      have c4 := (b8.2.2 c z).2.2.2.1
      rw [e122] at c4
      refine m_pri xb now.2.2 b1 b4 b6 b8 hM hX z (by rw [e122]; omega) (by rw [e122, e75 1 (by decide) (by decide)]; omega) (fun g2 B2 x2 e2 ol2 => ?_)
      rw [kI_v, epr]
      refine ⟨by omega, by omega, ?_⟩
      rintro g3 rfl
      rw [Int.toNat_natCast]
      have x3 := x2.ma (a := 124) (i := c) (v := priF A C c)
      have e23 : scE (uA A 75 0 0) (uA B2 124 c (priF A C c)) := by
        intro a i hs
        rw [show uA B2 124 c (priF A C c) a i = B2 a i from if_neg (fun w => hs (by unfold scr; omega))]
        exact (e2.sc a i hs).trans (eb a i hs)
      have b123 : B2 123 = B 123 := e2.row (by decide) (by decide) (by decide)
      have b124 : B2 124 = B 124 := e2.row (by decide) (by decide) (by decide)
      have lc : ∀ d, d ∈ rvL (opnB A) (priF A C) (A 122) c → d < c := fun d hd => (op_lt (opnB A) c d ((rv_mem (opnB A) (priF A C) (A 122) c d).1 hd)).1
      refine wh2_of (fun (kq : Int) g => ∃ (pre rest : List Nat) (B : Nat → Nat → Int), kq = rest.length ∧ rvL (opnB A) (priF A C) (A 122) c = pre ++ rest ∧ (∀ e, e ∈ pre → ahM (priF A C) (A 122) c e = true) ∧ XS K D N M X Z C Wd B g ∧ scE (uA A 75 0 0) B ∧ hL g 158 = hL h 158 ∧ (∀ d, d ∈ rvL (opnB A) (priF A C) (A 122) c → B 124 d = priF A C d) ∧ B 124 c = priF A C c ∧ (∀ q, q < rest.length → B 123 (rest.length - 1 - q) = rest.getD q 0) ∧ (∀ q, q < pre.length → B 123 (pre.length + rest.length - q) = pre.getD q 0)) (fun kq _ => kq.toNat) ?_ ⟨[], rvL (opnB A) (priF A C) (A 122) c, _, rfl, rfl, fun e he => absurd he (by simp), x3, e23, ol2.trans ol, fun d hd => ?_, uA_at _ _ _ _, fun q hq => ?_, fun q hq => absurd hq (Nat.not_lt_zero _)⟩
      rotate_left
      · have := lc d hd
        rw [uA_i (by omega), b124]
        exact hw d hd
      · rw [uA_a (by decide), b123]
        exact hl q hq
      rintro R2 kq g5 ⟨pre, rest, B5, rfl, hsp, hpre, x5, e5, ol5, w5, wc5, hr5, hp5⟩ kk2
      have len : pre.length + rest.length = (rvL (opnB A) (priF A C) (A 122) c).length := by rw [hsp, List.length_append]
      cases rest with
      | nil =>
        refine ⟨fun w => absurd (show (0 : Int) ≤ 0 by decide) w, ?_⟩
        rw [if_neg (fun w => w.1 (by show (0 : Int) ≤ 0; decide))]
        refine ⟨by show (0 : Int) ≤ 0; decide, by show (0 : Int) < 60; decide, ?_⟩
        rintro g6 rfl
        refine ⟨⟨by omega, by omega⟩, ?_⟩
        rintro i rfl
        refine ⟨⟨by omega, by omega⟩, ?_⟩
        rintro j rfl
        have x6 := x5.ma (a := 123) (i := 0) (v := (c : Int))
        have e6 : scE (uA A 75 0 0) (uA B5 123 0 c) := by
          intro a i hs
          rw [show uA B5 123 0 c a i = B5 a i from if_neg (fun w => hs (by unfold scr; omega))]
          exact e5 a i hs
        have sq : rvL (opnB A) (priF A C) (A 122) (c + 1) = pre ++ [c] := by
          rw [s1, hsp, ins_split pre [] hpre]
          rfl
        simp only [List.length_nil] at len hp5
        refine kk _ _ _ ⟨c + 1, _, rfl, z, ?_, x6, e6, ol5, fun d hd => ?_, fun q hq => ?_⟩ (by omega)
        · rw [sq, List.length_append]
          simp
          omega
        · rw [sq, List.mem_append] at hd
          rw [uA_a (by decide)]
          rcases hd with hd | hd
          · exact w5 d (by rw [hsp]; exact List.mem_append_left _ hd)
          · have : d = c := by simpa using hd
            rw [this]
            exact wc5
        · rw [sq] at hq ⊢
          rw [List.length_append] at hq ⊢
          simp only [List.length_cons, List.length_nil] at hq ⊢
          rw [getD_snoc _ _ _ hq]
          by_cases v : q = pre.length
          · rw [if_pos v, show pre.length + (0 + 1) - 1 - q = 0 by omega, uA_at]
          · rw [if_neg v, uA_i (by omega), ← hp5 q (by omega)]
            congr 1
      | cons d rest =>
        have md : d ∈ rvL (opnB A) (priF A C) (A 122) c := by rw [hsp]; exact List.mem_append_right _ List.mem_cons_self
        have ld := lc d md
        simp only [List.length_cons] at len hr5 hp5 ⊢
        have h0 := hr5 0 (by omega)
        rw [show rest.length + 1 - 1 - 0 = rest.length by omega] at h0
        have h0 : B5 123 rest.length = d := h0
        have ei : (((rest.length + 1 : Nat) : Int) - 1).toNat = rest.length := by omega
        have e122' : B5 122 = A 122 := (e5.row 122 (fun i z => by unfold scr at z; omega)).trans (uA_a (by decide))
        rw [ei, x5.ra 123, h0]
        have va : vX4_isAhead c d g5 = 0 ↔ ¬ (ahM (priF A C) (A 122) c d = true) := by
          unfold vX4_isAhead b2i ahM
          rw [Int.toNat_natCast, Int.toNat_natCast, x5.ra 124, x5.ra 124, x5.ra 122, x5.ra 122, wc5, w5 d md, e122', decide_eq_true_eq]
          split <;> omega
        refine ⟨fun _ => ⟨⟨by omega, by omega⟩, by omega, by omega, by omega, by omega, by omega, by omega⟩, ?_⟩
        by_cases ca : ahM (priF A C) (A 122) c d = true
        · rw [if_pos ⟨by omega, fun w => va.1 w ca⟩]
          refine ⟨⟨by omega, by omega⟩, by omega, by omega, by omega, by omega, ?_⟩
          rintro g6 rfl
          refine ⟨⟨by omega, by omega⟩, ?_⟩
          rintro i rfl
          have ej : (((rest.length + 1 : Nat) : Int)).toNat = rest.length + 1 := by omega
          rw [ej]
          have x6 := x5.ma (a := 123) (i := rest.length + 1) (v := (d : Int))
          have e6 : scE (uA A 75 0 0) (uA B5 123 (rest.length + 1) d) := by
            intro a i hs
            rw [show uA B5 123 (rest.length + 1) d a i = B5 a i from if_neg (fun w => hs (by unfold scr; omega))]
            exact e5 a i hs
          refine kk2 _ _ ⟨pre ++ [d], rest, _, by omega, by rw [hsp, List.append_assoc]; rfl, fun e he => ?_, x6, e6, ol5, fun d2 hd2 => ?_, ?_, fun q hq => ?_, fun q hq => ?_⟩ (by simp only [List.length_cons]; omega)
          · rw [List.mem_append] at he
            rcases he with he | he
            · exact hpre e he
            · have : e = d := by simpa using he
              rw [this]
              exact ca
          · rw [uA_a (by decide)]
            exact w5 d2 hd2
          · rw [uA_a (by decide)]
            exact wc5
          · rw [uA_i (by omega)]
            have := hr5 (q + 1) (by omega)
            rw [show rest.length + 1 - 1 - (q + 1) = rest.length - 1 - q by omega] at this
            rw [this]
            rfl
          · rw [List.length_append] at hq ⊢
            simp only [List.length_cons, List.length_nil] at hq ⊢
            rw [getD_snoc _ _ _ hq]
            by_cases v : q = pre.length
            · rw [if_pos v, show pre.length + (0 + 1) + rest.length - q = rest.length + 1 by omega, uA_at]
            · rw [if_neg v, uA_i (by omega), ← hp5 q (by omega)]
              congr 1
              omega
        · rw [if_neg (fun w => w.2 (va.2 ca))]
          refine ⟨by omega, by omega, ?_⟩
          rintro g6 rfl
          refine ⟨⟨by omega, by omega⟩, ?_⟩
          rintro i rfl
          refine ⟨⟨by omega, by omega⟩, ?_⟩
          rintro j rfl
          have ej : (((rest.length + 1 : Nat) : Int)).toNat = rest.length + 1 := by omega
          rw [ej]
          have x6 := x5.ma (a := 123) (i := rest.length + 1) (v := (c : Int))
          have e6 : scE (uA A 75 0 0) (uA B5 123 (rest.length + 1) c) := by
            intro a i hs
            rw [show uA B5 123 (rest.length + 1) c a i = B5 a i from if_neg (fun w => hs (by unfold scr; omega))]
            exact e5 a i hs
          have sq : rvL (opnB A) (priF A C) (A 122) (c + 1) = pre ++ (c :: d :: rest) := by
            rw [s1, hsp, ins_split pre (d :: rest) hpre]
            show pre ++ (if ahM (priF A C) (A 122) c d = true then d :: insR (priF A C) (A 122) c rest else c :: d :: rest) = _
            rw [if_neg ca]
          have lsq : (rvL (opnB A) (priF A C) (A 122) (c + 1)).length = pre.length + (rest.length + 1 + 1) := by
            rw [sq, List.length_append]
            rfl
          refine kk _ _ _ ⟨c + 1, _, rfl, z, ?_, x6, e6, ol5, fun d2 hd2 => ?_, fun q hq => ?_⟩ (by omega)
          · rw [lsq]
            omega
          · rw [uA_a (by decide)]
            rw [sq, List.mem_append, List.mem_cons] at hd2
            rcases hd2 with hd2 | hd2 | hd2
            · exact w5 d2 (by rw [hsp]; exact List.mem_append_left _ hd2)
            · rw [hd2]
              exact wc5
            · exact w5 d2 (by rw [hsp]; exact List.mem_append_right _ hd2)
          · rw [lsq] at hq ⊢
            rw [sq]
            by_cases v : q < pre.length
            · rw [uA_i (by omega), List.getD_eq_getElem?_getD, List.getElem?_append_left v, ← List.getD_eq_getElem?_getD, ← hp5 q v]
              congr 1
            · rw [List.getD_eq_getElem?_getD, List.getElem?_append_right (by omega)]
              by_cases u : q = pre.length
              · rw [u, show pre.length + (rest.length + 1 + 1) - 1 - pre.length = rest.length + 1 by omega, uA_at, Nat.sub_self]
                rfl
              · obtain ⟨t, ht⟩ : ∃ t, q - pre.length = t + 1 := ⟨q - pre.length - 1, by omega⟩
                rw [uA_i (by omega), ht]
                have := hr5 t (by omega)
                rw [show pre.length + (rest.length + 1 + 1) - 1 - q = rest.length + 1 - 1 - t by omega, this, List.getD_eq_getElem?_getD]
                rfl
  · have : c = N0 8 := by omega
    subst this
    rw [if_neg (by omega), kI_v]
    rintro v rfl
    have h0 : hI g 75 0 = 0 := (xb.rd 75 0).trans (eb 75 0 (by unfold scr; omega))
    refine m_right h0 (by decide) (fun z2 => ?_) (fun z2 => ?_)
    · have z2 := b2i_1 z2
      have nc : ¬ (p1 < -1 ∨ ((rvL (opnB A) (priF A C) (A 122) (N0 8)).length : Int) ≤ p1) := by omega
      rw [if_neg nc] at k
      rw [kI_v, if_neg (by decide)]
      refine ⟨fun _ => ⟨by omega, by omega⟩, ?_⟩
      rintro v rfl
      by_cases cm : p1 = -1
      · rw [if_pos cm] at k
        rw [if_pos (fun w => w cm)]
        exact k _ B xb eb ol
      · rw [if_neg cm] at k
        rw [if_neg (fun w => w cm), xb.ra 123]
        obtain ⟨p, rfl⟩ : ∃ n : Nat, p1 = n := ⟨p1.toNat, by omega⟩
        rw [Int.toNat_natCast] at k ⊢
        have := hl ((rvL (opnB A) (priF A C) (A 122) (N0 8)).length - 1 - p) (by omega)
        rw [show (rvL (opnB A) (priF A C) (A 122) (N0 8)).length - 1 - ((rvL (opnB A) (priF A C) (A 122) (N0 8)).length - 1 - p) = p by omega] at this
        rw [this]
        exact k _ B xb eb ol
    · have z2 := b2i_0 z2
      have nc : p1 < -1 ∨ ((rvL (opnB A) (priF A C) (A 122) (N0 8)).length : Int) ≤ p1 := by omega
      rw [if_pos nc] at k
      rw [kI_v, if_pos (by decide)]
      refine k _ _ xb.m5 (fun a i hs => ?_) ol
      by_cases w : a = 75 ∧ i = 0
      · rw [w.1, w.2, uA_at]
        rfl
      · rw [show uA B 75 0 1 a i = B a i from if_neg w, eb a i hs]
        show (if a = 75 ∧ i = 0 then _ else A a i) = (if a = 75 ∧ i = 0 then _ else A a i)
        rw [if_neg w, if_neg w]
end
