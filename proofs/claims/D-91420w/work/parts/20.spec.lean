set_option maxRecDepth 100000
set_option maxHeartbeats 1000000
/-! SPECS, 1: loops, frames, lists -/
theorem wh1_of {A : Type} {b : (A → Prop) → A → Prop} (P : A → Prop) (m : A → Nat) (hb : ∀ (R : A → Prop) (x : A), P x → (∀ (x1 : A), P x1 → m x1 < m x → R x1) → b R x) {x : A} (h0 : P x) : wh1 b x := by
  have key : ∀ (k : Nat) (x : A), P x → m x < k → wl1 b k x := by
    intro k
    induction k with
    | zero => intro x _ h; exact absurd h (Nat.not_lt_zero _)
    | succ k ih => intro x hp hm; exact hb (wl1 b k) x hp (fun x1 hp1 hlt => ih x1 hp1 (Nat.lt_of_lt_of_le hlt (Nat.le_of_lt_succ hm)))
  exact ⟨m x + 1, key _ x h0 (Nat.lt_succ_self _)⟩
theorem wh2_of {A B : Type} {b : (A → B → Prop) → A → B → Prop} (P : A → B → Prop) (m : A → B → Nat) (hb : ∀ (R : A → B → Prop) (x : A) (y : B), P x y → (∀ (x1 : A) (y1 : B), P x1 y1 → m x1 y1 < m x y → R x1 y1) → b R x y) {x : A} {y : B} (h0 : P x y) : wh2 b x y := by
  have key : ∀ (k : Nat) (x : A) (y : B), P x y → m x y < k → wl2 b k x y := by
    intro k
    induction k with
    | zero => intro x y _ h; exact absurd h (Nat.not_lt_zero _)
    | succ k ih => intro x y hp hm; exact hb (wl2 b k) x y hp (fun x1 y1 hp1 hlt => ih x1 y1 hp1 (Nat.lt_of_lt_of_le hlt (Nat.le_of_lt_succ hm)))
  exact ⟨m x y + 1, key _ x y h0 (Nat.lt_succ_self _)⟩
theorem wh3_of {A B C : Type} {b : (A → B → C → Prop) → A → B → C → Prop} (P : A → B → C → Prop) (m : A → B → C → Nat) (hb : ∀ (R : A → B → C → Prop) (x : A) (y : B) (z : C), P x y z → (∀ (x1 : A) (y1 : B) (z1 : C), P x1 y1 z1 → m x1 y1 z1 < m x y z → R x1 y1 z1) → b R x y z) {x : A} {y : B} {z : C} (h0 : P x y z) : wh3 b x y z := by
  have key : ∀ (k : Nat) (x : A) (y : B) (z : C), P x y z → m x y z < k → wl3 b k x y z := by
    intro k
    induction k with
    | zero => intro x y z _ h; exact absurd h (Nat.not_lt_zero _)
    | succ k ih => intro x y z hp hm; exact hb (wl3 b k) x y z hp (fun x1 y1 z1 hp1 hlt => ih x1 y1 z1 hp1 (Nat.lt_of_lt_of_le hlt (Nat.le_of_lt_succ hm)))
  exact ⟨m x y z + 1, key _ x y z h0 (Nat.lt_succ_self _)⟩
theorem wh4_of {A B C D : Type} {b : (A → B → C → D → Prop) → A → B → C → D → Prop} (P : A → B → C → D → Prop) (m : A → B → C → D → Nat) (hb : ∀ (R : A → B → C → D → Prop) (x : A) (y : B) (z : C) (u : D), P x y z u → (∀ (x1 : A) (y1 : B) (z1 : C) (u1 : D), P x1 y1 z1 u1 → m x1 y1 z1 u1 < m x y z u → R x1 y1 z1 u1) → b R x y z u) {x : A} {y : B} {z : C} {u : D} (h0 : P x y z u) : wh4 b x y z u := by
  have key : ∀ (k : Nat) (x : A) (y : B) (z : C) (u : D), P x y z u → m x y z u < k → wl4 b k x y z u := by
    intro k
    induction k with
    | zero => intro x y z u _ h; exact absurd h (Nat.not_lt_zero _)
    | succ k ih => intro x y z u hp hm; exact hb (wl4 b k) x y z u hp (fun x1 y1 z1 u1 hp1 hlt => ih x1 y1 z1 u1 hp1 (Nat.lt_of_lt_of_le hlt (Nat.le_of_lt_succ hm)))
  exact ⟨m x y z u + 1, key _ x y z u h0 (Nat.lt_succ_self _)⟩
theorem wh5_of {A B C D E : Type} {b : (A → B → C → D → E → Prop) → A → B → C → D → E → Prop} (P : A → B → C → D → E → Prop) (m : A → B → C → D → E → Nat) (hb : ∀ (R : A → B → C → D → E → Prop) (x : A) (y : B) (z : C) (u : D) (v : E), P x y z u v → (∀ (x1 : A) (y1 : B) (z1 : C) (u1 : D) (v1 : E), P x1 y1 z1 u1 v1 → m x1 y1 z1 u1 v1 < m x y z u v → R x1 y1 z1 u1 v1) → b R x y z u v) {x : A} {y : B} {z : C} {u : D} {v : E} (h0 : P x y z u v) : wh5 b x y z u v := by
  have key : ∀ (k : Nat) (x : A) (y : B) (z : C) (u : D) (v : E), P x y z u v → m x y z u v < k → wl5 b k x y z u v := by
    intro k
    induction k with
    | zero => intro x y z u v _ h; exact absurd h (Nat.not_lt_zero _)
    | succ k ih => intro x y z u v hp hm; exact hb (wl5 b k) x y z u v hp (fun x1 y1 z1 u1 v1 hp1 hlt => ih x1 y1 z1 u1 v1 hp1 (Nat.lt_of_lt_of_le hlt (Nat.le_of_lt_succ hm)))
  exact ⟨m x y z u v + 1, key _ x y z u v h0 (Nat.lt_succ_self _)⟩
theorem wh6_of {A B C D E F : Type} {b : (A → B → C → D → E → F → Prop) → A → B → C → D → E → F → Prop} (P : A → B → C → D → E → F → Prop) (m : A → B → C → D → E → F → Nat) (hb : ∀ (R : A → B → C → D → E → F → Prop) (x : A) (y : B) (z : C) (u : D) (v : E) (w : F), P x y z u v w → (∀ (x1 : A) (y1 : B) (z1 : C) (u1 : D) (v1 : E) (w1 : F), P x1 y1 z1 u1 v1 w1 → m x1 y1 z1 u1 v1 w1 < m x y z u v w → R x1 y1 z1 u1 v1 w1) → b R x y z u v w) {x : A} {y : B} {z : C} {u : D} {v : E} {w : F} (h0 : P x y z u v w) : wh6 b x y z u v w := by
  have key : ∀ (k : Nat) (x : A) (y : B) (z : C) (u : D) (v : E) (w : F), P x y z u v w → m x y z u v w < k → wl6 b k x y z u v w := by
    intro k
    induction k with
    | zero => intro x y z u v w _ h; exact absurd h (Nat.not_lt_zero _)
    | succ k ih => intro x y z u v w hp hm; exact hb (wl6 b k) x y z u v w hp (fun x1 y1 z1 u1 v1 w1 hp1 hlt => ih x1 y1 z1 u1 v1 w1 hp1 (Nat.lt_of_lt_of_le hlt (Nat.le_of_lt_succ hm)))
  exact ⟨m x y z u v w + 1, key _ x y z u v w h0 (Nat.lt_succ_self _)⟩
theorem wh7_of {A B C D E F K : Type} {b : (A → B → C → D → E → F → K → Prop) → A → B → C → D → E → F → K → Prop} (P : A → B → C → D → E → F → K → Prop) (m : A → B → C → D → E → F → K → Nat) (hb : ∀ (R : A → B → C → D → E → F → K → Prop) (x : A) (y : B) (z : C) (u : D) (v : E) (w : F) (q : K), P x y z u v w q → (∀ (x1 : A) (y1 : B) (z1 : C) (u1 : D) (v1 : E) (w1 : F) (q1 : K), P x1 y1 z1 u1 v1 w1 q1 → m x1 y1 z1 u1 v1 w1 q1 < m x y z u v w q → R x1 y1 z1 u1 v1 w1 q1) → b R x y z u v w q) {x : A} {y : B} {z : C} {u : D} {v : E} {w : F} {q : K} (h0 : P x y z u v w q) : wh7 b x y z u v w q := by
  have key : ∀ (k : Nat) (x : A) (y : B) (z : C) (u : D) (v : E) (w : F) (q : K), P x y z u v w q → m x y z u v w q < k → wl7 b k x y z u v w q := by
    intro k
    induction k with
    | zero => intro x y z u v w q _ h; exact absurd h (Nat.not_lt_zero _)
    | succ k ih => intro x y z u v w q hp hm; exact hb (wl7 b k) x y z u v w q hp (fun x1 y1 z1 u1 v1 w1 q1 hp1 hlt => ih x1 y1 z1 u1 v1 w1 q1 hp1 (Nat.lt_of_lt_of_le hlt (Nat.le_of_lt_succ hm)))
  exact ⟨m x y z u v w q + 1, key _ x y z u v w q h0 (Nat.lt_succ_self _)⟩
/-- the cell at an address is as it was -/
def same (h k : Hp) (a : Nat) : Prop := hI k a = hI h a ∧ hL k a = hL h a ∧ hR k a = hR h a ∧ hT k a = hT h a ∧ hN k a = hN h a
theorem same_rfl (h : Hp) (a : Nat) : same h h a := ⟨rfl, rfl, rfl, rfl, rfl⟩
theorem same.trans {h k l : Hp} {a : Nat} (p : same h k a) (q : same k l a) : same h l a := ⟨q.1.trans p.1, q.2.1.trans p.2.1, q.2.2.1.trans p.2.2.1, q.2.2.2.1.trans p.2.2.2.1, q.2.2.2.2.trans p.2.2.2.2⟩
theorem same_sI {h : Hp} {b j : Nat} {v : Int} {a : Nat} (n : a ≠ b) : same h (sI h b j v) a := ⟨funext fun i => by rw [hI_sI, if_neg (fun z => n z.1)], rfl, rfl, rfl, rfl⟩
theorem same_sL {h : Hp} {b j : Nat} {v : Int} {a : Nat} (n : a ≠ b) : same h (sL h b j v) a := ⟨rfl, funext fun i => by rw [hL_sL, if_neg (fun z => n z.1)], rfl, rfl, rfl⟩
theorem same_sR {h : Hp} {b j v a : Nat} (n : a ≠ b) : same h (sR h b j v) a := ⟨rfl, rfl, funext fun i => by rw [hR_sR, if_neg (fun z => n z.1)], rfl, rfl⟩
theorem same_nw {h : Hp} {t m q a : Nat} (n : a ≠ hn h) : same h (nw h t m q) a := ⟨funext fun i => by rw [hI_nw, if_neg n], funext fun i => by rw [hL_nw, if_neg n], funext fun i => by rw [hR_nw, if_neg n], by rw [hT_nw, if_neg n], by rw [hN_nw, if_neg n]⟩
theorem same_cpR {h : Hp} {b dp c sp m a : Nat} (n : a ≠ b) : same h (cpR h b dp c sp m) a := ⟨rfl, rfl, funext fun i => by rw [hR_cpR, if_neg (fun z => n z.1)], rfl, rfl⟩
theorem same_cpI {h : Hp} {b dp c sp m a : Nat} (n : a ≠ b) : same h (cpI h b dp c sp m) a := ⟨funext fun i => by rw [hI_cpI, if_neg (fun z => n z.1)], rfl, rfl, rfl, rfl⟩
theorem same.ob {h k : Hp} {a t : Nat} (p : same h k a) (hl : hn h ≤ hn k) (o : ob h a t) : ob k a t := ⟨o.1, Nat.lt_of_lt_of_le o.2.1 hl, p.2.2.2.1.trans o.2.2⟩
/-- the place where roads meet: what holds there -/
theorem jn0_of {R : Prop} {b : Prop → Prop} (P : Prop) (hR : P → R) (hb : ∀ K : Prop, (P → K) → b K) : jn R b := hb R hR
theorem jn1_of {A : Type} {R : A → Prop} {b : (A → Prop) → Prop} (P : A → Prop) (hR : ∀ x, P x → R x) (hb : ∀ K : A → Prop, (∀ x, P x → K x) → b K) : jn R b := hb R hR
theorem jn2_of {A B : Type} {R : A → B → Prop} {b : (A → B → Prop) → Prop} (P : A → B → Prop) (hR : ∀ x y, P x y → R x y) (hb : ∀ K : A → B → Prop, (∀ x y, P x y → K x y) → b K) : jn R b := hb R hR
theorem jn3_of {A B C : Type} {R : A → B → C → Prop} {b : (A → B → C → Prop) → Prop} (P : A → B → C → Prop) (hR : ∀ x y z, P x y z → R x y z) (hb : ∀ K : A → B → C → Prop, (∀ x y z, P x y z → K x y z) → b K) : jn R b := hb R hR
theorem jn4_of {A B C D : Type} {R : A → B → C → D → Prop} {b : (A → B → C → D → Prop) → Prop} (P : A → B → C → D → Prop) (hR : ∀ x y z u, P x y z u → R x y z u) (hb : ∀ K : A → B → C → D → Prop, (∀ x y z u, P x y z u → K x y z u) → b K) : jn R b := hb R hR
theorem jn5_of {A B C D E : Type} {R : A → B → C → D → E → Prop} {b : (A → B → C → D → E → Prop) → Prop} (P : A → B → C → D → E → Prop) (hR : ∀ x y z u v, P x y z u v → R x y z u v) (hb : ∀ K : A → B → C → D → E → Prop, (∀ x y z u v, P x y z u v → K x y z u v) → b K) : jn R b := hb R hR
