set_option maxRecDepth 100000
set_option maxHeartbeats 1000000
/-! SPECS, bits: shifts and masks on whole numbers -/
theorem i32_val {a : Int} (h : nm a) : (Int32.ofInt a).toInt = a := Int32.toInt_ofInt_of_le (by have := h.1; omega) (by have := h.2; omega)
theorem sh_amount : ∀ n : Nat, n < 32 → ((Int32.ofInt n &&& 31).toBitVec.smod 32).toNat = n := by decide +kernel
theorem ishr_eq {a : Int} (h : nm a) {k : Nat} (hk : k < 32) : ishr a k = a / (2 ^ k : Nat) := by
  unfold ishr
  rw [← Int32.toInt_toBitVec, Int32.toBitVec_shiftRight, BitVec.toInt_sshiftRight', sh_amount k hk, Int32.toInt_toBitVec, i32_val h, Int.shiftRight_eq_div_pow]
theorem ishr_eqI {a k : Int} (h : nm a) (h0 : 0 ≤ k) (hk : k < 32) : ishr a k = a / (2 ^ k.toNat : Nat) := by
  obtain ⟨n, rfl⟩ := Int.eq_ofNat_of_zero_le h0
  exact ishr_eq h (by omega)
theorem ishr_1 {a : Int} (h : nm a) : ishr a 1 = a / 2 := ishr_eq h (k := 1) (by decide)
theorem nm_ishr (a b : Int) : nm (ishr a b) := nm_toInt _
theorem nm_iand (a b : Int) : nm (iand a b) := nm_toInt _
theorem nm_ior (a b : Int) : nm (ior a b) := nm_toInt _
theorem nm_ishl (a b : Int) : nm (ishl a b) := nm_toInt _
theorem nm_ixor (a b : Int) : nm (ixor a b) := nm_toInt _
theorem bv_ofInt_toNat (a : Int) : (Int32.ofInt a).toBitVec.toNat = (a % 4294967296).toNat := by
  rw [Int32.toBitVec_ofInt]
  exact BitVec.toNat_ofInt a
theorem i32_of_nat {x : Int32} {n : Nat} (h : x.toBitVec.toNat = n) (hn : n < 2147483648) : x.toInt = n := by
  rw [← Int32.toInt_toBitVec, BitVec.toInt_eq_toNat_of_lt (by omega), h]
theorem iand_pos (a : Int) {b : Nat} (hb : b < 2147483648) : iand a b = (((a % 4294967296).toNat &&& b : Nat) : Int) := by
  unfold iand
  refine i32_of_nat ?_ (Nat.lt_of_le_of_lt Nat.and_le_right hb)
  rw [Int32.toBitVec_and, BitVec.toNat_and, bv_ofInt_toNat, bv_ofInt_toNat]
  congr 1
  omega
theorem iand_nat {a b : Nat} (ha : a < 2147483648) (hb : b < 2147483648) : iand a b = ((a &&& b : Nat) : Int) := by
  rw [iand_pos _ hb]
  congr 2
  omega
theorem ior_nat {a b : Nat} (ha : a < 2147483648) (hb : b < 2147483648) : ior a b = ((a ||| b : Nat) : Int) := by
  unfold ior
  refine i32_of_nat ?_ (Nat.or_lt_two_pow (n := 31) ha hb)
  rw [Int32.toBitVec_or, BitVec.toNat_or, bv_ofInt_toNat, bv_ofInt_toNat]
  congr 1 <;> omega
theorem iand_1 (a : Int) : iand a 1 = a % 2 := by
  have h := iand_pos a (b := 1) (by decide)
  rw [Nat.and_one_is_mod] at h
  rw [show (1 : Int) = ((1 : Nat) : Int) from rfl, h]
  omega
theorem iand_15 (a : Int) : iand a 15 = a % 16 := by
  have h := iand_pos a (b := 15) (by decide)
  rw [show (15 : Nat) = 2 ^ 4 - 1 from rfl, Nat.and_two_pow_sub_one_eq_mod] at h
  rw [show (15 : Int) = ((2 ^ 4 - 1 : Nat) : Int) from rfl, h]
  omega
theorem iand_255 (a : Int) : iand a 255 = a % 256 := by
  have h := iand_pos a (b := 255) (by decide)
  rw [show (255 : Nat) = 2 ^ 8 - 1 from rfl, Nat.and_two_pow_sub_one_eq_mod] at h
  rw [show (255 : Int) = ((2 ^ 8 - 1 : Nat) : Int) from rfl, h]
  omega
theorem iand_2 {a : Int} (h0 : 0 ≤ a) (h1 : a ≤ 3) : iand a 2 = 2 * (a / 2) := by
  have : a = 0 ∨ a = 1 ∨ a = 2 ∨ a = 3 := by omega
  rcases this with rfl | rfl | rfl | rfl <;> decide
theorem ishl_1 {k : Nat} (hk : k < 31) : ishl 1 k = ((2 ^ k : Nat) : Int) := by
  have : ∀ k : Nat, k < 31 → ishl 1 k = ((2 ^ k : Nat) : Int) := by decide +kernel
  exact this k hk
/-- bits of the one that are none of the other -/
def nd (s t : Nat) : Nat := s ^^^ (s &&& t)
theorem nd_bit (s t i : Nat) : (nd s t).testBit i = (s.testBit i && !t.testBit i) := by
  unfold nd
  rw [Nat.testBit_xor, Nat.testBit_and]
  cases s.testBit i <;> cases t.testBit i <;> rfl
theorem nd_le (s t : Nat) : nd s t ≤ s := by
  have h : nd s t &&& s = nd s t := by
    apply Nat.eq_of_testBit_eq
    intro i
    rw [Nat.testBit_and, nd_bit]
    cases s.testBit i <;> cases t.testBit i <;> rfl
  rw [← h]
  exact Nat.and_le_right
theorem iand_not {s t : Nat} (hs : s < 2147483648) (ht : t < 2147483648) : iand s (ixor t (-1)) = ((nd s t : Nat) : Int) := by
  unfold iand ixor
  rw [Int32.ofInt_toInt]
  refine i32_of_nat ?_ (Nat.lt_of_le_of_lt (nd_le s t) hs)
  rw [Int32.toBitVec_and, BitVec.toNat_and, Int32.toBitVec_xor, BitVec.toNat_xor, bv_ofInt_toNat, bv_ofInt_toNat, bv_ofInt_toNat]
  rw [show ((s : Int) % 4294967296).toNat = s by omega, show ((t : Int) % 4294967296).toNat = t by omega, show ((-1 : Int) % 4294967296).toNat = 2 ^ 32 - 1 by decide]
  apply Nat.eq_of_testBit_eq
  intro i
  rw [Nat.testBit_and, Nat.testBit_xor, Nat.testBit_two_pow_sub_one, nd_bit]
  by_cases h : i < 32
  · simp [h]
  · have : s.testBit i = false := Nat.testBit_lt_two_pow (Nat.lt_of_lt_of_le hs (Nat.le_trans (by decide : 2147483648 ≤ 2 ^ 31) (Nat.pow_le_pow_right (by decide) (by omega))))
    simp [this]
/-- a bit by shift and mask -/
theorem bit_eq {s k : Nat} (hs : s < 2147483648) (hk : k < 32) : iand (ishr s k) 1 = if s.testBit k then 1 else 0 := by
  rw [iand_1, ishr_eq ⟨by omega, by omega⟩ hk, ← Int.natCast_ediv, Nat.testBit_eq_decide_div_mod_eq]
  by_cases h : s / 2 ^ k % 2 = 1
  · rw [if_pos (by simpa using h)]
    omega
  · rw [if_neg (by simpa using h)]
    omega
theorem bit_and {s k : Nat} (hs : s < 2147483648) (hk : k < 31) : iand s (ishl 1 k) = if s.testBit k then ((2 ^ k : Nat) : Int) else 0 := by
  have h2 : 2 ^ k < 2147483648 := Nat.lt_of_lt_of_le (Nat.pow_lt_pow_right (by decide) hk) (by decide : 2 ^ 31 ≤ 2147483648)
  have e : s &&& 2 ^ k = if s.testBit k then 2 ^ k else 0 := by
    apply Nat.eq_of_testBit_eq
    intro i
    rw [Nat.testBit_and, Nat.testBit_two_pow]
    by_cases z : k = i
    · subst z
      cases s.testBit k <;> simp
    · cases s.testBit k <;> simp [z, Nat.testBit_two_pow]
  rw [ishl_1 hk, iand_nat hs h2, e]
  cases s.testBit k <;> simp
theorem bit_set {s k : Nat} (hs : s < 2147483648) (hk : k < 31) : ior s (ishl 1 k) = ((s ||| 2 ^ k : Nat) : Int) := by
  have h2 : 2 ^ k < 2147483648 := Nat.lt_of_lt_of_le (Nat.pow_lt_pow_right (by decide) hk) (by decide : 2 ^ 31 ≤ 2147483648)
  rw [ishl_1 hk, ior_nat hs h2]
