set_option maxRecDepth 100000
set_option maxHeartbeats 1000000
/-! SPECS, 0: bytes and chars (the only facts of the machine that the specs need) -/
theorem i2b_val (a : Int) : i2b a = (Int32.ofInt a).toInt8.toInt := by
  unfold i2b
  exact Int8.toInt_toInt32 _
theorem okI_byte (a : Int) : okI .byte (i2b a) := by
  have e : Int32.ofInt (i2b a) = (Int32.ofInt a).toInt8.toInt32 := by
    unfold i2b
    exact Int32.ofInt_toInt _
  unfold okI
  rw [e]
  refine ⟨?_, ?_⟩
  · show Value.int ((Int32.ofInt a).toInt8.toInt32.toInt8.toInt32) = _
    rw [Int8.toInt8_toInt32]
  · have h1 := Int8.le_toInt (Int32.ofInt a).toInt8
    have h2 := Int8.toInt_lt (Int32.ofInt a).toInt8
    show (decide ((-128 : Int32) ≤ (Int32.ofInt a).toInt8.toInt32) && decide ((Int32.ofInt a).toInt8.toInt32 ≤ (127 : Int32))) = true
    rw [Bool.and_eq_true, decide_eq_true_eq, decide_eq_true_eq, Int32.le_iff_toInt_le, Int32.le_iff_toInt_le, Int8.toInt_toInt32]
    have c1 : (-128 : Int32).toInt = -128 := by decide
    have c2 : (127 : Int32).toInt = 127 := by decide
    rw [c1, c2]
    omega
theorem okI_0 : okI .byte 0 := ⟨rfl, by decide⟩
theorem nar_0 : narrow .byte (.int (Int32.ofInt 0)) = .int (Int32.ofInt 0) := rfl
theorem nar_char : ∀ n : Nat, n < 256 → narrow .char (.int (Int32.ofInt n)) = .int (Int32.ofInt n) := by
  have : ∀ n : Nat, n < 256 → (Int32.ofInt n).toUInt32.toUInt16.toUInt32.toInt32 = Int32.ofInt n := by decide +kernel
  intro n hn
  show Value.int _ = _
  rw [this n hn]
