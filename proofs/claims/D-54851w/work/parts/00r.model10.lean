/-! ===== bits ===== -/
theorem iv_bv {X : Int} : (iv X).toBitVec = BitVec.ofInt 32 X := Int32.toBitVec_ofInt X
theorem iv_and1 {Y : Int} (h : 0 ≤ Y ∧ Y < 2147483648) : iv Y &&& iv 1 = iv (Y % 2) := by
  apply Int32.toBitVec.inj
  rw [Int32.toBitVec_and, iv_bv, iv_bv, iv_bv]
  apply BitVec.eq_of_toNat_eq
  rw [BitVec.toNat_and, BitVec.toNat_ofInt, BitVec.toNat_ofInt, BitVec.toNat_ofInt]
  have e1 : (Y % ((2 ^ 32 : Nat) : Int)).toNat = Y.toNat := by omega
  have e2 : ((1 : Int) % ((2 ^ 32 : Nat) : Int)).toNat = 1 := by decide
  have e3 : (Y % 2 % ((2 ^ 32 : Nat) : Int)).toNat = Y.toNat % 2 := by omega
  rw [e1, e2, e3, Nat.and_one_is_mod]
theorem iv_shr {X H : Int} (hX : 0 ≤ X ∧ X < 2147483648) (hH : 0 ≤ H ∧ H < 30) : ishr (iv X) (iv H) = iv (X / 2 ^ H.toNat) := by
  apply Int32.toInt.inj
  have hq : 0 ≤ X / 2 ^ H.toNat ∧ X / 2 ^ H.toNat < 2147483648 := by
    have hp : (0 : Int) < 2 ^ H.toNat := Int.pow_pos (by omega)
    exact ⟨Int.ediv_nonneg hX.1 (by omega), Int.lt_of_le_of_lt (Int.ediv_le_self _ hX.1) hX.2⟩
  rw [iv_toInt (by omega)]
  have hb : (iv H &&& 31) = iv H := by
    have : H = 0 ∨ H = 1 ∨ H = 2 ∨ H = 3 ∨ H = 4 ∨ H = 5 ∨ H = 6 ∨ H = 7 ∨ H = 8 ∨ H = 9 ∨ H = 10 ∨ H = 11 ∨ H = 12 ∨ H = 13 ∨ H = 14 ∨ H = 15 ∨ H = 16 ∨ H = 17 ∨ H = 18 ∨ H = 19 ∨ H = 20 ∨ H = 21 ∨ H = 22 ∨ H = 23 ∨ H = 24 ∨ H = 25 ∨ H = 26 ∨ H = 27 ∨ H = 28 ∨ H = 29 := by omega
    rcases this with rfl | rfl | rfl | rfl | rfl | rfl | rfl | rfl | rfl | rfl | rfl | rfl | rfl | rfl | rfl | rfl | rfl | rfl | rfl | rfl | rfl | rfl | rfl | rfl | rfl | rfl | rfl | rfl | rfl | rfl <;> decide +kernel
  unfold ishr
  rw [hb]
  show (iv X >>> iv H).toBitVec.toInt = _
  rw [Int32.toBitVec_shiftRight, iv_bv, iv_bv]
  have hs : ((BitVec.ofInt 32 H).smod 32) = BitVec.ofNat 32 H.toNat := by
    have : H = 0 ∨ H = 1 ∨ H = 2 ∨ H = 3 ∨ H = 4 ∨ H = 5 ∨ H = 6 ∨ H = 7 ∨ H = 8 ∨ H = 9 ∨ H = 10 ∨ H = 11 ∨ H = 12 ∨ H = 13 ∨ H = 14 ∨ H = 15 ∨ H = 16 ∨ H = 17 ∨ H = 18 ∨ H = 19 ∨ H = 20 ∨ H = 21 ∨ H = 22 ∨ H = 23 ∨ H = 24 ∨ H = 25 ∨ H = 26 ∨ H = 27 ∨ H = 28 ∨ H = 29 := by omega
    rcases this with rfl | rfl | rfl | rfl | rfl | rfl | rfl | rfl | rfl | rfl | rfl | rfl | rfl | rfl | rfl | rfl | rfl | rfl | rfl | rfl | rfl | rfl | rfl | rfl | rfl | rfl | rfl | rfl | rfl | rfl <;> decide +kernel
  rw [hs, BitVec.sshiftRight', BitVec.toInt_sshiftRight, Int.shiftRight_eq_div_pow]
  have e1 : (BitVec.ofInt 32 X).toInt = X := by
    rw [BitVec.toInt_ofInt]
    exact Int.bmod_eq_of_le (by omega) (by omega)
  have e2 : (BitVec.ofNat 32 H.toNat).toNat = H.toNat := by
    rw [BitVec.toNat_ofNat]; omega
  rw [e1, e2, Int.natCast_pow]
  rfl
theorem iv_bit {X H : Int} (hX : 0 ≤ X ∧ X < 1073741824) (hH : 0 ≤ H ∧ H < 30) : (ishr (iv X) (iv H)) &&& iv 1 = iv (X / 2 ^ H.toNat % 2) := by
  have hp : (0 : Int) < 2 ^ H.toNat := Int.pow_pos (by omega)
  rw [iv_shr (by omega) hH, iv_and1 ⟨Int.ediv_nonneg hX.1 (by omega), Int.lt_of_le_of_lt (Int.ediv_le_self _ hX.1) (by omega)⟩]
def flipb (X H : Int) : Int := ((X.toNat ^^^ 2 ^ H.toNat : Nat) : Int)
theorem iv_flip {X H : Int} (hX : 0 ≤ X ∧ X < 1073741824) (hH : 0 ≤ H ∧ H < 30) : iv X ^^^ ishl (iv 1) (iv H) = iv (flipb X H) := by
  have e0 : ishl (iv 1) (iv H) = iv (2 ^ H.toNat) := by
    have : H = 0 ∨ H = 1 ∨ H = 2 ∨ H = 3 ∨ H = 4 ∨ H = 5 ∨ H = 6 ∨ H = 7 ∨ H = 8 ∨ H = 9 ∨ H = 10 ∨ H = 11 ∨ H = 12 ∨ H = 13 ∨ H = 14 ∨ H = 15 ∨ H = 16 ∨ H = 17 ∨ H = 18 ∨ H = 19 ∨ H = 20 ∨ H = 21 ∨ H = 22 ∨ H = 23 ∨ H = 24 ∨ H = 25 ∨ H = 26 ∨ H = 27 ∨ H = 28 ∨ H = 29 := by omega
    rcases this with rfl | rfl | rfl | rfl | rfl | rfl | rfl | rfl | rfl | rfl | rfl | rfl | rfl | rfl | rfl | rfl | rfl | rfl | rfl | rfl | rfl | rfl | rfl | rfl | rfl | rfl | rfl | rfl | rfl | rfl <;> decide +kernel
  have hp : (2 : Int) ^ H.toNat = ((2 ^ H.toNat : Nat) : Int) := by rw [Int.natCast_pow]; rfl
  have hp2 : 2 ^ H.toNat < 2 ^ 30 := Nat.pow_lt_pow_right (by omega) (by omega)
  rw [e0]
  apply Int32.toBitVec.inj
  rw [Int32.toBitVec_xor, iv_bv, iv_bv, iv_bv]
  apply BitVec.eq_of_toNat_eq
  rw [BitVec.toNat_xor, BitVec.toNat_ofInt, BitVec.toNat_ofInt, BitVec.toNat_ofInt]
  have hx : X.toNat ^^^ 2 ^ H.toNat < 2 ^ 30 := Nat.xor_lt_two_pow (by omega) hp2
  have e1 : (X % ((2 ^ 32 : Nat) : Int)).toNat = X.toNat := by omega
  have e2 : ((2 : Int) ^ H.toNat % ((2 ^ 32 : Nat) : Int)).toNat = 2 ^ H.toNat := by
    rw [hp]
    generalize 2 ^ H.toNat = p at *
    omega
  have e3 : (flipb X H % ((2 ^ 32 : Nat) : Int)).toNat = X.toNat ^^^ 2 ^ H.toNat := by
    unfold flipb
    generalize X.toNat ^^^ 2 ^ H.toNat = p at *
    omega
  rw [e1, e2, e3]
theorem flipb_rg {X H : Int} (hX : 0 ≤ X ∧ X < 1073741824) (hH : 0 ≤ H ∧ H < 30) : 0 ≤ flipb X H ∧ flipb X H < 1073741824 := by
  have hp2 : 2 ^ H.toNat < 2 ^ 30 := Nat.pow_lt_pow_right (by omega) (by omega)
  have hx : X.toNat ^^^ 2 ^ H.toNat < 2 ^ 30 := Nat.xor_lt_two_pow (by omega) hp2
  unfold flipb
  generalize X.toNat ^^^ 2 ^ H.toNat = p at *
  omega
theorem bit_nat {X K : Int} (hX : 0 ≤ X) : bit X K ↔ X.toNat.testBit K.toNat = true := by
  unfold bit
  rw [Nat.testBit_eq_decide_div_mod_eq, decide_eq_true_iff]
  have e : X / 2 ^ K.toNat % 2 = ((X.toNat / 2 ^ K.toNat % 2 : Nat) : Int) := by
    have : X = ((X.toNat : Nat) : Int) := by omega
    rw [Int.natCast_emod, Int.natCast_ediv, Int.natCast_pow]
    rw [← this]
    rfl
  rw [e]
  omega
theorem bit_flip {X H K : Int} (hX : 0 ≤ X) (hH : 0 ≤ H) (hK : 0 ≤ K) : bit (flipb X H) K ↔ (if K = H then ¬ bit X K else bit X K) := by
  have h0 : 0 ≤ flipb X H := by unfold flipb; omega
  rw [bit_nat h0, bit_nat hX]
  have e : (flipb X H).toNat = X.toNat ^^^ 2 ^ H.toNat := by unfold flipb; omega
  rw [e, Nat.testBit_xor, Nat.testBit_two_pow]
  by_cases h : K = H
  · subst h
    simp
  · have : H.toNat ≠ K.toNat := by omega
    simp [h, this]

