/-! ===== a state as it stands between calls; sight ===== -/
def ST (g : Nat → Nat) (h : Nat → Option hC) (a : Nat) (D : Nat → Nat) (tb gb : Int → Nat) (z : Int → Int) : Prop := HD g h a D tb z ∧ GS g h D gb z ∧ (D 4 ≠ D 5 ∧ D 4 ≠ D 6 ∧ D 5 ≠ D 6) ∧
  (∃ F, h (D 4) = some (ari 0 192 F) ∧ ∀ c, cin c → F c = cv (mpz z c)) ∧ (∃ T, h (D 5) = some (ari 0 192 T) ∧ ∀ c, cin c → T c = stz z c) ∧ ∃ W, h (D 6) = some (ari 0 192 W) ∧ ∀ c, cin c → W c = sitC z c
theorem xor_nn {x y : Int} (hx : -2147483648 ≤ x ∧ x < 2147483648) (hy : 0 ≤ y ∧ y < 2147483648) : (iv 0 ≤ iv x ^^^ iv y) ↔ 0 ≤ x := by
  have e0 : (iv 0).toInt = 0 := iv_toInt (by omega)
  have h1 : (iv x ^^^ iv y).toBitVec = (iv x).toBitVec ^^^ (iv y).toBitVec := rfl
  have hm : ∀ b : Int32, b.toBitVec.msb = decide (b.toInt < 0) := fun b => BitVec.msb_eq_toInt
  have h2 := hm (iv x ^^^ iv y)
  rw [h1, BitVec.msb_xor, hm (iv x), hm (iv y), iv_toInt hx, iv_toInt (by omega)] at h2
  have h3 : decide (y < 0) = false := decide_eq_false (by omega)
  rw [h3, Bool.xor_false] at h2
  rw [Int32.le_iff_toInt_le, e0]
  have h4 : (x < 0) ↔ ((iv x ^^^ iv y).toInt < 0) := decide_eq_decide.mp h2
  omega
theorem c_nz {β : Type} {K : Unit → HM β} {σ : Hp} {y : Int} (hy : 0 < y ∧ y < 2147483648) : mb (mnz (iv y)) K σ = K () σ := by
  unfold mb mnz
  rw [if_neg (fun e => by
    have e2 : iv y = iv 0 := e
    rw [iv_eq (by omega) (by omega)] at e2
    omega)]
theorem c_fdiv {β : Type} {K : Int32 → HM β} {g : Nat → Nat} {h : Nat → Option hC} {n w : Nat} {x y : Int} (hx : -100000 ≤ x ∧ x ≤ 100000) (hy : 0 < y ∧ y ≤ 1000) : mb (mcall0 (fJ31_floorDiv g (iv x) (iv y))) K (h, n, w) = K (iv (x / y)) (h, n, w) := by
  refine e_call0 (u' := 0) ?_
  unfold fJ31_floorDiv
  rw [c_nz (by omega)]
  simp only [iv_lit]
  by_cases h0 : 0 ≤ x
  · rw [if_pos ((xor_nn (by omega) (by omega)).2 h0), iv_div (by omega) (by omega)]
    rfl
  · rw [if_neg (fun q => h0 ((xor_nn (by omega) (by omega)).1 q)), iv_tdiv (by omega) (by omega), iv_mul]
    have ht := Int.tdiv_eq_ediv (a := x) (b := y)
    have hs : y.sign = 1 := Int.sign_eq_one_of_pos hy.1
    rw [hs] at ht
    have hb : -100000 ≤ x / y ∧ x / y ≤ 0 := by
      refine ⟨?_, ?_⟩
      · rw [Int.le_ediv_iff_mul_le hy.1]
        have : 100000 ≤ 100000 * y := by omega
        omega
      · have : x / y < 1 := by
          rw [Int.ediv_lt_iff_lt_mul hy.1]; omega
        omega
    by_cases hd : y ∣ x
    · rw [if_pos (Or.inr hd)] at ht
      have hm := Int.tdiv_mul_cancel hd
      rw [hm, if_pos rfl, ht, Int.add_zero]
      rfl
    · rw [if_neg (fun q => q.elim h0 hd)] at ht
      have hm : ¬ x.tdiv y * y = x := fun q => hd ⟨x.tdiv y, by rw [Int.mul_comm]; exact q.symm⟩
      have hmr : -1000000000 ≤ x.tdiv y * y ∧ x.tdiv y * y ≤ 1000000000 := by
        have h1 : x.tdiv y * y = x - x.tmod y := by
          have := Int.mul_tdiv_add_tmod x y
          rw [Int.mul_comm] at this
          omega
        have h2 := Int.lt_tmod_of_pos x hy.1
        have h3 := Int.tmod_lt_of_pos x hy.1
        omega
      rw [if_neg (fun q => hm ((iv_eq (by omega) (by omega)).1 q)), ht]
      show (mret (iv (x / y + 1) - iv 1)) _ = _
      rw [iv_sub, Int.add_sub_cancel]
      rfl
theorem X2_line_c {β : Type} {K : Int32 → HM β} {g : Nat → Nat} {h : Nat → Option hC} {n w a : Nat} {D : Nat → Nat} {z : Int → Int} {c r : Int} (hd : SO h a D z) (h0 : 0 ≤ z 0 ∧ z 0 ≤ 15) (hc : cin c) (hr : 0 ≤ r ∧ r < c / 16) : mb (mon 1 (some a) (mcall0 (fX2_line g (some a) (iv c) (iv r)))) K (h, n, w) = K (iv (lcol z c r)) (h, n, w) := by
  unfold cin at hc
  have hT := mul_rg (a := c / 16 - r) (b := z 0 - c % 16) (by omega) (by omega)
  have ho := hd
  unfold SO at ho
  rw [c_mon ho]
  refine e_call0 (u' := 0) ?_
  have ef := fun (K : Int32 → HM Int32) => c_fdiv (g := g) (h := h) (n := n) (w := 0) (K := K) (x := 2 * (c / 16 - r) * (z 0 - c % 16) + c / 16 + 1) (y := 2 * (c / 16 + 1)) (by omega) (by omega)
  unfold fX2_line lcol
  rw [s_o0 ho]
  simp (disch := omega) only [↓reduceIte, Int.reduceEq, Int.reduceNe, Int.reduceLT, Int.reduceLE, Int.reduceNeg, Int.reduceMod, Int.reduceDiv, Int.reduceAdd, Int.reduceSub, Int.reduceMul, not_true_eq_false, not_false_eq_true, Int.lt_irrefl, true_or, or_true, false_or, or_false, true_and, and_true, false_and, and_false, b2_T, b2_F, if_true, if_false, ↓mjn_b, ↓mjn0_b, ↓mjn2_b, iv_lit, iv_add, iv_sub, iv_mul, iv_neg, iv_le_t, iv_le_f, iv_lt_t, iv_lt_f, iv_eq_t, iv_eq_f, iv_div, iv_mod, mretT_p, mretT_b, e_mret, ↓e_bret, ↓m_mon, ↓m_oI0, m_pI0, ↓m_oI3, m_pI3, ↓m_oI5, m_pI5, ↓m_oI7, m_pI7, ↓m_oI11, m_pI11, ↓m_oI12, m_pI12, ↓m_oI13, m_pI13, ↓m_oI14, m_pI14, ↓m_oI15, m_pI15, ↓m_oI16, m_pI16, ↓m_oI17, m_pI17, m_pZ5, m_pZ12, ↓m_oR1, m_aI1, m_sI1, ↓m_oR2, m_aI2, m_sI2, ↓m_oR4, m_aI4, m_sI4, ↓m_oR6, m_aI6, m_sI6, ↓m_oR8, m_aI8, m_sI8, ↓m_oR9, m_aI9, m_sI9, ↓m_oR10, m_aI10, m_sI10, ↓ef]
