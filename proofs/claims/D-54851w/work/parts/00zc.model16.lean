/-! ===== the model: orders carried out ===== -/
def isCh (z : Int → Int) (t c : Int) : Prop := (0 ≤ t ∧ t < z 15) ∧ 0 ≤ c ∧ c < chN (zk z t)
theorem X7_isChair_ev {g : Nat → Nat} {h : Nat → Option hC} {n w m : Nat} {M : Mm} {t c : Int} (hz : wZ (M 1)) (ht : -2147483648 ≤ t ∧ t < 2147483648) (hc : -2147483648 ≤ c ∧ c < 2147483648) : fX7_isChair g (some m) (iv t) (iv c) (md m M h, n, w) = some (iv (b2 (isCh (M 1) t c)), (md m M h, n, w)) := by
  have h15 := wZ_15 hz
  unfold fX7_isChair isCh
  by_cases h1 : 0 ≤ t ∧ t ≤ M 1 15 - 1
  · have hw := wZ_traw hz (t := t) (by omega)
    have hcn := chN_rg (zk (M 1) t)
    unfold zk at hcn ⊢
    by_cases h2 : 0 ≤ c ∧ c ≤ chN (M 1 (16 + 4 * t + 0)) - 1
    · rw [b2_t (show (0 ≤ t ∧ t < M 1 15) ∧ 0 ≤ c ∧ c < chN (M 1 (16 + 4 * t + 0)) by omega)]
      simp (disch := omega) only [↓reduceIte, Int.reduceEq, Int.reduceNe, Int.reduceLT, Int.reduceLE, Int.reduceNeg, Int.reduceMod, Int.reduceDiv, Int.reduceAdd, Int.reduceSub, Int.reduceMul, not_true_eq_false, not_false_eq_true, Int.lt_irrefl, true_or, or_true, false_or, or_false, true_and, and_true, false_and, and_false, b2_T, b2_F, if_true, if_false, ↓mjn_b, ↓mjn0_b, ↓mjn2_b, iv_lit, iv_add, iv_sub, iv_mul, iv_neg, iv_le_t, iv_le_f, iv_lt_t, iv_lt_f, iv_eq_t, iv_eq_f, iv_div, iv_mod, mretT_p, mretT_b, e_mret, ↓e_bret, ↓m_mon, ↓m_oI0, m_pI0, ↓m_oI3, m_pI3, ↓m_oI5, m_pI5, ↓m_oI7, m_pI7, ↓m_oI11, m_pI11, ↓m_oI12, m_pI12, ↓m_oI13, m_pI13, ↓m_oI14, m_pI14, ↓m_oI15, m_pI15, ↓m_oI16, m_pI16, ↓m_oI17, m_pI17, m_pZ5, m_pZ12, ↓m_oR1, m_aI1, m_sI1, ↓m_oR2, m_aI2, m_sI2, ↓m_oR4, m_aI4, m_sI4, ↓m_oR6, m_aI6, m_sI6, ↓m_oR8, m_aI8, m_sI8, ↓m_oR9, m_aI9, m_sI9, ↓m_oR10, m_aI10, m_sI10, X7_isTable_c, b2_t h1, X7_table_c, X7_chairs_c, X7_in_c, b2_t h2]
    · rw [b2_f (show ¬ ((0 ≤ t ∧ t < M 1 15) ∧ 0 ≤ c ∧ c < chN (M 1 (16 + 4 * t + 0))) by omega)]
      simp (disch := omega) only [↓reduceIte, Int.reduceEq, Int.reduceNe, Int.reduceLT, Int.reduceLE, Int.reduceNeg, Int.reduceMod, Int.reduceDiv, Int.reduceAdd, Int.reduceSub, Int.reduceMul, not_true_eq_false, not_false_eq_true, Int.lt_irrefl, true_or, or_true, false_or, or_false, true_and, and_true, false_and, and_false, b2_T, b2_F, if_true, if_false, ↓mjn_b, ↓mjn0_b, ↓mjn2_b, iv_lit, iv_add, iv_sub, iv_mul, iv_neg, iv_le_t, iv_le_f, iv_lt_t, iv_lt_f, iv_eq_t, iv_eq_f, iv_div, iv_mod, mretT_p, mretT_b, e_mret, ↓e_bret, ↓m_mon, ↓m_oI0, m_pI0, ↓m_oI3, m_pI3, ↓m_oI5, m_pI5, ↓m_oI7, m_pI7, ↓m_oI11, m_pI11, ↓m_oI12, m_pI12, ↓m_oI13, m_pI13, ↓m_oI14, m_pI14, ↓m_oI15, m_pI15, ↓m_oI16, m_pI16, ↓m_oI17, m_pI17, m_pZ5, m_pZ12, ↓m_oR1, m_aI1, m_sI1, ↓m_oR2, m_aI2, m_sI2, ↓m_oR4, m_aI4, m_sI4, ↓m_oR6, m_aI6, m_sI6, ↓m_oR8, m_aI8, m_sI8, ↓m_oR9, m_aI9, m_sI9, ↓m_oR10, m_aI10, m_sI10, X7_isTable_c, b2_t h1, X7_table_c, X7_chairs_c, X7_in_c, b2_f h2]
  · rw [b2_f (show ¬ ((0 ≤ t ∧ t < M 1 15) ∧ 0 ≤ c ∧ c < chN (zk (M 1) t)) by omega)]
    simp (disch := omega) only [↓reduceIte, Int.reduceEq, Int.reduceNe, Int.reduceLT, Int.reduceLE, Int.reduceNeg, Int.reduceMod, Int.reduceDiv, Int.reduceAdd, Int.reduceSub, Int.reduceMul, not_true_eq_false, not_false_eq_true, Int.lt_irrefl, true_or, or_true, false_or, or_false, true_and, and_true, false_and, and_false, b2_T, b2_F, if_true, if_false, ↓mjn_b, ↓mjn0_b, ↓mjn2_b, iv_lit, iv_add, iv_sub, iv_mul, iv_neg, iv_le_t, iv_le_f, iv_lt_t, iv_lt_f, iv_eq_t, iv_eq_f, iv_div, iv_mod, mretT_p, mretT_b, e_mret, ↓e_bret, ↓m_mon, ↓m_oI0, m_pI0, ↓m_oI3, m_pI3, ↓m_oI5, m_pI5, ↓m_oI7, m_pI7, ↓m_oI11, m_pI11, ↓m_oI12, m_pI12, ↓m_oI13, m_pI13, ↓m_oI14, m_pI14, ↓m_oI15, m_pI15, ↓m_oI16, m_pI16, ↓m_oI17, m_pI17, m_pZ5, m_pZ12, ↓m_oR1, m_aI1, m_sI1, ↓m_oR2, m_aI2, m_sI2, ↓m_oR4, m_aI4, m_sI4, ↓m_oR6, m_aI6, m_sI6, ↓m_oR8, m_aI8, m_sI8, ↓m_oR9, m_aI9, m_sI9, ↓m_oR10, m_aI10, m_sI10, X7_isTable_c, b2_f h1]
theorem X7_isChair_c {β : Type} {K : Int32 → HM β} {g : Nat → Nat} {h : Nat → Option hC} {n w m : Nat} {M : Mm} {t c : Int} (hz : wZ (M 1)) (ht : -2147483648 ≤ t ∧ t < 2147483648) (hc : -2147483648 ≤ c ∧ c < 2147483648) : mb (mcall0 (fX7_isChair g (some m) (iv t) (iv c))) K (md m M h, n, w) = K (iv (b2 (isCh (M 1) t c))) (md m M h, n, w) := e_call0 (X7_isChair_ev hz ht hc)
theorem X7_noMove_ev {g : Nat → Nat} {h : Nat → Option hC} {n w m : Nat} {M : Mm} {t x y : Int} (hz : wZ (M 1)) (ht : -2147483648 ≤ t ∧ t < 2147483648) (hx : -2147483648 ≤ x ∧ x < 2147483648) (hy : -2147483648 ≤ y ∧ y < 2147483648) :
    ∃ (M' : Mm), fX7_noMove g (some m) (iv t) (iv x) (iv y) (md m M h, n, w) = some (iv (@ite Int (0 ≤ t ∧ t < M 1 15) (Classical.propDecidable _) (@ite Int (inR x y) (Classical.propDecidable _) (if pck (zset (M 1) t (16 * y + x) (zt (M 1) t)) = 0 then 0 else 3) 2) 1), (md m M' h, n, w)) ∧ qsm M M' ∧ M' 1 = M 1 := by
  have h15 := wZ_15 hz
  unfold fX7_noMove
  by_cases h1 : 0 ≤ t ∧ t ≤ M 1 15 - 1
  · have ht2 : 0 ≤ t ∧ t < M 1 15 := by omega
    have hw := wZ_traw hz ht2
    rw [if_pos ht2]
    by_cases h2 : inR x y
    · rw [if_pos h2]
      have hi := h2
      unfold inR at hi
      obtain ⟨M1, e1, e2, e3⟩ := X7_canStand_ev (g := g) (h := h) (n := n) (w := 0) (m := m) (p := 16 * y + x) (u := M 1 (16 + 4 * t + 2)) hz.1 ht2 (by omega) (by omega)
      refine ⟨M1, ?_, e2, e3⟩
      unfold zt
      by_cases h3 : pck (zset (M 1) t (16 * y + x) (M 1 (16 + 4 * t + 2))) = 0
      · rw [b2_t h3] at e1
        simp (disch := omega) only [↓reduceIte, Int.reduceEq, Int.reduceNe, Int.reduceLT, Int.reduceLE, Int.reduceNeg, Int.reduceMod, Int.reduceDiv, Int.reduceAdd, Int.reduceSub, Int.reduceMul, not_true_eq_false, not_false_eq_true, Int.lt_irrefl, true_or, or_true, false_or, or_false, true_and, and_true, false_and, and_false, b2_T, b2_F, if_true, if_false, ↓mjn_b, ↓mjn0_b, ↓mjn2_b, iv_lit, iv_add, iv_sub, iv_mul, iv_neg, iv_le_t, iv_le_f, iv_lt_t, iv_lt_f, iv_eq_t, iv_eq_f, iv_div, iv_mod, mretT_p, mretT_b, e_mret, ↓e_bret, ↓m_mon, ↓m_oI0, m_pI0, ↓m_oI3, m_pI3, ↓m_oI5, m_pI5, ↓m_oI7, m_pI7, ↓m_oI11, m_pI11, ↓m_oI12, m_pI12, ↓m_oI13, m_pI13, ↓m_oI14, m_pI14, ↓m_oI15, m_pI15, ↓m_oI16, m_pI16, ↓m_oI17, m_pI17, m_pZ5, m_pZ12, ↓m_oR1, m_aI1, m_sI1, ↓m_oR2, m_aI2, m_sI2, ↓m_oR4, m_aI4, m_sI4, ↓m_oR6, m_aI6, m_sI6, ↓m_oR8, m_aI8, m_sI8, ↓m_oR9, m_aI9, m_sI9, ↓m_oR10, m_aI10, m_sI10, X7_isTable_c, b2_t h1, X7_isCell_c, b2_t hi, X7_table_c, e_call0 e1, h3]
      · rw [b2_f h3] at e1
        simp (disch := omega) only [↓reduceIte, Int.reduceEq, Int.reduceNe, Int.reduceLT, Int.reduceLE, Int.reduceNeg, Int.reduceMod, Int.reduceDiv, Int.reduceAdd, Int.reduceSub, Int.reduceMul, not_true_eq_false, not_false_eq_true, Int.lt_irrefl, true_or, or_true, false_or, or_false, true_and, and_true, false_and, and_false, b2_T, b2_F, if_true, if_false, ↓mjn_b, ↓mjn0_b, ↓mjn2_b, iv_lit, iv_add, iv_sub, iv_mul, iv_neg, iv_le_t, iv_le_f, iv_lt_t, iv_lt_f, iv_eq_t, iv_eq_f, iv_div, iv_mod, mretT_p, mretT_b, e_mret, ↓e_bret, ↓m_mon, ↓m_oI0, m_pI0, ↓m_oI3, m_pI3, ↓m_oI5, m_pI5, ↓m_oI7, m_pI7, ↓m_oI11, m_pI11, ↓m_oI12, m_pI12, ↓m_oI13, m_pI13, ↓m_oI14, m_pI14, ↓m_oI15, m_pI15, ↓m_oI16, m_pI16, ↓m_oI17, m_pI17, m_pZ5, m_pZ12, ↓m_oR1, m_aI1, m_sI1, ↓m_oR2, m_aI2, m_sI2, ↓m_oR4, m_aI4, m_sI4, ↓m_oR6, m_aI6, m_sI6, ↓m_oR8, m_aI8, m_sI8, ↓m_oR9, m_aI9, m_sI9, ↓m_oR10, m_aI10, m_sI10, X7_isTable_c, b2_t h1, X7_isCell_c, b2_t hi, X7_table_c, e_call0 e1, h3]
    · rw [if_neg h2]
      unfold inR at h2
      refine ⟨M, ?_, qsm_rf, rfl⟩
      simp (disch := omega) only [↓reduceIte, Int.reduceEq, Int.reduceNe, Int.reduceLT, Int.reduceLE, Int.reduceNeg, Int.reduceMod, Int.reduceDiv, Int.reduceAdd, Int.reduceSub, Int.reduceMul, not_true_eq_false, not_false_eq_true, Int.lt_irrefl, true_or, or_true, false_or, or_false, true_and, and_true, false_and, and_false, b2_T, b2_F, if_true, if_false, ↓mjn_b, ↓mjn0_b, ↓mjn2_b, iv_lit, iv_add, iv_sub, iv_mul, iv_neg, iv_le_t, iv_le_f, iv_lt_t, iv_lt_f, iv_eq_t, iv_eq_f, iv_div, iv_mod, mretT_p, mretT_b, e_mret, ↓e_bret, ↓m_mon, ↓m_oI0, m_pI0, ↓m_oI3, m_pI3, ↓m_oI5, m_pI5, ↓m_oI7, m_pI7, ↓m_oI11, m_pI11, ↓m_oI12, m_pI12, ↓m_oI13, m_pI13, ↓m_oI14, m_pI14, ↓m_oI15, m_pI15, ↓m_oI16, m_pI16, ↓m_oI17, m_pI17, m_pZ5, m_pZ12, ↓m_oR1, m_aI1, m_sI1, ↓m_oR2, m_aI2, m_sI2, ↓m_oR4, m_aI4, m_sI4, ↓m_oR6, m_aI6, m_sI6, ↓m_oR8, m_aI8, m_sI8, ↓m_oR9, m_aI9, m_sI9, ↓m_oR10, m_aI10, m_sI10, X7_isTable_c, b2_t h1, X7_isCell_c, b2_f h2]
  · rw [if_neg (by omega)]
    refine ⟨M, ?_, qsm_rf, rfl⟩
    simp (disch := omega) only [↓reduceIte, Int.reduceEq, Int.reduceNe, Int.reduceLT, Int.reduceLE, Int.reduceNeg, Int.reduceMod, Int.reduceDiv, Int.reduceAdd, Int.reduceSub, Int.reduceMul, not_true_eq_false, not_false_eq_true, Int.lt_irrefl, true_or, or_true, false_or, or_false, true_and, and_true, false_and, and_false, b2_T, b2_F, if_true, if_false, ↓mjn_b, ↓mjn0_b, ↓mjn2_b, iv_lit, iv_add, iv_sub, iv_mul, iv_neg, iv_le_t, iv_le_f, iv_lt_t, iv_lt_f, iv_eq_t, iv_eq_f, iv_div, iv_mod, mretT_p, mretT_b, e_mret, ↓e_bret, ↓m_mon, ↓m_oI0, m_pI0, ↓m_oI3, m_pI3, ↓m_oI5, m_pI5, ↓m_oI7, m_pI7, ↓m_oI11, m_pI11, ↓m_oI12, m_pI12, ↓m_oI13, m_pI13, ↓m_oI14, m_pI14, ↓m_oI15, m_pI15, ↓m_oI16, m_pI16, ↓m_oI17, m_pI17, m_pZ5, m_pZ12, ↓m_oR1, m_aI1, m_sI1, ↓m_oR2, m_aI2, m_sI2, ↓m_oR4, m_aI4, m_sI4, ↓m_oR6, m_aI6, m_sI6, ↓m_oR8, m_aI8, m_sI8, ↓m_oR9, m_aI9, m_sI9, ↓m_oR10, m_aI10, m_sI10, X7_isTable_c, b2_f h1]
theorem X7_noTurn_ev {g : Nat → Nat} {h : Nat → Option hC} {n w m : Nat} {M : Mm} {t u : Int} (hz : wZ (M 1)) (ht : -2147483648 ≤ t ∧ t < 2147483648) (hu : -2147483648 ≤ u ∧ u < 2147483648) :
    ∃ (M' : Mm), fX7_noTurn g (some m) (iv t) (iv u) (md m M h, n, w) = some (iv (@ite Int (0 ≤ t ∧ t < M 1 15) (Classical.propDecidable _) (@ite Int (0 ≤ u ∧ u ≤ 3) (Classical.propDecidable _) (if pck (zset (M 1) t (zp (M 1) t) u) = 0 then 0 else 3) 2) 1), (md m M' h, n, w)) ∧ qsm M M' ∧ M' 1 = M 1 := by
  have h15 := wZ_15 hz
  unfold fX7_noTurn
  by_cases h1 : 0 ≤ t ∧ t ≤ M 1 15 - 1
  · have ht2 : 0 ≤ t ∧ t < M 1 15 := by omega
    have hw := wZ_traw hz ht2
    rw [if_pos ht2]
    by_cases h2 : 0 ≤ u ∧ u ≤ 3
    · rw [if_pos h2]
      obtain ⟨M1, e1, e2, e3⟩ := X7_canStand_ev (g := g) (h := h) (n := n) (w := 0) (m := m) (p := M 1 (16 + 4 * t + 1)) (u := u) hz.1 ht2 (by omega) h2
      refine ⟨M1, ?_, e2, e3⟩
      unfold zp
      by_cases h3 : pck (zset (M 1) t (M 1 (16 + 4 * t + 1)) u) = 0
      · rw [b2_t h3] at e1
        simp (disch := omega) only [↓reduceIte, Int.reduceEq, Int.reduceNe, Int.reduceLT, Int.reduceLE, Int.reduceNeg, Int.reduceMod, Int.reduceDiv, Int.reduceAdd, Int.reduceSub, Int.reduceMul, not_true_eq_false, not_false_eq_true, Int.lt_irrefl, true_or, or_true, false_or, or_false, true_and, and_true, false_and, and_false, b2_T, b2_F, if_true, if_false, ↓mjn_b, ↓mjn0_b, ↓mjn2_b, iv_lit, iv_add, iv_sub, iv_mul, iv_neg, iv_le_t, iv_le_f, iv_lt_t, iv_lt_f, iv_eq_t, iv_eq_f, iv_div, iv_mod, mretT_p, mretT_b, e_mret, ↓e_bret, ↓m_mon, ↓m_oI0, m_pI0, ↓m_oI3, m_pI3, ↓m_oI5, m_pI5, ↓m_oI7, m_pI7, ↓m_oI11, m_pI11, ↓m_oI12, m_pI12, ↓m_oI13, m_pI13, ↓m_oI14, m_pI14, ↓m_oI15, m_pI15, ↓m_oI16, m_pI16, ↓m_oI17, m_pI17, m_pZ5, m_pZ12, ↓m_oR1, m_aI1, m_sI1, ↓m_oR2, m_aI2, m_sI2, ↓m_oR4, m_aI4, m_sI4, ↓m_oR6, m_aI6, m_sI6, ↓m_oR8, m_aI8, m_sI8, ↓m_oR9, m_aI9, m_sI9, ↓m_oR10, m_aI10, m_sI10, X7_isTable_c, b2_t h1, X7_in_c, b2_t h2, X7_table_c, e_call0 e1, h3]
      · rw [b2_f h3] at e1
        simp (disch := omega) only [↓reduceIte, Int.reduceEq, Int.reduceNe, Int.reduceLT, Int.reduceLE, Int.reduceNeg, Int.reduceMod, Int.reduceDiv, Int.reduceAdd, Int.reduceSub, Int.reduceMul, not_true_eq_false, not_false_eq_true, Int.lt_irrefl, true_or, or_true, false_or, or_false, true_and, and_true, false_and, and_false, b2_T, b2_F, if_true, if_false, ↓mjn_b, ↓mjn0_b, ↓mjn2_b, iv_lit, iv_add, iv_sub, iv_mul, iv_neg, iv_le_t, iv_le_f, iv_lt_t, iv_lt_f, iv_eq_t, iv_eq_f, iv_div, iv_mod, mretT_p, mretT_b, e_mret, ↓e_bret, ↓m_mon, ↓m_oI0, m_pI0, ↓m_oI3, m_pI3, ↓m_oI5, m_pI5, ↓m_oI7, m_pI7, ↓m_oI11, m_pI11, ↓m_oI12, m_pI12, ↓m_oI13, m_pI13, ↓m_oI14, m_pI14, ↓m_oI15, m_pI15, ↓m_oI16, m_pI16, ↓m_oI17, m_pI17, m_pZ5, m_pZ12, ↓m_oR1, m_aI1, m_sI1, ↓m_oR2, m_aI2, m_sI2, ↓m_oR4, m_aI4, m_sI4, ↓m_oR6, m_aI6, m_sI6, ↓m_oR8, m_aI8, m_sI8, ↓m_oR9, m_aI9, m_sI9, ↓m_oR10, m_aI10, m_sI10, X7_isTable_c, b2_t h1, X7_in_c, b2_t h2, X7_table_c, e_call0 e1, h3]
    · rw [if_neg h2]
      refine ⟨M, ?_, qsm_rf, rfl⟩
      simp (disch := omega) only [↓reduceIte, Int.reduceEq, Int.reduceNe, Int.reduceLT, Int.reduceLE, Int.reduceNeg, Int.reduceMod, Int.reduceDiv, Int.reduceAdd, Int.reduceSub, Int.reduceMul, not_true_eq_false, not_false_eq_true, Int.lt_irrefl, true_or, or_true, false_or, or_false, true_and, and_true, false_and, and_false, b2_T, b2_F, if_true, if_false, ↓mjn_b, ↓mjn0_b, ↓mjn2_b, iv_lit, iv_add, iv_sub, iv_mul, iv_neg, iv_le_t, iv_le_f, iv_lt_t, iv_lt_f, iv_eq_t, iv_eq_f, iv_div, iv_mod, mretT_p, mretT_b, e_mret, ↓e_bret, ↓m_mon, ↓m_oI0, m_pI0, ↓m_oI3, m_pI3, ↓m_oI5, m_pI5, ↓m_oI7, m_pI7, ↓m_oI11, m_pI11, ↓m_oI12, m_pI12, ↓m_oI13, m_pI13, ↓m_oI14, m_pI14, ↓m_oI15, m_pI15, ↓m_oI16, m_pI16, ↓m_oI17, m_pI17, m_pZ5, m_pZ12, ↓m_oR1, m_aI1, m_sI1, ↓m_oR2, m_aI2, m_sI2, ↓m_oR4, m_aI4, m_sI4, ↓m_oR6, m_aI6, m_sI6, ↓m_oR8, m_aI8, m_sI8, ↓m_oR9, m_aI9, m_sI9, ↓m_oR10, m_aI10, m_sI10, X7_isTable_c, b2_t h1, X7_in_c, b2_f h2]
  · rw [if_neg (by omega)]
    refine ⟨M, ?_, qsm_rf, rfl⟩
    simp (disch := omega) only [↓reduceIte, Int.reduceEq, Int.reduceNe, Int.reduceLT, Int.reduceLE, Int.reduceNeg, Int.reduceMod, Int.reduceDiv, Int.reduceAdd, Int.reduceSub, Int.reduceMul, not_true_eq_false, not_false_eq_true, Int.lt_irrefl, true_or, or_true, false_or, or_false, true_and, and_true, false_and, and_false, b2_T, b2_F, if_true, if_false, ↓mjn_b, ↓mjn0_b, ↓mjn2_b, iv_lit, iv_add, iv_sub, iv_mul, iv_neg, iv_le_t, iv_le_f, iv_lt_t, iv_lt_f, iv_eq_t, iv_eq_f, iv_div, iv_mod, mretT_p, mretT_b, e_mret, ↓e_bret, ↓m_mon, ↓m_oI0, m_pI0, ↓m_oI3, m_pI3, ↓m_oI5, m_pI5, ↓m_oI7, m_pI7, ↓m_oI11, m_pI11, ↓m_oI12, m_pI12, ↓m_oI13, m_pI13, ↓m_oI14, m_pI14, ↓m_oI15, m_pI15, ↓m_oI16, m_pI16, ↓m_oI17, m_pI17, m_pZ5, m_pZ12, ↓m_oR1, m_aI1, m_sI1, ↓m_oR2, m_aI2, m_sI2, ↓m_oR4, m_aI4, m_sI4, ↓m_oR6, m_aI6, m_sI6, ↓m_oR8, m_aI8, m_sI8, ↓m_oR9, m_aI9, m_sI9, ↓m_oR10, m_aI10, m_sI10, X7_isTable_c, b2_f h1]
theorem X7_does_t {g : Nat → Nat} {h : Nat → Option hC} {n m : Nat} {M : Mm} (hz : wZ (M 1)) {f1 f2 f3 f4 : Int} (hf : frg 116 f1 f2 f3 f4) (hs : M 0 13 = 116) (h1 : M 0 14 = f1) (h2 : M 0 15 = f2) (h3 : M 0 16 = f3) (h4 : M 0 17 = f4) : ∃ (M' : Mm), fX7_does g (some m) (md m M h, n, 0) = some (iv (b2 (dgo (M 1) 116 f1 f2 f3 f4)), (md m M' h, n, 0)) ∧ qsm M M' ∧ zeq (@ite (Int → Int) (dgo (M 1) 116 f1 f2 f3 f4) (Classical.propDecidable _) (dzz (M 1) 116 f1 f2 f3 f4) (M 1)) (M' 1) := by
  obtain ⟨hk, r1, r2, r3, r4⟩ := hf
  unfold pHi at r1
  have h15 := wZ_15 hz
  have h60 := wZ_60 hz
  rw [show dgo (M 1) 116 f1 f2 f3 f4 = (M 1 15 ≠ 10 ∧ pck (zadd (M 1) f1 (16 * f3 + f2) f4) = 0) from rfl, show dzz (M 1) 116 f1 f2 f3 f4 = (zadd (M 1) f1 (16 * f3 + f2) f4) from rfl]
  have hi : inR f2 f3 := by unfold inR; omega
  obtain ⟨M1, r, e1, e2, e3, e4, e5⟩ := X7_noAdd_ev (g := g) (h := h) (n := n) (w := 0) (m := m) (M := M) (k := f1) (x := f2) (y := f3) (u := f4) hz.1 h15.2 (by omega) (by omega) (by omega) (by omega)
  rw [if_pos ⟨by omega, hi, r4⟩] at e5
  have hpr := pck_rg (zadd (M 1) f1 (16 * f3 + f2) f4)
  have q0 : ∀ j : Int, M1 0 j = M 0 j := fun j => by rw [e2 0 (by decide) (by decide) (by decide) (by decide)]
  by_cases hd : M 1 15 ≠ 10 ∧ pck (zadd (M 1) f1 (16 * f3 + f2) f4) = 0
  · rw [if_neg (by omega)] at e5
    subst e5
    obtain ⟨M2, k1, k2, -, k3⟩ := X7_layTable_ev (g := g) (h := h) (n := n) (w := 0) (m := m) (M := M1) (k := f1) (x := f2) (y := f3) (u := f4) (by rw [e4]; omega)
    refine ⟨M2, ?_, qsm_tr e2 k2, ?_⟩
    · rw [b2_t hd]
      unfold fX7_does
      simp only [iv_lit, iv_neg, iv_add, iv_mul, iv_sub, Int.reduceNeg]
      simp (disch := omega) only [↓reduceIte, Int.reduceEq, Int.reduceNe, Int.reduceLT, Int.reduceLE, Int.reduceNeg, Int.reduceMod, Int.reduceDiv, Int.reduceAdd, Int.reduceSub, Int.reduceMul, not_true_eq_false, not_false_eq_true, Int.lt_irrefl, true_or, or_true, false_or, or_false, true_and, and_true, false_and, and_false, b2_T, b2_F, if_true, if_false, ↓mjn_b, ↓mjn0_b, ↓mjn2_b, iv_lit, iv_add, iv_sub, iv_mul, iv_neg, iv_le_t, iv_le_f, iv_lt_t, iv_lt_f, iv_eq_t, iv_eq_f, iv_div, iv_mod, mretT_p, mretT_b, e_mret, ↓e_bret, ↓m_mon, ↓m_oI0, ↓m_pI0, ↓m_oI3, ↓m_pI3, ↓m_oI5, ↓m_pI5, ↓m_oI7, ↓m_pI7, ↓m_oI11, ↓m_pI11, ↓m_oI12, ↓m_pI12, ↓m_oI13, ↓m_pI13, ↓m_oI14, ↓m_pI14, ↓m_oI15, ↓m_pI15, ↓m_oI16, ↓m_pI16, ↓m_oI17, ↓m_pI17, ↓m_pZ5, ↓m_pZ12, ↓m_oR1, ↓m_aI1, ↓m_sI1, ↓m_oR2, ↓m_aI2, ↓m_sI2, ↓m_oR4, ↓m_aI4, ↓m_sI4, ↓m_oR6, ↓m_aI6, ↓m_sI6, ↓m_oR8, ↓m_aI8, ↓m_sI8, ↓m_oR9, ↓m_aI9, ↓m_sI9, ↓m_oR10, ↓m_aI10, ↓m_sI10, ↓e_call0 e1, ↓e_call0 k1, hs, h1, h2, h3, h4, q0]
    · rw [if_pos hd, k3]
      exact zeq_zadd e3 h15 hz.1.2.2.1
  · rw [if_pos (by omega)] at e5
    subst e5
    refine ⟨M1, ?_, e2, ?_⟩
    · rw [b2_f hd]
      unfold fX7_does
      simp only [iv_lit, iv_neg, iv_add, iv_mul, iv_sub, Int.reduceNeg]
      simp (disch := omega) only [↓reduceIte, Int.reduceEq, Int.reduceNe, Int.reduceLT, Int.reduceLE, Int.reduceNeg, Int.reduceMod, Int.reduceDiv, Int.reduceAdd, Int.reduceSub, Int.reduceMul, not_true_eq_false, not_false_eq_true, Int.lt_irrefl, true_or, or_true, false_or, or_false, true_and, and_true, false_and, and_false, b2_T, b2_F, if_true, if_false, ↓mjn_b, ↓mjn0_b, ↓mjn2_b, iv_lit, iv_add, iv_sub, iv_mul, iv_neg, iv_le_t, iv_le_f, iv_lt_t, iv_lt_f, iv_eq_t, iv_eq_f, iv_div, iv_mod, mretT_p, mretT_b, e_mret, ↓e_bret, ↓m_mon, ↓m_oI0, ↓m_pI0, ↓m_oI3, ↓m_pI3, ↓m_oI5, ↓m_pI5, ↓m_oI7, ↓m_pI7, ↓m_oI11, ↓m_pI11, ↓m_oI12, ↓m_pI12, ↓m_oI13, ↓m_pI13, ↓m_oI14, ↓m_pI14, ↓m_oI15, ↓m_pI15, ↓m_oI16, ↓m_pI16, ↓m_oI17, ↓m_pI17, ↓m_pZ5, ↓m_pZ12, ↓m_oR1, ↓m_aI1, ↓m_sI1, ↓m_oR2, ↓m_aI2, ↓m_sI2, ↓m_oR4, ↓m_aI4, ↓m_sI4, ↓m_oR6, ↓m_aI6, ↓m_sI6, ↓m_oR8, ↓m_aI8, ↓m_sI8, ↓m_oR9, ↓m_aI9, ↓m_sI9, ↓m_oR10, ↓m_aI10, ↓m_sI10, ↓e_call0 e1, hs, h1, h2, h3, h4, q0]
    · rw [if_neg hd]; exact e3
theorem X7_does_m {g : Nat → Nat} {h : Nat → Option hC} {n m : Nat} {M : Mm} (hz : wZ (M 1)) {f1 f2 f3 f4 : Int} (hf : frg 109 f1 f2 f3 f4) (hs : M 0 13 = 109) (h1 : M 0 14 = f1) (h2 : M 0 15 = f2) (h3 : M 0 16 = f3) : ∃ (M' : Mm), fX7_does g (some m) (md m M h, n, 0) = some (iv (b2 (dgo (M 1) 109 f1 f2 f3 f4)), (md m M' h, n, 0)) ∧ qsm M M' ∧ zeq (@ite (Int → Int) (dgo (M 1) 109 f1 f2 f3 f4) (Classical.propDecidable _) (dzz (M 1) 109 f1 f2 f3 f4) (M 1)) (M' 1) := by
  obtain ⟨hk, r1, r2, r3, r4⟩ := hf
  unfold pHi at r1
  have h15 := wZ_15 hz
  have h60 := wZ_60 hz
  rw [show dgo (M 1) 109 f1 f2 f3 f4 = (f1 < M 1 15 ∧ pck (zset (M 1) f1 (16 * f3 + f2) (zt (M 1) f1)) = 0) from rfl, show dzz (M 1) 109 f1 f2 f3 f4 = (zset (M 1) f1 (16 * f3 + f2) (zt (M 1) f1)) from rfl]
  have hi : inR f2 f3 := by unfold inR; omega
  obtain ⟨M1, e1, e2, e3⟩ := X7_noMove_ev (g := g) (h := h) (n := n) (w := 0) (m := m) (M := M) (t := f1) (x := f2) (y := f3) hz (by omega) (by omega) (by omega)
  have q0 : ∀ j : Int, M1 0 j = M 0 j := fun j => by rw [e2 0 (by decide) (by decide) (by decide) (by decide)]
  by_cases ht : f1 < M 1 15
  · rw [if_pos ⟨r1.1, ht⟩, if_pos hi] at e1
    by_cases hd : pck (zset (M 1) f1 (16 * f3 + f2) (zt (M 1) f1)) = 0
    · rw [if_pos hd] at e1
      refine ⟨mu M1 1 (16 + 4 * f1 + 1) (16 * f3 + f2), ?_, fun b b1 b8 b9 b10 => by rw [mu_ob b1, e2 b b1 b8 b9 b10], ?_⟩
      · rw [b2_t ⟨ht, hd⟩]
        unfold fX7_does
        simp only [iv_lit, iv_neg, iv_add, iv_mul, iv_sub, Int.reduceNeg]
        simp (disch := omega) only [↓reduceIte, Int.reduceEq, Int.reduceNe, Int.reduceLT, Int.reduceLE, Int.reduceNeg, Int.reduceMod, Int.reduceDiv, Int.reduceAdd, Int.reduceSub, Int.reduceMul, not_true_eq_false, not_false_eq_true, Int.lt_irrefl, true_or, or_true, false_or, or_false, true_and, and_true, false_and, and_false, b2_T, b2_F, if_true, if_false, ↓mjn_b, ↓mjn0_b, ↓mjn2_b, iv_lit, iv_add, iv_sub, iv_mul, iv_neg, iv_le_t, iv_le_f, iv_lt_t, iv_lt_f, iv_eq_t, iv_eq_f, iv_div, iv_mod, mretT_p, mretT_b, e_mret, ↓e_bret, ↓m_mon, ↓m_oI0, ↓m_pI0, ↓m_oI3, ↓m_pI3, ↓m_oI5, ↓m_pI5, ↓m_oI7, ↓m_pI7, ↓m_oI11, ↓m_pI11, ↓m_oI12, ↓m_pI12, ↓m_oI13, ↓m_pI13, ↓m_oI14, ↓m_pI14, ↓m_oI15, ↓m_pI15, ↓m_oI16, ↓m_pI16, ↓m_oI17, ↓m_pI17, ↓m_pZ5, ↓m_pZ12, ↓m_oR1, ↓m_aI1, ↓m_sI1, ↓m_oR2, ↓m_aI2, ↓m_sI2, ↓m_oR4, ↓m_aI4, ↓m_sI4, ↓m_oR6, ↓m_aI6, ↓m_sI6, ↓m_oR8, ↓m_aI8, ↓m_sI8, ↓m_oR9, ↓m_aI9, ↓m_sI9, ↓m_oR10, ↓m_aI10, ↓m_sI10, ↓e_call0 e1, ↓X7_setTable_c, hs, h1, h2, q0, h3]
      · rw [if_pos ⟨ht, hd⟩, mu_iu, e3, zset_p]
        exact zeq_rf
    · rw [if_neg hd] at e1
      refine ⟨M1, ?_, e2, ?_⟩
      · rw [b2_f (fun q => hd q.2)]
        unfold fX7_does
        simp only [iv_lit, iv_neg, iv_add, iv_mul, iv_sub, Int.reduceNeg]
        simp (disch := omega) only [↓reduceIte, Int.reduceEq, Int.reduceNe, Int.reduceLT, Int.reduceLE, Int.reduceNeg, Int.reduceMod, Int.reduceDiv, Int.reduceAdd, Int.reduceSub, Int.reduceMul, not_true_eq_false, not_false_eq_true, Int.lt_irrefl, true_or, or_true, false_or, or_false, true_and, and_true, false_and, and_false, b2_T, b2_F, if_true, if_false, ↓mjn_b, ↓mjn0_b, ↓mjn2_b, iv_lit, iv_add, iv_sub, iv_mul, iv_neg, iv_le_t, iv_le_f, iv_lt_t, iv_lt_f, iv_eq_t, iv_eq_f, iv_div, iv_mod, mretT_p, mretT_b, e_mret, ↓e_bret, ↓m_mon, ↓m_oI0, ↓m_pI0, ↓m_oI3, ↓m_pI3, ↓m_oI5, ↓m_pI5, ↓m_oI7, ↓m_pI7, ↓m_oI11, ↓m_pI11, ↓m_oI12, ↓m_pI12, ↓m_oI13, ↓m_pI13, ↓m_oI14, ↓m_pI14, ↓m_oI15, ↓m_pI15, ↓m_oI16, ↓m_pI16, ↓m_oI17, ↓m_pI17, ↓m_pZ5, ↓m_pZ12, ↓m_oR1, ↓m_aI1, ↓m_sI1, ↓m_oR2, ↓m_aI2, ↓m_sI2, ↓m_oR4, ↓m_aI4, ↓m_sI4, ↓m_oR6, ↓m_aI6, ↓m_sI6, ↓m_oR8, ↓m_aI8, ↓m_sI8, ↓m_oR9, ↓m_aI9, ↓m_sI9, ↓m_oR10, ↓m_aI10, ↓m_sI10, ↓e_call0 e1, hs, h1, h2, q0, h3]
      · rw [if_neg (fun q => hd q.2), e3]; exact zeq_rf
  · rw [if_neg (fun q => ht q.2)] at e1
    refine ⟨M1, ?_, e2, ?_⟩
    · rw [b2_f (fun q => ht q.1)]
      unfold fX7_does
      simp only [iv_lit, iv_neg, iv_add, iv_mul, iv_sub, Int.reduceNeg]
      simp (disch := omega) only [↓reduceIte, Int.reduceEq, Int.reduceNe, Int.reduceLT, Int.reduceLE, Int.reduceNeg, Int.reduceMod, Int.reduceDiv, Int.reduceAdd, Int.reduceSub, Int.reduceMul, not_true_eq_false, not_false_eq_true, Int.lt_irrefl, true_or, or_true, false_or, or_false, true_and, and_true, false_and, and_false, b2_T, b2_F, if_true, if_false, ↓mjn_b, ↓mjn0_b, ↓mjn2_b, iv_lit, iv_add, iv_sub, iv_mul, iv_neg, iv_le_t, iv_le_f, iv_lt_t, iv_lt_f, iv_eq_t, iv_eq_f, iv_div, iv_mod, mretT_p, mretT_b, e_mret, ↓e_bret, ↓m_mon, ↓m_oI0, ↓m_pI0, ↓m_oI3, ↓m_pI3, ↓m_oI5, ↓m_pI5, ↓m_oI7, ↓m_pI7, ↓m_oI11, ↓m_pI11, ↓m_oI12, ↓m_pI12, ↓m_oI13, ↓m_pI13, ↓m_oI14, ↓m_pI14, ↓m_oI15, ↓m_pI15, ↓m_oI16, ↓m_pI16, ↓m_oI17, ↓m_pI17, ↓m_pZ5, ↓m_pZ12, ↓m_oR1, ↓m_aI1, ↓m_sI1, ↓m_oR2, ↓m_aI2, ↓m_sI2, ↓m_oR4, ↓m_aI4, ↓m_sI4, ↓m_oR6, ↓m_aI6, ↓m_sI6, ↓m_oR8, ↓m_aI8, ↓m_sI8, ↓m_oR9, ↓m_aI9, ↓m_sI9, ↓m_oR10, ↓m_aI10, ↓m_sI10, ↓e_call0 e1, hs, h1, h2, q0, h3]
    · rw [if_neg (fun q => ht q.1), e3]; exact zeq_rf
theorem X7_does_r {g : Nat → Nat} {h : Nat → Option hC} {n m : Nat} {M : Mm} (hz : wZ (M 1)) {f1 f2 f3 f4 : Int} (hf : frg 114 f1 f2 f3 f4) (hs : M 0 13 = 114) (h1 : M 0 14 = f1) (h2 : M 0 15 = f2) : ∃ (M' : Mm), fX7_does g (some m) (md m M h, n, 0) = some (iv (b2 (dgo (M 1) 114 f1 f2 f3 f4)), (md m M' h, n, 0)) ∧ qsm M M' ∧ zeq (@ite (Int → Int) (dgo (M 1) 114 f1 f2 f3 f4) (Classical.propDecidable _) (dzz (M 1) 114 f1 f2 f3 f4) (M 1)) (M' 1) := by
  obtain ⟨hk, r1, r2, r3, r4⟩ := hf
  unfold pHi at r1
  have h15 := wZ_15 hz
  have h60 := wZ_60 hz
  rw [show dgo (M 1) 114 f1 f2 f3 f4 = (f1 < M 1 15 ∧ pck (zset (M 1) f1 (zp (M 1) f1) f2) = 0) from rfl, show dzz (M 1) 114 f1 f2 f3 f4 = (zset (M 1) f1 (zp (M 1) f1) f2) from rfl]
  have hi : 0 ≤ f2 ∧ f2 ≤ 3 := by omega
  obtain ⟨M1, e1, e2, e3⟩ := X7_noTurn_ev (g := g) (h := h) (n := n) (w := 0) (m := m) (M := M) (t := f1) (u := f2) hz (by omega) (by omega)
  have q0 : ∀ j : Int, M1 0 j = M 0 j := fun j => by rw [e2 0 (by decide) (by decide) (by decide) (by decide)]
  by_cases ht : f1 < M 1 15
  · rw [if_pos ⟨r1.1, ht⟩, if_pos hi] at e1
    by_cases hd : pck (zset (M 1) f1 (zp (M 1) f1) f2) = 0
    · rw [if_pos hd] at e1
      refine ⟨mu M1 1 (16 + 4 * f1 + 2) f2, ?_, fun b b1 b8 b9 b10 => by rw [mu_ob b1, e2 b b1 b8 b9 b10], ?_⟩
      · rw [b2_t ⟨ht, hd⟩]
        unfold fX7_does
        simp only [iv_lit, iv_neg, iv_add, iv_mul, iv_sub, Int.reduceNeg]
        simp (disch := omega) only [↓reduceIte, Int.reduceEq, Int.reduceNe, Int.reduceLT, Int.reduceLE, Int.reduceNeg, Int.reduceMod, Int.reduceDiv, Int.reduceAdd, Int.reduceSub, Int.reduceMul, not_true_eq_false, not_false_eq_true, Int.lt_irrefl, true_or, or_true, false_or, or_false, true_and, and_true, false_and, and_false, b2_T, b2_F, if_true, if_false, ↓mjn_b, ↓mjn0_b, ↓mjn2_b, iv_lit, iv_add, iv_sub, iv_mul, iv_neg, iv_le_t, iv_le_f, iv_lt_t, iv_lt_f, iv_eq_t, iv_eq_f, iv_div, iv_mod, mretT_p, mretT_b, e_mret, ↓e_bret, ↓m_mon, ↓m_oI0, ↓m_pI0, ↓m_oI3, ↓m_pI3, ↓m_oI5, ↓m_pI5, ↓m_oI7, ↓m_pI7, ↓m_oI11, ↓m_pI11, ↓m_oI12, ↓m_pI12, ↓m_oI13, ↓m_pI13, ↓m_oI14, ↓m_pI14, ↓m_oI15, ↓m_pI15, ↓m_oI16, ↓m_pI16, ↓m_oI17, ↓m_pI17, ↓m_pZ5, ↓m_pZ12, ↓m_oR1, ↓m_aI1, ↓m_sI1, ↓m_oR2, ↓m_aI2, ↓m_sI2, ↓m_oR4, ↓m_aI4, ↓m_sI4, ↓m_oR6, ↓m_aI6, ↓m_sI6, ↓m_oR8, ↓m_aI8, ↓m_sI8, ↓m_oR9, ↓m_aI9, ↓m_sI9, ↓m_oR10, ↓m_aI10, ↓m_sI10, ↓e_call0 e1, ↓X7_setTable_c, hs, h1, h2, q0]
      · rw [if_pos ⟨ht, hd⟩, mu_iu, e3, zset_u]
        exact zeq_rf
    · rw [if_neg hd] at e1
      refine ⟨M1, ?_, e2, ?_⟩
      · rw [b2_f (fun q => hd q.2)]
        unfold fX7_does
        simp only [iv_lit, iv_neg, iv_add, iv_mul, iv_sub, Int.reduceNeg]
        simp (disch := omega) only [↓reduceIte, Int.reduceEq, Int.reduceNe, Int.reduceLT, Int.reduceLE, Int.reduceNeg, Int.reduceMod, Int.reduceDiv, Int.reduceAdd, Int.reduceSub, Int.reduceMul, not_true_eq_false, not_false_eq_true, Int.lt_irrefl, true_or, or_true, false_or, or_false, true_and, and_true, false_and, and_false, b2_T, b2_F, if_true, if_false, ↓mjn_b, ↓mjn0_b, ↓mjn2_b, iv_lit, iv_add, iv_sub, iv_mul, iv_neg, iv_le_t, iv_le_f, iv_lt_t, iv_lt_f, iv_eq_t, iv_eq_f, iv_div, iv_mod, mretT_p, mretT_b, e_mret, ↓e_bret, ↓m_mon, ↓m_oI0, ↓m_pI0, ↓m_oI3, ↓m_pI3, ↓m_oI5, ↓m_pI5, ↓m_oI7, ↓m_pI7, ↓m_oI11, ↓m_pI11, ↓m_oI12, ↓m_pI12, ↓m_oI13, ↓m_pI13, ↓m_oI14, ↓m_pI14, ↓m_oI15, ↓m_pI15, ↓m_oI16, ↓m_pI16, ↓m_oI17, ↓m_pI17, ↓m_pZ5, ↓m_pZ12, ↓m_oR1, ↓m_aI1, ↓m_sI1, ↓m_oR2, ↓m_aI2, ↓m_sI2, ↓m_oR4, ↓m_aI4, ↓m_sI4, ↓m_oR6, ↓m_aI6, ↓m_sI6, ↓m_oR8, ↓m_aI8, ↓m_sI8, ↓m_oR9, ↓m_aI9, ↓m_sI9, ↓m_oR10, ↓m_aI10, ↓m_sI10, ↓e_call0 e1, hs, h1, h2, q0]
      · rw [if_neg (fun q => hd q.2), e3]; exact zeq_rf
  · rw [if_neg (fun q => ht q.2)] at e1
    refine ⟨M1, ?_, e2, ?_⟩
    · rw [b2_f (fun q => ht q.1)]
      unfold fX7_does
      simp only [iv_lit, iv_neg, iv_add, iv_mul, iv_sub, Int.reduceNeg]
      simp (disch := omega) only [↓reduceIte, Int.reduceEq, Int.reduceNe, Int.reduceLT, Int.reduceLE, Int.reduceNeg, Int.reduceMod, Int.reduceDiv, Int.reduceAdd, Int.reduceSub, Int.reduceMul, not_true_eq_false, not_false_eq_true, Int.lt_irrefl, true_or, or_true, false_or, or_false, true_and, and_true, false_and, and_false, b2_T, b2_F, if_true, if_false, ↓mjn_b, ↓mjn0_b, ↓mjn2_b, iv_lit, iv_add, iv_sub, iv_mul, iv_neg, iv_le_t, iv_le_f, iv_lt_t, iv_lt_f, iv_eq_t, iv_eq_f, iv_div, iv_mod, mretT_p, mretT_b, e_mret, ↓e_bret, ↓m_mon, ↓m_oI0, ↓m_pI0, ↓m_oI3, ↓m_pI3, ↓m_oI5, ↓m_pI5, ↓m_oI7, ↓m_pI7, ↓m_oI11, ↓m_pI11, ↓m_oI12, ↓m_pI12, ↓m_oI13, ↓m_pI13, ↓m_oI14, ↓m_pI14, ↓m_oI15, ↓m_pI15, ↓m_oI16, ↓m_pI16, ↓m_oI17, ↓m_pI17, ↓m_pZ5, ↓m_pZ12, ↓m_oR1, ↓m_aI1, ↓m_sI1, ↓m_oR2, ↓m_aI2, ↓m_sI2, ↓m_oR4, ↓m_aI4, ↓m_sI4, ↓m_oR6, ↓m_aI6, ↓m_sI6, ↓m_oR8, ↓m_aI8, ↓m_sI8, ↓m_oR9, ↓m_aI9, ↓m_sI9, ↓m_oR10, ↓m_aI10, ↓m_sI10, ↓e_call0 e1, hs, h1, h2, q0]
    · rw [if_neg (fun q => ht q.1), e3]; exact zeq_rf
theorem X7_does_p {g : Nat → Nat} {h : Nat → Option hC} {n m : Nat} {M : Mm} (hz : wZ (M 1)) {f1 f2 f3 f4 : Int} (hf : frg 112 f1 f2 f3 f4) (hs : M 0 13 = 112) (h1 : M 0 14 = f1) (h2 : M 0 15 = f2) : ∃ (M' : Mm), fX7_does g (some m) (md m M h, n, 0) = some (iv (b2 (dgo (M 1) 112 f1 f2 f3 f4)), (md m M' h, n, 0)) ∧ qsm M M' ∧ zeq (@ite (Int → Int) (dgo (M 1) 112 f1 f2 f3 f4) (Classical.propDecidable _) (dzz (M 1) 112 f1 f2 f3 f4) (M 1)) (M' 1) := by
  obtain ⟨hk, r1, r2, r3, r4⟩ := hf
  unfold pHi at r1
  have h15 := wZ_15 hz
  have h60 := wZ_60 hz
  rw [show dgo (M 1) 112 f1 f2 f3 f4 = (plat (M 1) (16 * f2 + f1) = -1 → npl (M 1) (16 * f2 + f1) = 0) from rfl, show dzz (M 1) 112 f1 f2 f3 f4 = (ztp (M 1) (16 * f2 + f1)) from rfl]
  have hi : inR f1 f2 := by unfold inR; omega
  have h2z := hz.1.2.2.1
  have hpl := plat_rg h2z.1 (16 * f2 + f1)
  obtain ⟨M1, r, e1, e2, e3, e5⟩ := X7_noTurnPillar_ev (g := g) (h := h) (n := n) (w := 0) (m := m) (M := M) (x := f1) (y := f2) hz.1 (by omega) (by omega)
  rw [if_pos hi] at e5
  have q0 : ∀ j : Int, M1 0 j = M 0 j := fun j => by rw [e2 0 (by decide) (by decide) (by decide) (by decide)]
  have hnr : 0 ≤ npl (M 1) (16 * f2 + f1) ∧ npl (M 1) (16 * f2 + f1) ≤ 3 := by
    unfold npl
    split
    · omega
    · exact pck_rg _
  have z2 := (zeq_0 e3).2.2.1
  by_cases hd : plat (M 1) (16 * f2 + f1) = -1 → npl (M 1) (16 * f2 + f1) = 0
  · rw [if_neg (fun q => by have := hd q.1; omega)] at e5
    subst e5
    have hlt : plat (M 1) (16 * f2 + f1) = -1 → M 1 2 < 12 := fun q => by
      have := hd q
      refine Classical.byContradiction (fun w => ?_)
      unfold npl at this
      rw [if_pos (by omega)] at this
      omega
    obtain ⟨M2, k1, k2, k3⟩ := X7_turnsPillar_ev (g := g) (h := h) (n := n) (w := 0) (m := m) (M := M1) (c := 16 * f2 + f1) (wH_zeq e3 hz.1) (by omega) (by rw [zeq_plat e3, z2]; exact hlt)
    rw [zeq_plat e3] at k1
    refine ⟨M2, ?_, fun b b1 b8 b9 b10 => by rw [k2 b b1, e2 b b1 b8 b9 b10], ?_⟩
    · rw [b2_t hd]
      unfold fX7_does
      by_cases hp : plat (M 1) (16 * f2 + f1) = -1
      · rw [b2_t hp] at k1
        simp only [iv_lit, iv_neg, iv_add, iv_mul, iv_sub, Int.reduceNeg]
        simp (disch := omega) only [↓reduceIte, Int.reduceEq, Int.reduceNe, Int.reduceLT, Int.reduceLE, Int.reduceNeg, Int.reduceMod, Int.reduceDiv, Int.reduceAdd, Int.reduceSub, Int.reduceMul, not_true_eq_false, not_false_eq_true, Int.lt_irrefl, true_or, or_true, false_or, or_false, true_and, and_true, false_and, and_false, b2_T, b2_F, if_true, if_false, ↓mjn_b, ↓mjn0_b, ↓mjn2_b, iv_lit, iv_add, iv_sub, iv_mul, iv_neg, iv_le_t, iv_le_f, iv_lt_t, iv_lt_f, iv_eq_t, iv_eq_f, iv_div, iv_mod, mretT_p, mretT_b, e_mret, ↓e_bret, ↓m_mon, ↓m_oI0, ↓m_pI0, ↓m_oI3, ↓m_pI3, ↓m_oI5, ↓m_pI5, ↓m_oI7, ↓m_pI7, ↓m_oI11, ↓m_pI11, ↓m_oI12, ↓m_pI12, ↓m_oI13, ↓m_pI13, ↓m_oI14, ↓m_pI14, ↓m_oI15, ↓m_pI15, ↓m_oI16, ↓m_pI16, ↓m_oI17, ↓m_pI17, ↓m_pZ5, ↓m_pZ12, ↓m_oR1, ↓m_aI1, ↓m_sI1, ↓m_oR2, ↓m_aI2, ↓m_sI2, ↓m_oR4, ↓m_aI4, ↓m_sI4, ↓m_oR6, ↓m_aI6, ↓m_sI6, ↓m_oR8, ↓m_aI8, ↓m_sI8, ↓m_oR9, ↓m_aI9, ↓m_sI9, ↓m_oR10, ↓m_aI10, ↓m_sI10, ↓e_call0 e1, ↓e_call0 k1, hs, h1, h2, q0]
      · rw [b2_f hp] at k1
        simp only [iv_lit, iv_neg, iv_add, iv_mul, iv_sub, Int.reduceNeg]
        simp (disch := omega) only [↓reduceIte, Int.reduceEq, Int.reduceNe, Int.reduceLT, Int.reduceLE, Int.reduceNeg, Int.reduceMod, Int.reduceDiv, Int.reduceAdd, Int.reduceSub, Int.reduceMul, not_true_eq_false, not_false_eq_true, Int.lt_irrefl, true_or, or_true, false_or, or_false, true_and, and_true, false_and, and_false, b2_T, b2_F, if_true, if_false, ↓mjn_b, ↓mjn0_b, ↓mjn2_b, iv_lit, iv_add, iv_sub, iv_mul, iv_neg, iv_le_t, iv_le_f, iv_lt_t, iv_lt_f, iv_eq_t, iv_eq_f, iv_div, iv_mod, mretT_p, mretT_b, e_mret, ↓e_bret, ↓m_mon, ↓m_oI0, ↓m_pI0, ↓m_oI3, ↓m_pI3, ↓m_oI5, ↓m_pI5, ↓m_oI7, ↓m_pI7, ↓m_oI11, ↓m_pI11, ↓m_oI12, ↓m_pI12, ↓m_oI13, ↓m_pI13, ↓m_oI14, ↓m_pI14, ↓m_oI15, ↓m_pI15, ↓m_oI16, ↓m_pI16, ↓m_oI17, ↓m_pI17, ↓m_pZ5, ↓m_pZ12, ↓m_oR1, ↓m_aI1, ↓m_sI1, ↓m_oR2, ↓m_aI2, ↓m_sI2, ↓m_oR4, ↓m_aI4, ↓m_sI4, ↓m_oR6, ↓m_aI6, ↓m_sI6, ↓m_oR8, ↓m_aI8, ↓m_sI8, ↓m_oR9, ↓m_aI9, ↓m_sI9, ↓m_oR10, ↓m_aI10, ↓m_sI10, ↓e_call0 e1, ↓e_call0 k1, hs, h1, h2, q0]
    · rw [if_pos hd, k3]
      exact zeq_ztp e3 h2z hlt
  · have hd2 : plat (M 1) (16 * f2 + f1) = -1 ∧ 0 < npl (M 1) (16 * f2 + f1) := by
      refine Classical.byContradiction (fun q => hd (fun a => ?_))
      refine Classical.byContradiction (fun b => q ⟨a, by omega⟩)
    rw [if_pos hd2] at e5
    subst e5
    refine ⟨M1, ?_, e2, ?_⟩
    · rw [b2_f hd]
      unfold fX7_does
      simp only [iv_lit, iv_neg, iv_add, iv_mul, iv_sub, Int.reduceNeg]
      simp (disch := omega) only [↓reduceIte, Int.reduceEq, Int.reduceNe, Int.reduceLT, Int.reduceLE, Int.reduceNeg, Int.reduceMod, Int.reduceDiv, Int.reduceAdd, Int.reduceSub, Int.reduceMul, not_true_eq_false, not_false_eq_true, Int.lt_irrefl, true_or, or_true, false_or, or_false, true_and, and_true, false_and, and_false, b2_T, b2_F, if_true, if_false, ↓mjn_b, ↓mjn0_b, ↓mjn2_b, iv_lit, iv_add, iv_sub, iv_mul, iv_neg, iv_le_t, iv_le_f, iv_lt_t, iv_lt_f, iv_eq_t, iv_eq_f, iv_div, iv_mod, mretT_p, mretT_b, e_mret, ↓e_bret, ↓m_mon, ↓m_oI0, ↓m_pI0, ↓m_oI3, ↓m_pI3, ↓m_oI5, ↓m_pI5, ↓m_oI7, ↓m_pI7, ↓m_oI11, ↓m_pI11, ↓m_oI12, ↓m_pI12, ↓m_oI13, ↓m_pI13, ↓m_oI14, ↓m_pI14, ↓m_oI15, ↓m_pI15, ↓m_oI16, ↓m_pI16, ↓m_oI17, ↓m_pI17, ↓m_pZ5, ↓m_pZ12, ↓m_oR1, ↓m_aI1, ↓m_sI1, ↓m_oR2, ↓m_aI2, ↓m_sI2, ↓m_oR4, ↓m_aI4, ↓m_sI4, ↓m_oR6, ↓m_aI6, ↓m_sI6, ↓m_oR8, ↓m_aI8, ↓m_sI8, ↓m_oR9, ↓m_aI9, ↓m_sI9, ↓m_oR10, ↓m_aI10, ↓m_sI10, ↓e_call0 e1, hs, h1, h2, q0]
    · rw [if_neg hd]; exact e3
theorem X7_does_s {g : Nat → Nat} {h : Nat → Option hC} {n m : Nat} {M : Mm} (hz : wZ (M 1)) {f1 f2 f3 f4 : Int} (hf : frg 115 f1 f2 f3 f4) (hs : M 0 13 = 115) (h1 : M 0 14 = f1) (h2 : M 0 15 = f2) (h3 : M 0 16 = f3) : ∃ (M' : Mm), fX7_does g (some m) (md m M h, n, 0) = some (iv (b2 (dgo (M 1) 115 f1 f2 f3 f4)), (md m M' h, n, 0)) ∧ qsm M M' ∧ zeq (@ite (Int → Int) (dgo (M 1) 115 f1 f2 f3 f4) (Classical.propDecidable _) (dzz (M 1) 115 f1 f2 f3 f4) (M 1)) (M' 1) := by
  obtain ⟨hk, r1, r2, r3, r4⟩ := hf
  unfold pHi at r1
  have h15 := wZ_15 hz
  have h60 := wZ_60 hz
  rw [show dgo (M 1) 115 f1 f2 f3 f4 = (f1 < M 1 60 ∧ (f2 < M 1 15 ∧ f3 < chN (zk (M 1) f2)) ∧ nse (M 1) f1 f2 f3 = 0) from rfl, show dzz (M 1) 115 f1 f2 f3 f4 = (zput (M 1) f1 f2 f3) from rfl]
  by_cases hg : f1 < M 1 60
  · have hx : 0 ≤ f1 ∧ f1 < M 1 60 := ⟨r1.1, hg⟩
    have hgt : 0 ≤ f1 ∧ f1 ≤ M 1 60 - 1 := by omega
    by_cases hc : isCh (M 1) f2 f3
    · have hc2 := hc
      unfold isCh at hc2
      have hcn := chN_rg (zk (M 1) f2)
      have hnr := nse_rg (z := M 1) (g := f1) (t := f2) (c := f3)
      have en := X7_noSeat_ev (g := g) (h := h) (n := n) (w := 0) (m := m) hz hx hc2.1 (c := f3) (by omega)
      by_cases hn : nse (M 1) f1 f2 f3 = 0
      · have hd : f1 < M 1 60 ∧ (f2 < M 1 15 ∧ f3 < chN (zk (M 1) f2)) ∧ nse (M 1) f1 f2 f3 = 0 := ⟨hg, ⟨hc2.1.2, hc2.2.2⟩, hn⟩
        have ep := X7_put_ev (g := g) (h := h) (n := n) (w := 0) (m := m) (M := M) (x := f1) (t := f2) (c := f3) (by omega)
        refine ⟨mu (mu M 1 (61 + 18 * f1 + 1) f2) 1 (61 + 18 * f1 + 2) f3, ?_, fun b b1 b8 b9 b10 => by rw [mu_ob b1, mu_ob b1], ?_⟩
        rotate_left
        · rw [if_pos hd, mu_put]; exact zeq_rf
        · rw [b2_t hd]
          unfold fX7_does
          simp only [iv_lit, iv_neg, iv_add, iv_mul, iv_sub, Int.reduceNeg]
          simp (disch := omega) only [↓reduceIte, Int.reduceEq, Int.reduceNe, Int.reduceLT, Int.reduceLE, Int.reduceNeg, Int.reduceMod, Int.reduceDiv, Int.reduceAdd, Int.reduceSub, Int.reduceMul, not_true_eq_false, not_false_eq_true, Int.lt_irrefl, true_or, or_true, false_or, or_false, true_and, and_true, false_and, and_false, b2_T, b2_F, if_true, if_false, ↓mjn_b, ↓mjn0_b, ↓mjn2_b, iv_lit, iv_add, iv_sub, iv_mul, iv_neg, iv_le_t, iv_le_f, iv_lt_t, iv_lt_f, iv_eq_t, iv_eq_f, iv_div, iv_mod, mretT_p, mretT_b, e_mret, ↓e_bret, ↓m_mon, ↓m_oI0, ↓m_pI0, ↓m_oI3, ↓m_pI3, ↓m_oI5, ↓m_pI5, ↓m_oI7, ↓m_pI7, ↓m_oI11, ↓m_pI11, ↓m_oI12, ↓m_pI12, ↓m_oI13, ↓m_pI13, ↓m_oI14, ↓m_pI14, ↓m_oI15, ↓m_pI15, ↓m_oI16, ↓m_pI16, ↓m_oI17, ↓m_pI17, ↓m_pZ5, ↓m_pZ12, ↓m_oR1, ↓m_aI1, ↓m_sI1, ↓m_oR2, ↓m_aI2, ↓m_sI2, ↓m_oR4, ↓m_aI4, ↓m_sI4, ↓m_oR6, ↓m_aI6, ↓m_sI6, ↓m_oR8, ↓m_aI8, ↓m_sI8, ↓m_oR9, ↓m_aI9, ↓m_sI9, ↓m_oR10, ↓m_aI10, ↓m_sI10, ↓X7_isGuest_c, ↓X7_isChair_c hz, ↓e_call0 en, ↓e_call0 ep, hs, h1, h2, h3, b2_t hgt, b2_t hc, hn]
      · refine ⟨M, ?_, qsm_rf, ?_⟩
        · rw [b2_f (fun q => hn q.2.2)]
          unfold fX7_does
          simp only [iv_lit, iv_neg, iv_add, iv_mul, iv_sub, Int.reduceNeg]
          simp (disch := omega) only [↓reduceIte, Int.reduceEq, Int.reduceNe, Int.reduceLT, Int.reduceLE, Int.reduceNeg, Int.reduceMod, Int.reduceDiv, Int.reduceAdd, Int.reduceSub, Int.reduceMul, not_true_eq_false, not_false_eq_true, Int.lt_irrefl, true_or, or_true, false_or, or_false, true_and, and_true, false_and, and_false, b2_T, b2_F, if_true, if_false, ↓mjn_b, ↓mjn0_b, ↓mjn2_b, iv_lit, iv_add, iv_sub, iv_mul, iv_neg, iv_le_t, iv_le_f, iv_lt_t, iv_lt_f, iv_eq_t, iv_eq_f, iv_div, iv_mod, mretT_p, mretT_b, e_mret, ↓e_bret, ↓m_mon, ↓m_oI0, ↓m_pI0, ↓m_oI3, ↓m_pI3, ↓m_oI5, ↓m_pI5, ↓m_oI7, ↓m_pI7, ↓m_oI11, ↓m_pI11, ↓m_oI12, ↓m_pI12, ↓m_oI13, ↓m_pI13, ↓m_oI14, ↓m_pI14, ↓m_oI15, ↓m_pI15, ↓m_oI16, ↓m_pI16, ↓m_oI17, ↓m_pI17, ↓m_pZ5, ↓m_pZ12, ↓m_oR1, ↓m_aI1, ↓m_sI1, ↓m_oR2, ↓m_aI2, ↓m_sI2, ↓m_oR4, ↓m_aI4, ↓m_sI4, ↓m_oR6, ↓m_aI6, ↓m_sI6, ↓m_oR8, ↓m_aI8, ↓m_sI8, ↓m_oR9, ↓m_aI9, ↓m_sI9, ↓m_oR10, ↓m_aI10, ↓m_sI10, ↓X7_isGuest_c, ↓X7_isChair_c hz, ↓e_call0 en, hs, h1, h2, h3, b2_t hgt, b2_t hc]
        · rw [if_neg (fun q => hn q.2.2)]; exact zeq_rf
    · have hd : ¬ (f1 < M 1 60 ∧ (f2 < M 1 15 ∧ f3 < chN (zk (M 1) f2)) ∧ nse (M 1) f1 f2 f3 = 0) := fun q => hc ⟨⟨by omega, q.2.1.1⟩, by omega, q.2.1.2⟩
      refine ⟨M, ?_, qsm_rf, ?_⟩
      · rw [b2_f hd]
        unfold fX7_does
        simp only [iv_lit, iv_neg, iv_add, iv_mul, iv_sub, Int.reduceNeg]
        simp (disch := omega) only [↓reduceIte, Int.reduceEq, Int.reduceNe, Int.reduceLT, Int.reduceLE, Int.reduceNeg, Int.reduceMod, Int.reduceDiv, Int.reduceAdd, Int.reduceSub, Int.reduceMul, not_true_eq_false, not_false_eq_true, Int.lt_irrefl, true_or, or_true, false_or, or_false, true_and, and_true, false_and, and_false, b2_T, b2_F, if_true, if_false, ↓mjn_b, ↓mjn0_b, ↓mjn2_b, iv_lit, iv_add, iv_sub, iv_mul, iv_neg, iv_le_t, iv_le_f, iv_lt_t, iv_lt_f, iv_eq_t, iv_eq_f, iv_div, iv_mod, mretT_p, mretT_b, e_mret, ↓e_bret, ↓m_mon, ↓m_oI0, ↓m_pI0, ↓m_oI3, ↓m_pI3, ↓m_oI5, ↓m_pI5, ↓m_oI7, ↓m_pI7, ↓m_oI11, ↓m_pI11, ↓m_oI12, ↓m_pI12, ↓m_oI13, ↓m_pI13, ↓m_oI14, ↓m_pI14, ↓m_oI15, ↓m_pI15, ↓m_oI16, ↓m_pI16, ↓m_oI17, ↓m_pI17, ↓m_pZ5, ↓m_pZ12, ↓m_oR1, ↓m_aI1, ↓m_sI1, ↓m_oR2, ↓m_aI2, ↓m_sI2, ↓m_oR4, ↓m_aI4, ↓m_sI4, ↓m_oR6, ↓m_aI6, ↓m_sI6, ↓m_oR8, ↓m_aI8, ↓m_sI8, ↓m_oR9, ↓m_aI9, ↓m_sI9, ↓m_oR10, ↓m_aI10, ↓m_sI10, ↓X7_isGuest_c, ↓X7_isChair_c hz, hs, h1, h2, h3, b2_t hgt, b2_f hc]
      · rw [if_neg hd]; exact zeq_rf
  · have hgf : ¬ (0 ≤ f1 ∧ f1 ≤ M 1 60 - 1) := by omega
    refine ⟨M, ?_, qsm_rf, ?_⟩
    · rw [b2_f (fun q => hg q.1)]
      unfold fX7_does
      simp only [iv_lit, iv_neg, iv_add, iv_mul, iv_sub, Int.reduceNeg]
      simp (disch := omega) only [↓reduceIte, Int.reduceEq, Int.reduceNe, Int.reduceLT, Int.reduceLE, Int.reduceNeg, Int.reduceMod, Int.reduceDiv, Int.reduceAdd, Int.reduceSub, Int.reduceMul, not_true_eq_false, not_false_eq_true, Int.lt_irrefl, true_or, or_true, false_or, or_false, true_and, and_true, false_and, and_false, b2_T, b2_F, if_true, if_false, ↓mjn_b, ↓mjn0_b, ↓mjn2_b, iv_lit, iv_add, iv_sub, iv_mul, iv_neg, iv_le_t, iv_le_f, iv_lt_t, iv_lt_f, iv_eq_t, iv_eq_f, iv_div, iv_mod, mretT_p, mretT_b, e_mret, ↓e_bret, ↓m_mon, ↓m_oI0, ↓m_pI0, ↓m_oI3, ↓m_pI3, ↓m_oI5, ↓m_pI5, ↓m_oI7, ↓m_pI7, ↓m_oI11, ↓m_pI11, ↓m_oI12, ↓m_pI12, ↓m_oI13, ↓m_pI13, ↓m_oI14, ↓m_pI14, ↓m_oI15, ↓m_pI15, ↓m_oI16, ↓m_pI16, ↓m_oI17, ↓m_pI17, ↓m_pZ5, ↓m_pZ12, ↓m_oR1, ↓m_aI1, ↓m_sI1, ↓m_oR2, ↓m_aI2, ↓m_sI2, ↓m_oR4, ↓m_aI4, ↓m_sI4, ↓m_oR6, ↓m_aI6, ↓m_sI6, ↓m_oR8, ↓m_aI8, ↓m_sI8, ↓m_oR9, ↓m_aI9, ↓m_sI9, ↓m_oR10, ↓m_aI10, ↓m_sI10, ↓X7_isGuest_c, ↓X7_isChair_c hz, hs, h1, h2, h3, b2_f hgf]
    · rw [if_neg (fun q => hg q.1)]; exact zeq_rf
theorem X7_does_u {g : Nat → Nat} {h : Nat → Option hC} {n m : Nat} {M : Mm} (hz : wZ (M 1)) {f1 f2 f3 f4 : Int} (hf : frg 117 f1 f2 f3 f4) (hs : M 0 13 = 117) (h1 : M 0 14 = f1) : ∃ (M' : Mm), fX7_does g (some m) (md m M h, n, 0) = some (iv (b2 (dgo (M 1) 117 f1 f2 f3 f4)), (md m M' h, n, 0)) ∧ qsm M M' ∧ zeq (@ite (Int → Int) (dgo (M 1) 117 f1 f2 f3 f4) (Classical.propDecidable _) (dzz (M 1) 117 f1 f2 f3 f4) (M 1)) (M' 1) := by
  obtain ⟨hk, r1, r2, r3, r4⟩ := hf
  unfold pHi at r1
  have h15 := wZ_15 hz
  have h60 := wZ_60 hz
  rw [show dgo (M 1) 117 f1 f2 f3 f4 = (f1 < M 1 60 ∧ sits (M 1) f1) from rfl, show dzz (M 1) 117 f1 f2 f3 f4 = (zput (M 1) f1 (-1) (-1)) from rfl]
  by_cases hg : f1 < M 1 60
  · have hx : 0 ≤ f1 ∧ f1 < M 1 60 := ⟨r1.1, hg⟩
    have hgt : 0 ≤ f1 ∧ f1 ≤ M 1 60 - 1 := by omega
    by_cases hn : sits (M 1) f1
    · have ep := X7_put_ev (g := g) (h := h) (n := n) (w := 0) (m := m) (M := M) (x := f1) (t := -1) (c := -1) (by omega)
      refine ⟨mu (mu M 1 (61 + 18 * f1 + 1) (-1)) 1 (61 + 18 * f1 + 2) (-1), ?_, fun b b1 b8 b9 b10 => by rw [mu_ob b1, mu_ob b1], ?_⟩
      rotate_left
      · rw [if_pos ⟨hg, hn⟩, mu_put]; exact zeq_rf
      · rw [b2_t ⟨hg, hn⟩]
        unfold fX7_does
        simp only [iv_lit, iv_neg, iv_add, iv_mul, iv_sub, Int.reduceNeg]
        simp (disch := omega) only [↓reduceIte, Int.reduceEq, Int.reduceNe, Int.reduceLT, Int.reduceLE, Int.reduceNeg, Int.reduceMod, Int.reduceDiv, Int.reduceAdd, Int.reduceSub, Int.reduceMul, not_true_eq_false, not_false_eq_true, Int.lt_irrefl, true_or, or_true, false_or, or_false, true_and, and_true, false_and, and_false, b2_T, b2_F, if_true, if_false, ↓mjn_b, ↓mjn0_b, ↓mjn2_b, iv_lit, iv_add, iv_sub, iv_mul, iv_neg, iv_le_t, iv_le_f, iv_lt_t, iv_lt_f, iv_eq_t, iv_eq_f, iv_div, iv_mod, mretT_p, mretT_b, e_mret, ↓e_bret, ↓m_mon, ↓m_oI0, ↓m_pI0, ↓m_oI3, ↓m_pI3, ↓m_oI5, ↓m_pI5, ↓m_oI7, ↓m_pI7, ↓m_oI11, ↓m_pI11, ↓m_oI12, ↓m_pI12, ↓m_oI13, ↓m_pI13, ↓m_oI14, ↓m_pI14, ↓m_oI15, ↓m_pI15, ↓m_oI16, ↓m_pI16, ↓m_oI17, ↓m_pI17, ↓m_pZ5, ↓m_pZ12, ↓m_oR1, ↓m_aI1, ↓m_sI1, ↓m_oR2, ↓m_aI2, ↓m_sI2, ↓m_oR4, ↓m_aI4, ↓m_sI4, ↓m_oR6, ↓m_aI6, ↓m_sI6, ↓m_oR8, ↓m_aI8, ↓m_sI8, ↓m_oR9, ↓m_aI9, ↓m_sI9, ↓m_oR10, ↓m_aI10, ↓m_sI10, ↓X7_isGuest_c, ↓X7_isChair_c hz, ↓X7_sits_b hz hx, ↓e_call0 ep, hs, h1, b2_t hgt, b2_t hn]
    · refine ⟨M, ?_, qsm_rf, ?_⟩
      · rw [b2_f (fun q => hn q.2)]
        unfold fX7_does
        simp only [iv_lit, iv_neg, iv_add, iv_mul, iv_sub, Int.reduceNeg]
        simp (disch := omega) only [↓reduceIte, Int.reduceEq, Int.reduceNe, Int.reduceLT, Int.reduceLE, Int.reduceNeg, Int.reduceMod, Int.reduceDiv, Int.reduceAdd, Int.reduceSub, Int.reduceMul, not_true_eq_false, not_false_eq_true, Int.lt_irrefl, true_or, or_true, false_or, or_false, true_and, and_true, false_and, and_false, b2_T, b2_F, if_true, if_false, ↓mjn_b, ↓mjn0_b, ↓mjn2_b, iv_lit, iv_add, iv_sub, iv_mul, iv_neg, iv_le_t, iv_le_f, iv_lt_t, iv_lt_f, iv_eq_t, iv_eq_f, iv_div, iv_mod, mretT_p, mretT_b, e_mret, ↓e_bret, ↓m_mon, ↓m_oI0, ↓m_pI0, ↓m_oI3, ↓m_pI3, ↓m_oI5, ↓m_pI5, ↓m_oI7, ↓m_pI7, ↓m_oI11, ↓m_pI11, ↓m_oI12, ↓m_pI12, ↓m_oI13, ↓m_pI13, ↓m_oI14, ↓m_pI14, ↓m_oI15, ↓m_pI15, ↓m_oI16, ↓m_pI16, ↓m_oI17, ↓m_pI17, ↓m_pZ5, ↓m_pZ12, ↓m_oR1, ↓m_aI1, ↓m_sI1, ↓m_oR2, ↓m_aI2, ↓m_sI2, ↓m_oR4, ↓m_aI4, ↓m_sI4, ↓m_oR6, ↓m_aI6, ↓m_sI6, ↓m_oR8, ↓m_aI8, ↓m_sI8, ↓m_oR9, ↓m_aI9, ↓m_sI9, ↓m_oR10, ↓m_aI10, ↓m_sI10, ↓X7_isGuest_c, ↓X7_isChair_c hz, ↓X7_sits_b hz hx, hs, h1, b2_t hgt, b2_f hn]
      · rw [if_neg (fun q => hn q.2)]; exact zeq_rf
  · have hgf : ¬ (0 ≤ f1 ∧ f1 ≤ M 1 60 - 1) := by omega
    refine ⟨M, ?_, qsm_rf, ?_⟩
    · rw [b2_f (fun q => hg q.1)]
      unfold fX7_does
      simp only [iv_lit, iv_neg, iv_add, iv_mul, iv_sub, Int.reduceNeg]
      simp (disch := omega) only [↓reduceIte, Int.reduceEq, Int.reduceNe, Int.reduceLT, Int.reduceLE, Int.reduceNeg, Int.reduceMod, Int.reduceDiv, Int.reduceAdd, Int.reduceSub, Int.reduceMul, not_true_eq_false, not_false_eq_true, Int.lt_irrefl, true_or, or_true, false_or, or_false, true_and, and_true, false_and, and_false, b2_T, b2_F, if_true, if_false, ↓mjn_b, ↓mjn0_b, ↓mjn2_b, iv_lit, iv_add, iv_sub, iv_mul, iv_neg, iv_le_t, iv_le_f, iv_lt_t, iv_lt_f, iv_eq_t, iv_eq_f, iv_div, iv_mod, mretT_p, mretT_b, e_mret, ↓e_bret, ↓m_mon, ↓m_oI0, ↓m_pI0, ↓m_oI3, ↓m_pI3, ↓m_oI5, ↓m_pI5, ↓m_oI7, ↓m_pI7, ↓m_oI11, ↓m_pI11, ↓m_oI12, ↓m_pI12, ↓m_oI13, ↓m_pI13, ↓m_oI14, ↓m_pI14, ↓m_oI15, ↓m_pI15, ↓m_oI16, ↓m_pI16, ↓m_oI17, ↓m_pI17, ↓m_pZ5, ↓m_pZ12, ↓m_oR1, ↓m_aI1, ↓m_sI1, ↓m_oR2, ↓m_aI2, ↓m_sI2, ↓m_oR4, ↓m_aI4, ↓m_sI4, ↓m_oR6, ↓m_aI6, ↓m_sI6, ↓m_oR8, ↓m_aI8, ↓m_sI8, ↓m_oR9, ↓m_aI9, ↓m_sI9, ↓m_oR10, ↓m_aI10, ↓m_sI10, ↓X7_isGuest_c, ↓X7_isChair_c hz, hs, h1, b2_f hgf]
    · rw [if_neg (fun q => hg q.1)]; exact zeq_rf
theorem X7_does_x {g : Nat → Nat} {h : Nat → Option hC} {n m : Nat} {M : Mm} (hz : wZ (M 1)) {f1 f2 f3 f4 : Int} (hf : frg 120 f1 f2 f3 f4) (hs : M 0 13 = 120) (h1 : M 0 14 = f1) (h2 : M 0 15 = f2) : ∃ (M' : Mm), fX7_does g (some m) (md m M h, n, 0) = some (iv (b2 (dgo (M 1) 120 f1 f2 f3 f4)), (md m M' h, n, 0)) ∧ qsm M M' ∧ zeq (@ite (Int → Int) (dgo (M 1) 120 f1 f2 f3 f4) (Classical.propDecidable _) (dzz (M 1) 120 f1 f2 f3 f4) (M 1)) (M' 1) := by
  obtain ⟨hk, r1, r2, r3, r4⟩ := hf
  unfold pHi at r1
  have h15 := wZ_15 hz
  have h60 := wZ_60 hz
  rw [show dgo (M 1) 120 f1 f2 f3 f4 = (f1 < M 1 60 ∧ f2 < M 1 60 ∧ nsw (M 1) f1 f2 = 0) from rfl, show dzz (M 1) 120 f1 f2 f3 f4 = (zswp (M 1) f1 f2) from rfl]
  by_cases hg : f1 < M 1 60
  · have hx : 0 ≤ f1 ∧ f1 < M 1 60 := ⟨r1.1, hg⟩
    have hgt : 0 ≤ f1 ∧ f1 ≤ M 1 60 - 1 := by omega
    by_cases hg2 : f2 < M 1 60
    · have hy : 0 ≤ f2 ∧ f2 < M 1 60 := ⟨r2.1, hg2⟩
      have hgt2 : 0 ≤ f2 ∧ f2 ≤ M 1 60 - 1 := by omega
      have hnr := nsw_rg (z := M 1) (g := f1) (t := f2)
      have en := X7_noSwap_ev (g := g) (h := h) (n := n) (w := 0) (m := m) hz hx hy
      by_cases hn : nsw (M 1) f1 f2 = 0
      · obtain ⟨M1, k1, k2, k3⟩ := X7_swaps_ev (g := g) (h := h) (n := n) (w := 0) (m := m) (M := M) (x := f1) (y := f2) (by omega) (by omega)
        refine ⟨M1, ?_, fun b b1 b8 b9 b10 => k2 b b1, ?_⟩
        · rw [b2_t ⟨hg, hg2, hn⟩]
          unfold fX7_does
          simp only [iv_lit, iv_neg, iv_add, iv_mul, iv_sub, Int.reduceNeg]
          simp (disch := omega) only [↓reduceIte, Int.reduceEq, Int.reduceNe, Int.reduceLT, Int.reduceLE, Int.reduceNeg, Int.reduceMod, Int.reduceDiv, Int.reduceAdd, Int.reduceSub, Int.reduceMul, not_true_eq_false, not_false_eq_true, Int.lt_irrefl, true_or, or_true, false_or, or_false, true_and, and_true, false_and, and_false, b2_T, b2_F, if_true, if_false, ↓mjn_b, ↓mjn0_b, ↓mjn2_b, iv_lit, iv_add, iv_sub, iv_mul, iv_neg, iv_le_t, iv_le_f, iv_lt_t, iv_lt_f, iv_eq_t, iv_eq_f, iv_div, iv_mod, mretT_p, mretT_b, e_mret, ↓e_bret, ↓m_mon, ↓m_oI0, ↓m_pI0, ↓m_oI3, ↓m_pI3, ↓m_oI5, ↓m_pI5, ↓m_oI7, ↓m_pI7, ↓m_oI11, ↓m_pI11, ↓m_oI12, ↓m_pI12, ↓m_oI13, ↓m_pI13, ↓m_oI14, ↓m_pI14, ↓m_oI15, ↓m_pI15, ↓m_oI16, ↓m_pI16, ↓m_oI17, ↓m_pI17, ↓m_pZ5, ↓m_pZ12, ↓m_oR1, ↓m_aI1, ↓m_sI1, ↓m_oR2, ↓m_aI2, ↓m_sI2, ↓m_oR4, ↓m_aI4, ↓m_sI4, ↓m_oR6, ↓m_aI6, ↓m_sI6, ↓m_oR8, ↓m_aI8, ↓m_sI8, ↓m_oR9, ↓m_aI9, ↓m_sI9, ↓m_oR10, ↓m_aI10, ↓m_sI10, ↓X7_isGuest_c, ↓X7_isChair_c hz, ↓e_call0 en, ↓e_call0 k1, hs, h1, h2, b2_t hgt, b2_t hgt2, hn]
        · rw [if_pos ⟨hg, hg2, hn⟩, k3]; exact zeq_rf
      · refine ⟨M, ?_, qsm_rf, ?_⟩
        · rw [b2_f (fun q => hn q.2.2)]
          unfold fX7_does
          simp only [iv_lit, iv_neg, iv_add, iv_mul, iv_sub, Int.reduceNeg]
          simp (disch := omega) only [↓reduceIte, Int.reduceEq, Int.reduceNe, Int.reduceLT, Int.reduceLE, Int.reduceNeg, Int.reduceMod, Int.reduceDiv, Int.reduceAdd, Int.reduceSub, Int.reduceMul, not_true_eq_false, not_false_eq_true, Int.lt_irrefl, true_or, or_true, false_or, or_false, true_and, and_true, false_and, and_false, b2_T, b2_F, if_true, if_false, ↓mjn_b, ↓mjn0_b, ↓mjn2_b, iv_lit, iv_add, iv_sub, iv_mul, iv_neg, iv_le_t, iv_le_f, iv_lt_t, iv_lt_f, iv_eq_t, iv_eq_f, iv_div, iv_mod, mretT_p, mretT_b, e_mret, ↓e_bret, ↓m_mon, ↓m_oI0, ↓m_pI0, ↓m_oI3, ↓m_pI3, ↓m_oI5, ↓m_pI5, ↓m_oI7, ↓m_pI7, ↓m_oI11, ↓m_pI11, ↓m_oI12, ↓m_pI12, ↓m_oI13, ↓m_pI13, ↓m_oI14, ↓m_pI14, ↓m_oI15, ↓m_pI15, ↓m_oI16, ↓m_pI16, ↓m_oI17, ↓m_pI17, ↓m_pZ5, ↓m_pZ12, ↓m_oR1, ↓m_aI1, ↓m_sI1, ↓m_oR2, ↓m_aI2, ↓m_sI2, ↓m_oR4, ↓m_aI4, ↓m_sI4, ↓m_oR6, ↓m_aI6, ↓m_sI6, ↓m_oR8, ↓m_aI8, ↓m_sI8, ↓m_oR9, ↓m_aI9, ↓m_sI9, ↓m_oR10, ↓m_aI10, ↓m_sI10, ↓X7_isGuest_c, ↓X7_isChair_c hz, ↓e_call0 en, hs, h1, h2, b2_t hgt, b2_t hgt2]
        · rw [if_neg (fun q => hn q.2.2)]; exact zeq_rf
    · have hgf2 : ¬ (0 ≤ f2 ∧ f2 ≤ M 1 60 - 1) := by omega
      refine ⟨M, ?_, qsm_rf, ?_⟩
      · rw [b2_f (fun q => hg2 q.2.1)]
        unfold fX7_does
        simp only [iv_lit, iv_neg, iv_add, iv_mul, iv_sub, Int.reduceNeg]
        simp (disch := omega) only [↓reduceIte, Int.reduceEq, Int.reduceNe, Int.reduceLT, Int.reduceLE, Int.reduceNeg, Int.reduceMod, Int.reduceDiv, Int.reduceAdd, Int.reduceSub, Int.reduceMul, not_true_eq_false, not_false_eq_true, Int.lt_irrefl, true_or, or_true, false_or, or_false, true_and, and_true, false_and, and_false, b2_T, b2_F, if_true, if_false, ↓mjn_b, ↓mjn0_b, ↓mjn2_b, iv_lit, iv_add, iv_sub, iv_mul, iv_neg, iv_le_t, iv_le_f, iv_lt_t, iv_lt_f, iv_eq_t, iv_eq_f, iv_div, iv_mod, mretT_p, mretT_b, e_mret, ↓e_bret, ↓m_mon, ↓m_oI0, ↓m_pI0, ↓m_oI3, ↓m_pI3, ↓m_oI5, ↓m_pI5, ↓m_oI7, ↓m_pI7, ↓m_oI11, ↓m_pI11, ↓m_oI12, ↓m_pI12, ↓m_oI13, ↓m_pI13, ↓m_oI14, ↓m_pI14, ↓m_oI15, ↓m_pI15, ↓m_oI16, ↓m_pI16, ↓m_oI17, ↓m_pI17, ↓m_pZ5, ↓m_pZ12, ↓m_oR1, ↓m_aI1, ↓m_sI1, ↓m_oR2, ↓m_aI2, ↓m_sI2, ↓m_oR4, ↓m_aI4, ↓m_sI4, ↓m_oR6, ↓m_aI6, ↓m_sI6, ↓m_oR8, ↓m_aI8, ↓m_sI8, ↓m_oR9, ↓m_aI9, ↓m_sI9, ↓m_oR10, ↓m_aI10, ↓m_sI10, ↓X7_isGuest_c, ↓X7_isChair_c hz, hs, h1, h2, b2_t hgt, b2_f hgf2]
      · rw [if_neg (fun q => hg2 q.2.1)]; exact zeq_rf
  · have hgf : ¬ (0 ≤ f1 ∧ f1 ≤ M 1 60 - 1) := by omega
    refine ⟨M, ?_, qsm_rf, ?_⟩
    · rw [b2_f (fun q => hg q.1)]
      unfold fX7_does
      simp only [iv_lit, iv_neg, iv_add, iv_mul, iv_sub, Int.reduceNeg]
      simp (disch := omega) only [↓reduceIte, Int.reduceEq, Int.reduceNe, Int.reduceLT, Int.reduceLE, Int.reduceNeg, Int.reduceMod, Int.reduceDiv, Int.reduceAdd, Int.reduceSub, Int.reduceMul, not_true_eq_false, not_false_eq_true, Int.lt_irrefl, true_or, or_true, false_or, or_false, true_and, and_true, false_and, and_false, b2_T, b2_F, if_true, if_false, ↓mjn_b, ↓mjn0_b, ↓mjn2_b, iv_lit, iv_add, iv_sub, iv_mul, iv_neg, iv_le_t, iv_le_f, iv_lt_t, iv_lt_f, iv_eq_t, iv_eq_f, iv_div, iv_mod, mretT_p, mretT_b, e_mret, ↓e_bret, ↓m_mon, ↓m_oI0, ↓m_pI0, ↓m_oI3, ↓m_pI3, ↓m_oI5, ↓m_pI5, ↓m_oI7, ↓m_pI7, ↓m_oI11, ↓m_pI11, ↓m_oI12, ↓m_pI12, ↓m_oI13, ↓m_pI13, ↓m_oI14, ↓m_pI14, ↓m_oI15, ↓m_pI15, ↓m_oI16, ↓m_pI16, ↓m_oI17, ↓m_pI17, ↓m_pZ5, ↓m_pZ12, ↓m_oR1, ↓m_aI1, ↓m_sI1, ↓m_oR2, ↓m_aI2, ↓m_sI2, ↓m_oR4, ↓m_aI4, ↓m_sI4, ↓m_oR6, ↓m_aI6, ↓m_sI6, ↓m_oR8, ↓m_aI8, ↓m_sI8, ↓m_oR9, ↓m_aI9, ↓m_sI9, ↓m_oR10, ↓m_aI10, ↓m_sI10, ↓X7_isGuest_c, ↓X7_isChair_c hz, hs, h1, b2_f hgf]
    · rw [if_neg (fun q => hg q.1)]; exact zeq_rf
