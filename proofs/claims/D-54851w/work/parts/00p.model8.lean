/-! ===== the model: what may be tried ===== -/
/-- only what is laid out anew is another -/
def qsm (M M' : Mm) : Prop := ∀ b, b ≠ 1 → b ≠ 8 → b ≠ 9 → b ≠ 10 → M' b = M b
theorem qsm_rf {M : Mm} : qsm M M := fun _ _ _ _ _ => rfl
theorem qsm_tr {M M' M'' : Mm} (h : qsm M M') (h2 : qsm M' M'') : qsm M M'' := fun b a c d e => (h2 b a c d e).trans (h b a c d e)

theorem X7_noDoor_ev {g : Nat → Nat} {h : Nat → Option hC} {n w m : Nat} {M : Mm} {c : Int} (hz : wH (M 1)) (hc : cin c) :
    ∃ (M' : Mm), fX7_noDoor g (some m) (iv c) (md m M h, n, w) = some (iv (pck (iu (M 1) 1 c)), (md m M' h, n, w)) ∧ qsm M M' ∧ M' 1 = M 1 := by
  have h1 : (mu M 1 1 c) 1 = iu (M 1) 1 c := mu_iu
  obtain ⟨M1, e1, e2, -⟩ := X7_check0 (g := g) (h := h) (n := n) (w := 0) (m := m) (M := mu M 1 1 c) (by rw [h1]; exact wH_door hz hc)
  rw [h1] at e1
  refine ⟨mu M1 1 1 (M 1 1), ?_, fun b b1 b8 b9 b10 => by rw [mu_ob b1, e2 b b8 b9 b10, mu_ob b1], by rw [mu_iu, e2 1 (by decide) (by decide) (by decide), h1, iu_back]⟩
  unfold fX7_noDoor
  simp (disch := omega) only [↓reduceIte, Int.reduceEq, Int.reduceNe, Int.reduceLT, Int.reduceLE, Int.reduceNeg, Int.reduceMod, Int.reduceDiv, Int.reduceAdd, Int.reduceSub, Int.reduceMul, not_true_eq_false, not_false_eq_true, true_or, or_true, false_or, or_false, true_and, and_true, false_and, and_false, b2_T, b2_F, if_true, if_false, ↓mjn_b, ↓mjn0_b, ↓mjn2_b, iv_lit, iv_add, iv_sub, iv_mul, iv_neg, iv_le_t, iv_le_f, iv_lt_t, iv_lt_f, iv_eq_t, iv_eq_f, iv_div, iv_mod, mretT_p, mretT_b, e_mret, ↓e_bret, ↓m_mon, ↓m_oI0, m_pI0, ↓m_oI3, m_pI3, ↓m_oI5, m_pI5, ↓m_oI7, m_pI7, ↓m_oI11, m_pI11, ↓m_oI12, m_pI12, ↓m_oI13, m_pI13, ↓m_oI14, m_pI14, ↓m_oI15, m_pI15, ↓m_oI16, m_pI16, ↓m_oI17, m_pI17, m_pZ5, m_pZ12, ↓m_oR1, m_aI1, m_sI1, ↓m_oR2, m_aI2, m_sI2, ↓m_oR4, m_aI4, m_sI4, ↓m_oR6, m_aI6, m_sI6, ↓m_oR8, m_aI8, m_sI8, ↓m_oR9, m_aI9, m_sI9, ↓m_oR10, m_aI10, m_sI10, e_call0 e1]
theorem X7_noPillar_ev {g : Nat → Nat} {h : Nat → Option hC} {n w m : Nat} {M : Mm} {c : Int} (hz : wH (M 1)) (hc : cin c) :
    ∃ (M' : Mm), fX7_noPillar g (some m) (iv c) (md m M h, n, w) = some (iv (npl (M 1) c), (md m M' h, n, w)) ∧ qsm M M' ∧ zeq (M 1) (M' 1) ∧ M' 1 2 = M 1 2 := by
  have h2 := hz.2.2.1
  by_cases h12 : M 1 2 = 12
  · refine ⟨M, ?_, qsm_rf, zeq_rf, rfl⟩
    unfold fX7_noPillar npl
    rw [if_pos h12]
    simp (disch := omega) only [↓reduceIte, Int.reduceEq, Int.reduceNe, Int.reduceLT, Int.reduceLE, Int.reduceNeg, Int.reduceMod, Int.reduceDiv, Int.reduceAdd, Int.reduceSub, Int.reduceMul, not_true_eq_false, not_false_eq_true, true_or, or_true, false_or, or_false, true_and, and_true, false_and, and_false, b2_T, b2_F, if_true, if_false, ↓mjn_b, ↓mjn0_b, ↓mjn2_b, iv_lit, iv_add, iv_sub, iv_mul, iv_neg, iv_le_t, iv_le_f, iv_lt_t, iv_lt_f, iv_eq_t, iv_eq_f, iv_div, iv_mod, mretT_p, mretT_b, e_mret, ↓e_bret, ↓m_mon, ↓m_oI0, m_pI0, ↓m_oI3, m_pI3, ↓m_oI5, m_pI5, ↓m_oI7, m_pI7, ↓m_oI11, m_pI11, ↓m_oI12, m_pI12, ↓m_oI13, m_pI13, ↓m_oI14, m_pI14, ↓m_oI15, m_pI15, ↓m_oI16, m_pI16, ↓m_oI17, m_pI17, m_pZ5, m_pZ12, ↓m_oR1, m_aI1, m_sI1, ↓m_oR2, m_aI2, m_sI2, ↓m_oR4, m_aI4, m_sI4, ↓m_oR6, m_aI6, m_sI6, ↓m_oR8, m_aI8, m_sI8, ↓m_oR9, m_aI9, m_sI9, ↓m_oR10, m_aI10, m_sI10, h12]
  · have h1 : (mu (mu M 1 (3 + M 1 2) c) 1 2 (M 1 2 + 1)) 1 = zpil (M 1) c := by rw [mu_iu, mu_iu]; rfl
    obtain ⟨M1, e1, e2, -⟩ := X7_check0 (g := g) (h := h) (n := n) (w := 0) (m := m) (M := mu (mu M 1 (3 + M 1 2) c) 1 2 (M 1 2 + 1)) (by rw [h1]; exact wH_pil hz hc (by omega))
    rw [h1] at e1
    have h11 : M1 1 = zpil (M 1) c := by rw [e2 1 (by decide) (by decide) (by decide), h1]
    have h112 : M1 1 2 = M 1 2 + 1 := by rw [h11]; exact iu_at rfl
    refine ⟨mu M1 1 2 (M 1 2), ?_, fun b b1 b8 b9 b10 => by rw [mu_ob b1, e2 b b8 b9 b10, mu_ob b1, mu_ob b1], ?_, mu_eq⟩
    · unfold fX7_noPillar npl
      rw [if_neg h12]
      simp (disch := omega) only [↓reduceIte, Int.reduceEq, Int.reduceNe, Int.reduceLT, Int.reduceLE, Int.reduceNeg, Int.reduceMod, Int.reduceDiv, Int.reduceAdd, Int.reduceSub, Int.reduceMul, not_true_eq_false, not_false_eq_true, true_or, or_true, false_or, or_false, true_and, and_true, false_and, and_false, b2_T, b2_F, if_true, if_false, ↓mjn_b, ↓mjn0_b, ↓mjn2_b, iv_lit, iv_add, iv_sub, iv_mul, iv_neg, iv_le_t, iv_le_f, iv_lt_t, iv_lt_f, iv_eq_t, iv_eq_f, iv_div, iv_mod, mretT_p, mretT_b, e_mret, ↓e_bret, ↓m_mon, ↓m_oI0, m_pI0, ↓m_oI3, m_pI3, ↓m_oI5, m_pI5, ↓m_oI7, m_pI7, ↓m_oI11, m_pI11, ↓m_oI12, m_pI12, ↓m_oI13, m_pI13, ↓m_oI14, m_pI14, ↓m_oI15, m_pI15, ↓m_oI16, m_pI16, ↓m_oI17, m_pI17, m_pZ5, m_pZ12, ↓m_oR1, m_aI1, m_sI1, ↓m_oR2, m_aI2, m_sI2, ↓m_oR4, m_aI4, m_sI4, ↓m_oR6, m_aI6, m_sI6, ↓m_oR8, m_aI8, m_sI8, ↓m_oR9, m_aI9, m_sI9, ↓m_oR10, m_aI10, m_sI10, h12, mu_nb, mu_at, mu_ni, e_call0 e1, h112, Int.add_sub_cancel]
    · intro i hi
      rw [mu_iu, h11]
      unfold zpil
      unfold rel at hi
      rw [iu_iu]
      by_cases e : i = 2
      · rw [iu_at e, e]
      · rw [iu_ne e, iu_ne (by omega)]
theorem X7_isShape_ev {g : Nat → Nat} {h : Nat → Option hC} {n w : Nat} {k x y u : Int} (hk : -2147483648 ≤ k ∧ k < 2147483648) (hx : -2147483648 ≤ x ∧ x < 2147483648) (hy : -2147483648 ≤ y ∧ y < 2147483648) (hu : -2147483648 ≤ u ∧ u < 2147483648) : fX7_isShape g (iv k) (iv x) (iv y) (iv u) (h, n, w) = some (iv (b2 ((0 ≤ k ∧ k ≤ 2) ∧ inR x y ∧ 0 ≤ u ∧ u ≤ 3)), (h, n, w)) := by
  unfold fX7_isShape inR
  by_cases h1 : 0 ≤ k ∧ k ≤ 2
  · by_cases h2 : (0 ≤ x ∧ x ≤ 15) ∧ 0 ≤ y ∧ y ≤ 11
    · by_cases h3 : 0 ≤ u ∧ u ≤ 3
      · rw [b2_t ⟨h1, h2, h3⟩]
        simp (disch := omega) only [↓reduceIte, Int.reduceEq, Int.reduceNe, Int.reduceLT, Int.reduceLE, Int.reduceNeg, Int.reduceMod, Int.reduceDiv, Int.reduceAdd, Int.reduceSub, Int.reduceMul, not_true_eq_false, not_false_eq_true, true_or, or_true, false_or, or_false, true_and, and_true, false_and, and_false, b2_T, b2_F, if_true, if_false, ↓mjn_b, ↓mjn0_b, ↓mjn2_b, iv_lit, iv_add, iv_sub, iv_mul, iv_neg, iv_le_t, iv_le_f, iv_lt_t, iv_lt_f, iv_eq_t, iv_eq_f, iv_div, iv_mod, mretT_p, mretT_b, e_mret, ↓e_bret, X7_in_c, X7_isCell_c, b2_t h1, b2_t h2, b2_t h3]
      · rw [b2_f (fun q => h3 q.2.2)]
        simp (disch := omega) only [↓reduceIte, Int.reduceEq, Int.reduceNe, Int.reduceLT, Int.reduceLE, Int.reduceNeg, Int.reduceMod, Int.reduceDiv, Int.reduceAdd, Int.reduceSub, Int.reduceMul, not_true_eq_false, not_false_eq_true, true_or, or_true, false_or, or_false, true_and, and_true, false_and, and_false, b2_T, b2_F, if_true, if_false, ↓mjn_b, ↓mjn0_b, ↓mjn2_b, iv_lit, iv_add, iv_sub, iv_mul, iv_neg, iv_le_t, iv_le_f, iv_lt_t, iv_lt_f, iv_eq_t, iv_eq_f, iv_div, iv_mod, mretT_p, mretT_b, e_mret, ↓e_bret, X7_in_c, X7_isCell_c, b2_t h1, b2_t h2, b2_f h3]
    · rw [b2_f (fun q => h2 q.2.1)]
      simp (disch := omega) only [↓reduceIte, Int.reduceEq, Int.reduceNe, Int.reduceLT, Int.reduceLE, Int.reduceNeg, Int.reduceMod, Int.reduceDiv, Int.reduceAdd, Int.reduceSub, Int.reduceMul, not_true_eq_false, not_false_eq_true, true_or, or_true, false_or, or_false, true_and, and_true, false_and, and_false, b2_T, b2_F, if_true, if_false, ↓mjn_b, ↓mjn0_b, ↓mjn2_b, iv_lit, iv_add, iv_sub, iv_mul, iv_neg, iv_le_t, iv_le_f, iv_lt_t, iv_lt_f, iv_eq_t, iv_eq_f, iv_div, iv_mod, mretT_p, mretT_b, e_mret, ↓e_bret, X7_in_c, X7_isCell_c, b2_t h1, b2_f h2]
  · rw [b2_f (fun q => h1 q.1)]
    simp (disch := omega) only [↓reduceIte, Int.reduceEq, Int.reduceNe, Int.reduceLT, Int.reduceLE, Int.reduceNeg, Int.reduceMod, Int.reduceDiv, Int.reduceAdd, Int.reduceSub, Int.reduceMul, not_true_eq_false, not_false_eq_true, true_or, or_true, false_or, or_false, true_and, and_true, false_and, and_false, b2_T, b2_F, if_true, if_false, ↓mjn_b, ↓mjn0_b, ↓mjn2_b, iv_lit, iv_add, iv_sub, iv_mul, iv_neg, iv_le_t, iv_le_f, iv_lt_t, iv_lt_f, iv_eq_t, iv_eq_f, iv_div, iv_mod, mretT_p, mretT_b, e_mret, ↓e_bret, X7_in_c, b2_f h1]
theorem X7_isShape_c {β : Type} {K : Int32 → HM β} {g : Nat → Nat} {h : Nat → Option hC} {n w : Nat} {k x y u : Int} (hk : -2147483648 ≤ k ∧ k < 2147483648) (hx : -2147483648 ≤ x ∧ x < 2147483648) (hy : -2147483648 ≤ y ∧ y < 2147483648) (hu : -2147483648 ≤ u ∧ u < 2147483648) : mb (mcall0 (fX7_isShape g (iv k) (iv x) (iv y) (iv u))) K (h, n, w) = K (iv (b2 ((0 ≤ k ∧ k ≤ 2) ∧ inR x y ∧ 0 ≤ u ∧ u ≤ 3))) (h, n, w) := e_call0 (X7_isShape_ev hk hx hy hu)
theorem X7_layTable_ev {g : Nat → Nat} {h : Nat → Option hC} {n w m : Nat} {M : Mm} {k x y u : Int} (hz : 0 ≤ M 1 15 ∧ M 1 15 ≤ 10) :
    ∃ (M' : Mm), fX7_layTable g (some m) (iv k) (iv x) (iv y) (iv u) (md m M h, n, w) = some ((), (md m M' h, n, w)) ∧ qsm M M' ∧ (∀ b, b ≠ 1 → M' b = M b) ∧ M' 1 = zadd (M 1) k (16 * y + x) u := by
  refine ⟨mu (mu (mu (mu (mu M 1 (16 + 4 * M 1 15 + 0) k) 1 (16 + 4 * M 1 15 + 1) (16 * y + x)) 1 (16 + 4 * M 1 15 + 2) u) 1 (16 + 4 * M 1 15 + 3) 0) 1 15 (M 1 15 + 1), ?_, fun b b1 _ _ _ => by rw [mu_ob b1, mu_ob b1, mu_ob b1, mu_ob b1, mu_ob b1], fun b b1 => by rw [mu_ob b1, mu_ob b1, mu_ob b1, mu_ob b1, mu_ob b1], by rw [mu_iu, mu_iu, mu_iu, mu_iu, mu_iu]; rfl⟩
  unfold fX7_layTable
  simp (disch := omega) only [↓reduceIte, Int.reduceEq, Int.reduceNe, Int.reduceLT, Int.reduceLE, Int.reduceNeg, Int.reduceMod, Int.reduceDiv, Int.reduceAdd, Int.reduceSub, Int.reduceMul, not_true_eq_false, not_false_eq_true, true_or, or_true, false_or, or_false, true_and, and_true, false_and, and_false, b2_T, b2_F, if_true, if_false, ↓mjn_b, ↓mjn0_b, ↓mjn2_b, iv_lit, iv_add, iv_sub, iv_mul, iv_neg, iv_le_t, iv_le_f, iv_lt_t, iv_lt_f, iv_eq_t, iv_eq_f, iv_div, iv_mod, mretT_p, mretT_b, e_mret, ↓e_bret, ↓m_mon, ↓m_oI0, m_pI0, ↓m_oI3, m_pI3, ↓m_oI5, m_pI5, ↓m_oI7, m_pI7, ↓m_oI11, m_pI11, ↓m_oI12, m_pI12, ↓m_oI13, m_pI13, ↓m_oI14, m_pI14, ↓m_oI15, m_pI15, ↓m_oI16, m_pI16, ↓m_oI17, m_pI17, m_pZ5, m_pZ12, ↓m_oR1, m_aI1, m_sI1, ↓m_oR2, m_aI2, m_sI2, ↓m_oR4, m_aI4, m_sI4, ↓m_oR6, m_aI6, m_sI6, ↓m_oR8, m_aI8, m_sI8, ↓m_oR9, m_aI9, m_sI9, ↓m_oR10, m_aI10, m_sI10, X7_setTable_c, mu_nb, mu_at, mu_ni]
theorem zadd_back {z : Int → Int} {k p u : Int} (hz : wH z) (h10 : z 15 ≤ 10) : zeq z (iu (zadd z k p u) 15 (z 15)) := by
  intro i hi
  have h2 := hz.2.2.1
  have h15 := hz.2.2.2.2.1
  unfold zadd
  rw [iu_iu]
  unfold rel at hi
  by_cases e : i = 15
  · rw [iu_at e, e]
  · rw [iu_ne e]
    by_cases h : i < 16 + 4 * z 15 ∨ 16 + 4 * z 15 + 4 ≤ i
    · exact zrow_ne h
    · exfalso
      omega
theorem X7_noTable_ev {g : Nat → Nat} {h : Nat → Option hC} {n w m : Nat} {M : Mm} {k x y u : Int} (hz : wH (M 1)) (h10 : M 1 15 ≤ 10) (hk : 0 ≤ k ∧ k ≤ 2) (hi : inR x y) (hu : 0 ≤ u ∧ u ≤ 3) :
    ∃ (M' : Mm), fX7_noTable g (some m) (iv k) (iv x) (iv y) (iv u) (md m M h, n, w) = some (iv (pck (zadd (M 1) k (16 * y + x) u)), (md m M' h, n, w)) ∧ qsm M M' ∧ zeq (M 1) (M' 1) ∧ M' 1 15 = M 1 15 := by
  have h15 := hz.2.2.2.2.1
  obtain ⟨M1, e1, e2, -, e3⟩ := X7_layTable_ev (g := g) (h := h) (n := n) (w := 0) (m := m) (M := M) (k := k) (x := x) (y := y) (u := u) (by omega)
  have hw1 : wH (M1 1) := by
    rw [e3]
    unfold inR at hi
    exact wH_add hz hk (by omega) hu h10
  obtain ⟨M2, f1, f2, -⟩ := X7_check0 (g := g) (h := h) (n := n) (w := 0) (m := m) (M := M1) hw1
  rw [e3] at f1
  have h21 : M2 1 = zadd (M 1) k (16 * y + x) u := by rw [f2 1 (by decide) (by decide) (by decide), e3]
  refine ⟨mu M2 1 15 (M 1 15), ?_, fun b b1 b8 b9 b10 => by rw [mu_ob b1, f2 b b8 b9 b10, e2 b b1 b8 b9 b10], ?_, mu_eq⟩
  · unfold fX7_noTable
    simp (disch := omega) only [↓reduceIte, Int.reduceEq, Int.reduceNe, Int.reduceLT, Int.reduceLE, Int.reduceNeg, Int.reduceMod, Int.reduceDiv, Int.reduceAdd, Int.reduceSub, Int.reduceMul, not_true_eq_false, not_false_eq_true, true_or, or_true, false_or, or_false, true_and, and_true, false_and, and_false, b2_T, b2_F, if_true, if_false, ↓mjn_b, ↓mjn0_b, ↓mjn2_b, iv_lit, iv_add, iv_sub, iv_mul, iv_neg, iv_le_t, iv_le_f, iv_lt_t, iv_lt_f, iv_eq_t, iv_eq_f, iv_div, iv_mod, mretT_p, mretT_b, e_mret, ↓e_bret, ↓m_mon, ↓m_oI0, m_pI0, ↓m_oI3, m_pI3, ↓m_oI5, m_pI5, ↓m_oI7, m_pI7, ↓m_oI11, m_pI11, ↓m_oI12, m_pI12, ↓m_oI13, m_pI13, ↓m_oI14, m_pI14, ↓m_oI15, m_pI15, ↓m_oI16, m_pI16, ↓m_oI17, m_pI17, m_pZ5, m_pZ12, ↓m_oR1, m_aI1, m_sI1, ↓m_oR2, m_aI2, m_sI2, ↓m_oR4, m_aI4, m_sI4, ↓m_oR6, m_aI6, m_sI6, ↓m_oR8, m_aI8, m_sI8, ↓m_oR9, m_aI9, m_sI9, ↓m_oR10, m_aI10, m_sI10, e_call0 e1, e_call0 f1]
  · rw [mu_iu, h21]
    exact zadd_back hz h10
theorem X7_noAdd_ev {g : Nat → Nat} {h : Nat → Option hC} {n w m : Nat} {M : Mm} {k x y u : Int} (hz : wH (M 1)) (h10 : M 1 15 ≤ 10) (hk : -2147483648 ≤ k ∧ k < 2147483648) (hx : -2147483648 ≤ x ∧ x < 2147483648) (hy : -2147483648 ≤ y ∧ y < 2147483648) (hu : -2147483648 ≤ u ∧ u < 2147483648) :
    ∃ (M' : Mm) (r : Int), fX7_noAdd g (some m) (iv k) (iv x) (iv y) (iv u) (md m M h, n, w) = some (iv r, (md m M' h, n, w)) ∧ qsm M M' ∧ zeq (M 1) (M' 1) ∧ M' 1 15 = M 1 15 ∧
      r = @ite Int ((0 ≤ k ∧ k ≤ 2) ∧ inR x y ∧ 0 ≤ u ∧ u ≤ 3) (Classical.propDecidable _) (@ite Int (M 1 15 = 10 ∨ 0 < pck (zadd (M 1) k (16 * y + x) u)) (Classical.propDecidable _) 2 0) 1 := by
  have h15 := hz.2.2.2.2.1
  have hpr := pck_rg (zadd (M 1) k (16 * y + x) u)
  by_cases hs : (0 ≤ k ∧ k ≤ 2) ∧ inR x y ∧ 0 ≤ u ∧ u ≤ 3
  · rw [if_pos hs]
    by_cases h1 : M 1 15 = 10
    · refine ⟨M, _, ?_, qsm_rf, zeq_rf, rfl, rfl⟩
      rw [if_pos (Or.inl h1)]
      unfold fX7_noAdd
      simp (disch := omega) only [↓reduceIte, Int.reduceEq, Int.reduceNe, Int.reduceLT, Int.reduceLE, Int.reduceNeg, Int.reduceMod, Int.reduceDiv, Int.reduceAdd, Int.reduceSub, Int.reduceMul, not_true_eq_false, not_false_eq_true, true_or, or_true, false_or, or_false, true_and, and_true, false_and, and_false, b2_T, b2_F, if_true, if_false, ↓mjn_b, ↓mjn0_b, ↓mjn2_b, iv_lit, iv_add, iv_sub, iv_mul, iv_neg, iv_le_t, iv_le_f, iv_lt_t, iv_lt_f, iv_eq_t, iv_eq_f, iv_div, iv_mod, mretT_p, mretT_b, e_mret, ↓e_bret, ↓m_mon, ↓m_oI0, m_pI0, ↓m_oI3, m_pI3, ↓m_oI5, m_pI5, ↓m_oI7, m_pI7, ↓m_oI11, m_pI11, ↓m_oI12, m_pI12, ↓m_oI13, m_pI13, ↓m_oI14, m_pI14, ↓m_oI15, m_pI15, ↓m_oI16, m_pI16, ↓m_oI17, m_pI17, m_pZ5, m_pZ12, ↓m_oR1, m_aI1, m_sI1, ↓m_oR2, m_aI2, m_sI2, ↓m_oR4, m_aI4, m_sI4, ↓m_oR6, m_aI6, m_sI6, ↓m_oR8, m_aI8, m_sI8, ↓m_oR9, m_aI9, m_sI9, ↓m_oR10, m_aI10, m_sI10, X7_isShape_c, b2_t hs, h1]
    · obtain ⟨M1, e1, e2, e3, e4⟩ := X7_noTable_ev (g := g) (h := h) (n := n) (w := 0) (m := m) hz h10 hs.1 hs.2.1 hs.2.2
      refine ⟨M1, _, ?_, e2, e3, e4, rfl⟩
      by_cases h3 : pck (zadd (M 1) k (16 * y + x) u) ≤ 0
      · rw [if_neg (by omega)]
        unfold fX7_noAdd
        simp (disch := omega) only [↓reduceIte, Int.reduceEq, Int.reduceNe, Int.reduceLT, Int.reduceLE, Int.reduceNeg, Int.reduceMod, Int.reduceDiv, Int.reduceAdd, Int.reduceSub, Int.reduceMul, not_true_eq_false, not_false_eq_true, true_or, or_true, false_or, or_false, true_and, and_true, false_and, and_false, b2_T, b2_F, if_true, if_false, ↓mjn_b, ↓mjn0_b, ↓mjn2_b, iv_lit, iv_add, iv_sub, iv_mul, iv_neg, iv_le_t, iv_le_f, iv_lt_t, iv_lt_f, iv_eq_t, iv_eq_f, iv_div, iv_mod, mretT_p, mretT_b, e_mret, ↓e_bret, ↓m_mon, ↓m_oI0, m_pI0, ↓m_oI3, m_pI3, ↓m_oI5, m_pI5, ↓m_oI7, m_pI7, ↓m_oI11, m_pI11, ↓m_oI12, m_pI12, ↓m_oI13, m_pI13, ↓m_oI14, m_pI14, ↓m_oI15, m_pI15, ↓m_oI16, m_pI16, ↓m_oI17, m_pI17, m_pZ5, m_pZ12, ↓m_oR1, m_aI1, m_sI1, ↓m_oR2, m_aI2, m_sI2, ↓m_oR4, m_aI4, m_sI4, ↓m_oR6, m_aI6, m_sI6, ↓m_oR8, m_aI8, m_sI8, ↓m_oR9, m_aI9, m_sI9, ↓m_oR10, m_aI10, m_sI10, X7_isShape_c, b2_t hs, h1, e_call0 e1]
      · rw [if_pos (by omega)]
        unfold fX7_noAdd
        simp (disch := omega) only [↓reduceIte, Int.reduceEq, Int.reduceNe, Int.reduceLT, Int.reduceLE, Int.reduceNeg, Int.reduceMod, Int.reduceDiv, Int.reduceAdd, Int.reduceSub, Int.reduceMul, not_true_eq_false, not_false_eq_true, true_or, or_true, false_or, or_false, true_and, and_true, false_and, and_false, b2_T, b2_F, if_true, if_false, ↓mjn_b, ↓mjn0_b, ↓mjn2_b, iv_lit, iv_add, iv_sub, iv_mul, iv_neg, iv_le_t, iv_le_f, iv_lt_t, iv_lt_f, iv_eq_t, iv_eq_f, iv_div, iv_mod, mretT_p, mretT_b, e_mret, ↓e_bret, ↓m_mon, ↓m_oI0, m_pI0, ↓m_oI3, m_pI3, ↓m_oI5, m_pI5, ↓m_oI7, m_pI7, ↓m_oI11, m_pI11, ↓m_oI12, m_pI12, ↓m_oI13, m_pI13, ↓m_oI14, m_pI14, ↓m_oI15, m_pI15, ↓m_oI16, m_pI16, ↓m_oI17, m_pI17, m_pZ5, m_pZ12, ↓m_oR1, m_aI1, m_sI1, ↓m_oR2, m_aI2, m_sI2, ↓m_oR4, m_aI4, m_sI4, ↓m_oR6, m_aI6, m_sI6, ↓m_oR8, m_aI8, m_sI8, ↓m_oR9, m_aI9, m_sI9, ↓m_oR10, m_aI10, m_sI10, X7_isShape_c, b2_t hs, h1, e_call0 e1]
  · refine ⟨M, _, ?_, qsm_rf, zeq_rf, rfl, rfl⟩
    rw [if_neg hs]
    unfold fX7_noAdd
    simp (disch := omega) only [↓reduceIte, Int.reduceEq, Int.reduceNe, Int.reduceLT, Int.reduceLE, Int.reduceNeg, Int.reduceMod, Int.reduceDiv, Int.reduceAdd, Int.reduceSub, Int.reduceMul, not_true_eq_false, not_false_eq_true, true_or, or_true, false_or, or_false, true_and, and_true, false_and, and_false, b2_T, b2_F, if_true, if_false, ↓mjn_b, ↓mjn0_b, ↓mjn2_b, iv_lit, iv_add, iv_sub, iv_mul, iv_neg, iv_le_t, iv_le_f, iv_lt_t, iv_lt_f, iv_eq_t, iv_eq_f, iv_div, iv_mod, mretT_p, mretT_b, e_mret, ↓e_bret, ↓m_mon, ↓m_oI0, m_pI0, ↓m_oI3, m_pI3, ↓m_oI5, m_pI5, ↓m_oI7, m_pI7, ↓m_oI11, m_pI11, ↓m_oI12, m_pI12, ↓m_oI13, m_pI13, ↓m_oI14, m_pI14, ↓m_oI15, m_pI15, ↓m_oI16, m_pI16, ↓m_oI17, m_pI17, m_pZ5, m_pZ12, ↓m_oR1, m_aI1, m_sI1, ↓m_oR2, m_aI2, m_sI2, ↓m_oR4, m_aI4, m_sI4, ↓m_oR6, m_aI6, m_sI6, ↓m_oR8, m_aI8, m_sI8, ↓m_oR9, m_aI9, m_sI9, ↓m_oR10, m_aI10, m_sI10, X7_isShape_c, b2_f hs]
theorem iu_back2 {F : Int → Int} {a b x y : Int} : iu (iu (iu (iu F a x) b y) a (F a)) b (F b) = F := by
  funext j
  unfold iu
  by_cases h : j = b
  · rw [if_pos h, h]
  · rw [if_neg h]
    by_cases h2 : j = a
    · rw [if_pos h2, h2]
    · rw [if_neg h2, if_neg h, if_neg h2]
theorem X7_canStand_ev {g : Nat → Nat} {h : Nat → Option hC} {n w m : Nat} {M : Mm} {t p u : Int} (hz : wH (M 1)) (ht : 0 ≤ t ∧ t < M 1 15) (hp : 0 ≤ p ∧ p < 192) (hu : 0 ≤ u ∧ u ≤ 3) :
    ∃ (M' : Mm), fX7_canStand g (some m) (iv t) (iv p) (iv u) (md m M h, n, w) = some (iv (b2 (pck (zset (M 1) t p u) = 0)), (md m M' h, n, w)) ∧ qsm M M' ∧ M' 1 = M 1 := by
  have h15 := hz.2.2.2.2.1
  have h1 : (mu (mu M 1 (16 + 4 * t + 1) p) 1 (16 + 4 * t + 2) u) 1 = zset (M 1) t p u := by rw [mu_iu, mu_iu]; rfl
  obtain ⟨M1, e1, e2, -⟩ := X7_check0 (g := g) (h := h) (n := n) (w := 0) (m := m) (M := mu (mu M 1 (16 + 4 * t + 1) p) 1 (16 + 4 * t + 2) u) (by rw [h1]; exact wH_set hz ht hp hu)
  rw [h1] at e1
  have h11 : M1 1 = zset (M 1) t p u := by rw [e2 1 (by decide) (by decide) (by decide), h1]
  have hpr := pck_rg (zset (M 1) t p u)
  refine ⟨mu (mu M1 1 (16 + 4 * t + 1) (M 1 (16 + 4 * t + 1))) 1 (16 + 4 * t + 2) (M 1 (16 + 4 * t + 2)), ?_, fun b b1 b8 b9 b10 => by rw [mu_ob b1, mu_ob b1, e2 b b8 b9 b10, mu_ob b1, mu_ob b1], ?_⟩
  · unfold fX7_canStand
    by_cases h0 : pck (zset (M 1) t p u) = 0
    · rw [b2_t h0]
      simp (disch := omega) only [↓reduceIte, Int.reduceEq, Int.reduceNe, Int.reduceLT, Int.reduceLE, Int.reduceNeg, Int.reduceMod, Int.reduceDiv, Int.reduceAdd, Int.reduceSub, Int.reduceMul, not_true_eq_false, not_false_eq_true, true_or, or_true, false_or, or_false, true_and, and_true, false_and, and_false, b2_T, b2_F, if_true, if_false, ↓mjn_b, ↓mjn0_b, ↓mjn2_b, iv_lit, iv_add, iv_sub, iv_mul, iv_neg, iv_le_t, iv_le_f, iv_lt_t, iv_lt_f, iv_eq_t, iv_eq_f, iv_div, iv_mod, mretT_p, mretT_b, e_mret, ↓e_bret, ↓m_mon, ↓m_oI0, m_pI0, ↓m_oI3, m_pI3, ↓m_oI5, m_pI5, ↓m_oI7, m_pI7, ↓m_oI11, m_pI11, ↓m_oI12, m_pI12, ↓m_oI13, m_pI13, ↓m_oI14, m_pI14, ↓m_oI15, m_pI15, ↓m_oI16, m_pI16, ↓m_oI17, m_pI17, m_pZ5, m_pZ12, ↓m_oR1, m_aI1, m_sI1, ↓m_oR2, m_aI2, m_sI2, ↓m_oR4, m_aI4, m_sI4, ↓m_oR6, m_aI6, m_sI6, ↓m_oR8, m_aI8, m_sI8, ↓m_oR9, m_aI9, m_sI9, ↓m_oR10, m_aI10, m_sI10, X7_table_c, X7_setTable_c, e_call0 e1, h0, mu_ob (show (1 : Nat) ≠ 0 by decide)]
    · rw [b2_f h0]
      simp (disch := omega) only [↓reduceIte, Int.reduceEq, Int.reduceNe, Int.reduceLT, Int.reduceLE, Int.reduceNeg, Int.reduceMod, Int.reduceDiv, Int.reduceAdd, Int.reduceSub, Int.reduceMul, not_true_eq_false, not_false_eq_true, true_or, or_true, false_or, or_false, true_and, and_true, false_and, and_false, b2_T, b2_F, if_true, if_false, ↓mjn_b, ↓mjn0_b, ↓mjn2_b, iv_lit, iv_add, iv_sub, iv_mul, iv_neg, iv_le_t, iv_le_f, iv_lt_t, iv_lt_f, iv_eq_t, iv_eq_f, iv_div, iv_mod, mretT_p, mretT_b, e_mret, ↓e_bret, ↓m_mon, ↓m_oI0, m_pI0, ↓m_oI3, m_pI3, ↓m_oI5, m_pI5, ↓m_oI7, m_pI7, ↓m_oI11, m_pI11, ↓m_oI12, m_pI12, ↓m_oI13, m_pI13, ↓m_oI14, m_pI14, ↓m_oI15, m_pI15, ↓m_oI16, m_pI16, ↓m_oI17, m_pI17, m_pZ5, m_pZ12, ↓m_oR1, m_aI1, m_sI1, ↓m_oR2, m_aI2, m_sI2, ↓m_oR4, m_aI4, m_sI4, ↓m_oR6, m_aI6, m_sI6, ↓m_oR8, m_aI8, m_sI8, ↓m_oR9, m_aI9, m_sI9, ↓m_oR10, m_aI10, m_sI10, X7_table_c, X7_setTable_c, e_call0 e1, h0, mu_ob (show (1 : Nat) ≠ 0 by decide)]
  · rw [mu_iu, mu_iu, h11]
    unfold zset
    exact iu_back2
theorem plat_rg {z : Int → Int} (h2 : 0 ≤ z 2) (c : Int) : -1 ≤ plat z c ∧ plat z c < z 2 ∧ (plat z c ≠ -1 → z (3 + plat z c) = c) ∧ (plat z c = -1 → ∀ k, 0 ≤ k → k < z 2 → z (3 + k) ≠ c) := by
  have h := foldI_inv (s := fun a k => if z (3 + k) = c then k else a) (fun j a => -1 ≤ a ∧ a < j ∧ (a ≠ -1 → z (3 + a) = c) ∧ (a = -1 → ∀ k, 0 ≤ k → k < j → z (3 + k) ≠ c)) (z 2).toNat (-1) 0 ⟨by omega, by omega, fun q => absurd rfl q, fun _ k a b => by omega⟩ (fun b j h1 h2 ⟨p1, p2, p3, p4⟩ => by
    by_cases h : z (3 + j) = c
    · simp only [if_pos h]
      exact ⟨by omega, by omega, fun _ => h, fun q => by omega⟩
    · simp only [if_neg h]
      refine ⟨p1, by omega, p3, fun q k a b => ?_⟩
      by_cases e : k = j
      · rw [e]; exact h
      · exact p4 q k a (by omega))
  rw [show (0 : Int) + (((z 2).toNat : Nat) : Int) = z 2 by omega] at h
  exact h
/-- a pillar turned -/
def ztp (z : Int → Int) (c : Int) : Int → Int := if plat z c = -1 then zpil z c else iu (iu z 2 (z 2 - 1)) (3 + plat z c) (z (3 + (z 2 - 1)))
theorem X7_turnsPillar_ev {g : Nat → Nat} {h : Nat → Option hC} {n w m : Nat} {M : Mm} {c : Int} (hz : wH (M 1)) (hc : 0 ≤ c ∧ c < 192) (hn : plat (M 1) c = -1 → M 1 2 < 12) :
    ∃ (M' : Mm), fX7_turnsPillar g (some m) (iv c) (md m M h, n, w) = some (iv (b2 (plat (M 1) c = -1)), (md m M' h, n, w)) ∧ (∀ b, b ≠ 1 → M' b = M b) ∧ M' 1 = ztp (M 1) c := by
  have h2 := hz.2.2.1
  have hp := plat_rg h2.1 c
  by_cases h1 : plat (M 1) c = -1
  · have := hn h1
    refine ⟨mu (mu M 1 (3 + M 1 2) c) 1 2 (M 1 2 + 1), ?_, fun b b1 => by rw [mu_ob b1, mu_ob b1], by rw [mu_iu, mu_iu]; unfold ztp; rw [if_pos h1]; rfl⟩
    rw [b2_t h1]
    unfold fX7_turnsPillar
    simp (disch := omega) only [↓reduceIte, Int.reduceEq, Int.reduceNe, Int.reduceLT, Int.reduceLE, Int.reduceNeg, Int.reduceMod, Int.reduceDiv, Int.reduceAdd, Int.reduceSub, Int.reduceMul, not_true_eq_false, not_false_eq_true, true_or, or_true, false_or, or_false, true_and, and_true, false_and, and_false, b2_T, b2_F, if_true, if_false, ↓mjn_b, ↓mjn0_b, ↓mjn2_b, iv_lit, iv_add, iv_sub, iv_mul, iv_neg, iv_le_t, iv_le_f, iv_lt_t, iv_lt_f, iv_eq_t, iv_eq_f, iv_div, iv_mod, mretT_p, mretT_b, e_mret, ↓e_bret, ↓m_mon, ↓m_oI0, m_pI0, ↓m_oI3, m_pI3, ↓m_oI5, m_pI5, ↓m_oI7, m_pI7, ↓m_oI11, m_pI11, ↓m_oI12, m_pI12, ↓m_oI13, m_pI13, ↓m_oI14, m_pI14, ↓m_oI15, m_pI15, ↓m_oI16, m_pI16, ↓m_oI17, m_pI17, m_pZ5, m_pZ12, ↓m_oR1, m_aI1, m_sI1, ↓m_oR2, m_aI2, m_sI2, ↓m_oR4, m_aI4, m_sI4, ↓m_oR6, m_aI6, m_sI6, ↓m_oR8, m_aI8, m_sI8, ↓m_oR9, m_aI9, m_sI9, ↓m_oR10, m_aI10, m_sI10, X7_pillarAt_c, hz, h1, mu_nb, mu_at, mu_ni]
  · refine ⟨mu (mu M 1 2 (M 1 2 - 1)) 1 (3 + plat (M 1) c) (M 1 (3 + (M 1 2 - 1))), ?_, fun b b1 => by rw [mu_ob b1, mu_ob b1], by rw [mu_iu, mu_iu]; unfold ztp; rw [if_neg h1]⟩
    rw [b2_f h1]
    unfold fX7_turnsPillar
    simp (disch := omega) only [↓reduceIte, Int.reduceEq, Int.reduceNe, Int.reduceLT, Int.reduceLE, Int.reduceNeg, Int.reduceMod, Int.reduceDiv, Int.reduceAdd, Int.reduceSub, Int.reduceMul, not_true_eq_false, not_false_eq_true, true_or, or_true, false_or, or_false, true_and, and_true, false_and, and_false, b2_T, b2_F, if_true, if_false, ↓mjn_b, ↓mjn0_b, ↓mjn2_b, iv_lit, iv_add, iv_sub, iv_mul, iv_neg, iv_le_t, iv_le_f, iv_lt_t, iv_lt_f, iv_eq_t, iv_eq_f, iv_div, iv_mod, mretT_p, mretT_b, e_mret, ↓e_bret, ↓m_mon, ↓m_oI0, m_pI0, ↓m_oI3, m_pI3, ↓m_oI5, m_pI5, ↓m_oI7, m_pI7, ↓m_oI11, m_pI11, ↓m_oI12, m_pI12, ↓m_oI13, m_pI13, ↓m_oI14, m_pI14, ↓m_oI15, m_pI15, ↓m_oI16, m_pI16, ↓m_oI17, m_pI17, m_pZ5, m_pZ12, ↓m_oR1, m_aI1, m_sI1, ↓m_oR2, m_aI2, m_sI2, ↓m_oR4, m_aI4, m_sI4, ↓m_oR6, m_aI6, m_sI6, ↓m_oR8, m_aI8, m_sI8, ↓m_oR9, m_aI9, m_sI9, ↓m_oR10, m_aI10, m_sI10, X7_pillarAt_c, hz, h1, mu_nb, mu_at, mu_ni]
theorem X7_noTurnPillar_ev {g : Nat → Nat} {h : Nat → Option hC} {n w m : Nat} {M : Mm} {x y : Int} (hz : wH (M 1)) (hx : -2147483648 ≤ x ∧ x < 2147483648) (hy : -2147483648 ≤ y ∧ y < 2147483648) :
    ∃ (M' : Mm) (r : Int), fX7_noTurnPillar g (some m) (iv x) (iv y) (md m M h, n, w) = some (iv r, (md m M' h, n, w)) ∧ qsm M M' ∧ zeq (M 1) (M' 1) ∧
      r = @ite Int (inR x y) (Classical.propDecidable _) (@ite Int (plat (M 1) (16 * y + x) = -1 ∧ 0 < npl (M 1) (16 * y + x)) (Classical.propDecidable _) 2 0) 1 := by
  by_cases hi : inR x y
  · have hi2 := hi
    unfold inR at hi2
    have hc : cin (16 * y + x) := by unfold cin; omega
    have hp := plat_rg hz.2.2.1.1 (16 * y + x)
    have h2 := hz.2.2.1
    rw [if_pos hi]
    by_cases h1 : plat (M 1) (16 * y + x) = -1
    · obtain ⟨M1, e1, e2, e3, -⟩ := X7_noPillar_ev (g := g) (h := h) (n := n) (w := 0) (m := m) hz hc
      have hr : 0 ≤ npl (M 1) (16 * y + x) ∧ npl (M 1) (16 * y + x) ≤ 3 := by
        unfold npl
        split
        · omega
        · exact pck_rg _
      refine ⟨M1, _, ?_, e2, e3, rfl⟩
      unfold cin at hc
      by_cases h3 : npl (M 1) (16 * y + x) ≤ 0
      · rw [if_neg (by omega)]
        unfold fX7_noTurnPillar
        simp (disch := omega) only [↓reduceIte, Int.reduceEq, Int.reduceNe, Int.reduceLT, Int.reduceLE, Int.reduceNeg, Int.reduceMod, Int.reduceDiv, Int.reduceAdd, Int.reduceSub, Int.reduceMul, not_true_eq_false, not_false_eq_true, true_or, or_true, false_or, or_false, true_and, and_true, false_and, and_false, b2_T, b2_F, if_true, if_false, ↓mjn_b, ↓mjn0_b, ↓mjn2_b, iv_lit, iv_add, iv_sub, iv_mul, iv_neg, iv_le_t, iv_le_f, iv_lt_t, iv_lt_f, iv_eq_t, iv_eq_f, iv_div, iv_mod, mretT_p, mretT_b, e_mret, ↓e_bret, ↓m_mon, ↓m_oI0, m_pI0, ↓m_oI3, m_pI3, ↓m_oI5, m_pI5, ↓m_oI7, m_pI7, ↓m_oI11, m_pI11, ↓m_oI12, m_pI12, ↓m_oI13, m_pI13, ↓m_oI14, m_pI14, ↓m_oI15, m_pI15, ↓m_oI16, m_pI16, ↓m_oI17, m_pI17, m_pZ5, m_pZ12, ↓m_oR1, m_aI1, m_sI1, ↓m_oR2, m_aI2, m_sI2, ↓m_oR4, m_aI4, m_sI4, ↓m_oR6, m_aI6, m_sI6, ↓m_oR8, m_aI8, m_sI8, ↓m_oR9, m_aI9, m_sI9, ↓m_oR10, m_aI10, m_sI10, X7_isCell_c, b2_t hi2, X7_pillarAt_c, hz, h1, e_call0 e1]
      · rw [if_pos (by omega)]
        unfold fX7_noTurnPillar
        simp (disch := omega) only [↓reduceIte, Int.reduceEq, Int.reduceNe, Int.reduceLT, Int.reduceLE, Int.reduceNeg, Int.reduceMod, Int.reduceDiv, Int.reduceAdd, Int.reduceSub, Int.reduceMul, not_true_eq_false, not_false_eq_true, true_or, or_true, false_or, or_false, true_and, and_true, false_and, and_false, b2_T, b2_F, if_true, if_false, ↓mjn_b, ↓mjn0_b, ↓mjn2_b, iv_lit, iv_add, iv_sub, iv_mul, iv_neg, iv_le_t, iv_le_f, iv_lt_t, iv_lt_f, iv_eq_t, iv_eq_f, iv_div, iv_mod, mretT_p, mretT_b, e_mret, ↓e_bret, ↓m_mon, ↓m_oI0, m_pI0, ↓m_oI3, m_pI3, ↓m_oI5, m_pI5, ↓m_oI7, m_pI7, ↓m_oI11, m_pI11, ↓m_oI12, m_pI12, ↓m_oI13, m_pI13, ↓m_oI14, m_pI14, ↓m_oI15, m_pI15, ↓m_oI16, m_pI16, ↓m_oI17, m_pI17, m_pZ5, m_pZ12, ↓m_oR1, m_aI1, m_sI1, ↓m_oR2, m_aI2, m_sI2, ↓m_oR4, m_aI4, m_sI4, ↓m_oR6, m_aI6, m_sI6, ↓m_oR8, m_aI8, m_sI8, ↓m_oR9, m_aI9, m_sI9, ↓m_oR10, m_aI10, m_sI10, X7_isCell_c, b2_t hi2, X7_pillarAt_c, hz, h1, e_call0 e1]
    · refine ⟨M, _, ?_, qsm_rf, zeq_rf, rfl⟩
      unfold cin at hc
      rw [if_neg (fun q => h1 q.1)]
      unfold fX7_noTurnPillar
      simp (disch := omega) only [↓reduceIte, Int.reduceEq, Int.reduceNe, Int.reduceLT, Int.reduceLE, Int.reduceNeg, Int.reduceMod, Int.reduceDiv, Int.reduceAdd, Int.reduceSub, Int.reduceMul, not_true_eq_false, not_false_eq_true, true_or, or_true, false_or, or_false, true_and, and_true, false_and, and_false, b2_T, b2_F, if_true, if_false, ↓mjn_b, ↓mjn0_b, ↓mjn2_b, iv_lit, iv_add, iv_sub, iv_mul, iv_neg, iv_le_t, iv_le_f, iv_lt_t, iv_lt_f, iv_eq_t, iv_eq_f, iv_div, iv_mod, mretT_p, mretT_b, e_mret, ↓e_bret, ↓m_mon, ↓m_oI0, m_pI0, ↓m_oI3, m_pI3, ↓m_oI5, m_pI5, ↓m_oI7, m_pI7, ↓m_oI11, m_pI11, ↓m_oI12, m_pI12, ↓m_oI13, m_pI13, ↓m_oI14, m_pI14, ↓m_oI15, m_pI15, ↓m_oI16, m_pI16, ↓m_oI17, m_pI17, m_pZ5, m_pZ12, ↓m_oR1, m_aI1, m_sI1, ↓m_oR2, m_aI2, m_sI2, ↓m_oR4, m_aI4, m_sI4, ↓m_oR6, m_aI6, m_sI6, ↓m_oR8, m_aI8, m_sI8, ↓m_oR9, m_aI9, m_sI9, ↓m_oR10, m_aI10, m_sI10, X7_isCell_c, b2_t hi2, X7_pillarAt_c, hz, h1]
  · refine ⟨M, _, ?_, qsm_rf, zeq_rf, rfl⟩
    rw [if_neg hi]
    unfold inR at hi
    unfold fX7_noTurnPillar
    simp (disch := omega) only [↓reduceIte, Int.reduceEq, Int.reduceNe, Int.reduceLT, Int.reduceLE, Int.reduceNeg, Int.reduceMod, Int.reduceDiv, Int.reduceAdd, Int.reduceSub, Int.reduceMul, not_true_eq_false, not_false_eq_true, true_or, or_true, false_or, or_false, true_and, and_true, false_and, and_false, b2_T, b2_F, if_true, if_false, ↓mjn_b, ↓mjn0_b, ↓mjn2_b, iv_lit, iv_add, iv_sub, iv_mul, iv_neg, iv_le_t, iv_le_f, iv_lt_t, iv_lt_f, iv_eq_t, iv_eq_f, iv_div, iv_mod, mretT_p, mretT_b, e_mret, ↓e_bret, ↓m_mon, ↓m_oI0, m_pI0, ↓m_oI3, m_pI3, ↓m_oI5, m_pI5, ↓m_oI7, m_pI7, ↓m_oI11, m_pI11, ↓m_oI12, m_pI12, ↓m_oI13, m_pI13, ↓m_oI14, m_pI14, ↓m_oI15, m_pI15, ↓m_oI16, m_pI16, ↓m_oI17, m_pI17, m_pZ5, m_pZ12, ↓m_oR1, m_aI1, m_sI1, ↓m_oR2, m_aI2, m_sI2, ↓m_oR4, m_aI4, m_sI4, ↓m_oR6, m_aI6, m_sI6, ↓m_oR8, m_aI8, m_sI8, ↓m_oR9, m_aI9, m_sI9, ↓m_oR10, m_aI10, m_sI10, X7_isCell_c, b2_f hi]
