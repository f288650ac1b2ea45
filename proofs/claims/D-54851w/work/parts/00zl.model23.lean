/-! ===== the model: the last questions ===== -/
theorem MR_w {g : Nat → Nat} {m n : Nat} {h : Nat → Option hC} {M : Mm} {f : HM Int32} {o : Int × Int × XS} (a : MR m h n (f (md m M h, n, 0)) o) : MR m h n (mb (mon 12 (some m) (mcall0 f)) (fun x => mret x) (md m M h, n, 0)) o := by
  obtain ⟨M', r, e, c⟩ := a
  refine ⟨M', r, ?_, c⟩
  rw [m_mon, e_call0 e, e_mret]
noncomputable def o_whatIsAt (x : XS) (a : Int) (b : Int) : Int × Int × XS := @ite (Int × Int × XS) (inR a b) (Classical.propDecidable _) (0, if 30 ≤ mpz x.1 (16 * b + a) then mpz x.1 (16 * b + a) - 10 else mpz x.1 (16 * b + a), x) (1, 0, x)
theorem MR_whatIsAt {g : Nat → Nat} {h : Nat → Option hC} {n m : Nat} {M : Mm} {x : XS} {a b : Int} (hs : MS M x) (ha : -2147483648 ≤ a ∧ a < 2147483648) (hb : -2147483648 ≤ b ∧ b < 2147483648) : MR m h n (fX7_whatIsAt g (some m) (iv a) (iv b) (md m M h, n, 0)) (o_whatIsAt x a b) := by
  have hz := MS_z hs
  have hx := hs.1
  unfold o_whatIsAt
  rw [hx]
  have h15 := wZ_15 hz
  have h60 := wZ_60 hz
  have hh := hz.1
  by_cases hg : inR a b
  · rw [if_pos hg]
    have hi := hg
    unfold inR at hi
    have hcin : cin (16 * b + a) := by unfold cin; omega
    obtain ⟨M2, c1, c2, c3, c4, c5, c6⟩ := MS_chk (g := g) (h := h) (n := n) (m := m) hs 0
    have e8 : M2 8 (16 * b + a) = mpz (M 1) (16 * b + a) := by rw [c3.1 _ hcin, c2]
    have r8 := mpz_rg c3 c6.1 hcin
    rw [c2] at r8
    refine MR_q hs M2 _ ?_ c5 (fun _ => rfl) (c4)
    unfold fX7_whatIsAt
    by_cases h30 : 30 ≤ mpz (M 1) (16 * b + a)
    · rw [if_pos h30]
      simp (disch := omega) only [↓reduceIte, Int.reduceEq, Int.reduceNe, Int.reduceLT, Int.reduceLE, Int.reduceNeg, Int.reduceMod, Int.reduceDiv, Int.reduceAdd, Int.reduceSub, Int.reduceMul, not_true_eq_false, not_false_eq_true, Int.lt_irrefl, true_or, or_true, false_or, or_false, true_and, and_true, false_and, and_false, b2_T, b2_F, if_true, if_false, ↓mjn_b, ↓mjn0_b, ↓mjn2_b, iv_lit, iv_add, iv_sub, iv_mul, iv_neg, iv_le_t, iv_le_f, iv_lt_t, iv_lt_f, iv_eq_t, iv_eq_f, iv_div, iv_mod, mretT_p, mretT_b, e_mret, ↓e_bret, ↓m_mon, ↓m_oI0, m_pI0, ↓m_oI3, m_pI3, ↓m_oI5, m_pI5, ↓m_oI7, m_pI7, ↓m_oI11, m_pI11, ↓m_oI12, m_pI12, ↓m_oI13, m_pI13, ↓m_oI14, m_pI14, ↓m_oI15, m_pI15, ↓m_oI16, m_pI16, ↓m_oI17, m_pI17, m_pZ5, m_pZ12, ↓m_oR1, m_aI1, m_sI1, ↓m_oR2, m_aI2, m_sI2, ↓m_oR4, m_aI4, m_sI4, ↓m_oR6, m_aI6, m_sI6, ↓m_oR8, m_aI8, m_sI8, ↓m_oR9, m_aI9, m_sI9, ↓m_oR10, m_aI10, m_sI10, X7_isCell_c, b2_t hi, e_call0 c1, e8, Int.zero_add, mu_nb, mu_at, mu_ni]
    · rw [if_neg h30]
      simp (disch := omega) only [↓reduceIte, Int.reduceEq, Int.reduceNe, Int.reduceLT, Int.reduceLE, Int.reduceNeg, Int.reduceMod, Int.reduceDiv, Int.reduceAdd, Int.reduceSub, Int.reduceMul, not_true_eq_false, not_false_eq_true, Int.lt_irrefl, true_or, or_true, false_or, or_false, true_and, and_true, false_and, and_false, b2_T, b2_F, if_true, if_false, ↓mjn_b, ↓mjn0_b, ↓mjn2_b, iv_lit, iv_add, iv_sub, iv_mul, iv_neg, iv_le_t, iv_le_f, iv_lt_t, iv_lt_f, iv_eq_t, iv_eq_f, iv_div, iv_mod, mretT_p, mretT_b, e_mret, ↓e_bret, ↓m_mon, ↓m_oI0, m_pI0, ↓m_oI3, m_pI3, ↓m_oI5, m_pI5, ↓m_oI7, m_pI7, ↓m_oI11, m_pI11, ↓m_oI12, m_pI12, ↓m_oI13, m_pI13, ↓m_oI14, m_pI14, ↓m_oI15, m_pI15, ↓m_oI16, m_pI16, ↓m_oI17, m_pI17, m_pZ5, m_pZ12, ↓m_oR1, m_aI1, m_sI1, ↓m_oR2, m_aI2, m_sI2, ↓m_oR4, m_aI4, m_sI4, ↓m_oR6, m_aI6, m_sI6, ↓m_oR8, m_aI8, m_sI8, ↓m_oR9, m_aI9, m_sI9, ↓m_oR10, m_aI10, m_sI10, X7_isCell_c, b2_t hi, e_call0 c1, e8, Int.zero_add, mu_nb, mu_at, mu_ni]
  · rw [if_neg hg]
    unfold inR at hg
    refine MR_q hs (mu M 0 0 1) (iv 0) ?_ mu_eq (fun q => by omega) qeff_0
    unfold fX7_whatIsAt
    simp (disch := omega) only [↓reduceIte, Int.reduceEq, Int.reduceNe, Int.reduceLT, Int.reduceLE, Int.reduceNeg, Int.reduceMod, Int.reduceDiv, Int.reduceAdd, Int.reduceSub, Int.reduceMul, not_true_eq_false, not_false_eq_true, Int.lt_irrefl, true_or, or_true, false_or, or_false, true_and, and_true, false_and, and_false, b2_T, b2_F, if_true, if_false, ↓mjn_b, ↓mjn0_b, ↓mjn2_b, iv_lit, iv_add, iv_sub, iv_mul, iv_neg, iv_le_t, iv_le_f, iv_lt_t, iv_lt_f, iv_eq_t, iv_eq_f, iv_div, iv_mod, mretT_p, mretT_b, e_mret, ↓e_bret, ↓m_mon, ↓m_oI0, m_pI0, ↓m_oI3, m_pI3, ↓m_oI5, m_pI5, ↓m_oI7, m_pI7, ↓m_oI11, m_pI11, ↓m_oI12, m_pI12, ↓m_oI13, m_pI13, ↓m_oI14, m_pI14, ↓m_oI15, m_pI15, ↓m_oI16, m_pI16, ↓m_oI17, m_pI17, m_pZ5, m_pZ12, ↓m_oR1, m_aI1, m_sI1, ↓m_oR2, m_aI2, m_sI2, ↓m_oR4, m_aI4, m_sI4, ↓m_oR6, m_aI6, m_sI6, ↓m_oR8, m_aI8, m_sI8, ↓m_oR9, m_aI9, m_sI9, ↓m_oR10, m_aI10, m_sI10, X7_isCell_c, b2_f hg, mu_nb, mu_at, mu_ni]
noncomputable def o_whyNoDoor (x : XS) (a : Int) (b : Int) : Int × Int × XS := @ite (Int × Int × XS) (inR a b) (Classical.propDecidable _) (0, pck (iu x.1 1 (16 * b + a)), x) (1, 0, x)
theorem MR_whyNoDoor {g : Nat → Nat} {h : Nat → Option hC} {n m : Nat} {M : Mm} {x : XS} {a b : Int} (hs : MS M x) (ha : -2147483648 ≤ a ∧ a < 2147483648) (hb : -2147483648 ≤ b ∧ b < 2147483648) : MR m h n (fX7_whyNoDoor g (some m) (iv a) (iv b) (md m M h, n, 0)) (o_whyNoDoor x a b) := by
  have hz := MS_z hs
  have hx := hs.1
  unfold o_whyNoDoor
  rw [hx]
  have h15 := wZ_15 hz
  have h60 := wZ_60 hz
  have hh := hz.1
  by_cases hg : inR a b
  · rw [if_pos hg]
    have hi := hg
    unfold inR at hi
    have hcin : cin (16 * b + a) := by unfold cin; omega
    obtain ⟨M2, d1, d2, d3⟩ := X7_noDoor_ev (g := g) (h := h) (n := n) (w := 0) (m := m) (M := mu M 0 0 0) (c := 16 * b + a) (by rw [mu_ob (by decide)]; exact hh) hcin
    rw [mu_ob (show (1 : Nat) ≠ 0 by decide)] at d1 d3
    refine MR_q hs M2 _ ?_ (qsm_0 d2) (fun _ => rfl) (qeff_of rfl d2 (by rw [mu_ob (by decide)]; rw [d3]; exact zeq_rf))
    unfold fX7_whyNoDoor
    simp (disch := omega) only [↓reduceIte, Int.reduceEq, Int.reduceNe, Int.reduceLT, Int.reduceLE, Int.reduceNeg, Int.reduceMod, Int.reduceDiv, Int.reduceAdd, Int.reduceSub, Int.reduceMul, not_true_eq_false, not_false_eq_true, Int.lt_irrefl, true_or, or_true, false_or, or_false, true_and, and_true, false_and, and_false, b2_T, b2_F, if_true, if_false, ↓mjn_b, ↓mjn0_b, ↓mjn2_b, iv_lit, iv_add, iv_sub, iv_mul, iv_neg, iv_le_t, iv_le_f, iv_lt_t, iv_lt_f, iv_eq_t, iv_eq_f, iv_div, iv_mod, mretT_p, mretT_b, e_mret, ↓e_bret, ↓m_mon, ↓m_oI0, m_pI0, ↓m_oI3, m_pI3, ↓m_oI5, m_pI5, ↓m_oI7, m_pI7, ↓m_oI11, m_pI11, ↓m_oI12, m_pI12, ↓m_oI13, m_pI13, ↓m_oI14, m_pI14, ↓m_oI15, m_pI15, ↓m_oI16, m_pI16, ↓m_oI17, m_pI17, m_pZ5, m_pZ12, ↓m_oR1, m_aI1, m_sI1, ↓m_oR2, m_aI2, m_sI2, ↓m_oR4, m_aI4, m_sI4, ↓m_oR6, m_aI6, m_sI6, ↓m_oR8, m_aI8, m_sI8, ↓m_oR9, m_aI9, m_sI9, ↓m_oR10, m_aI10, m_sI10, X7_isCell_c, b2_t hi, e_call0 d1, mu_nb, mu_at, mu_ni]
  · rw [if_neg hg]
    unfold inR at hg
    refine MR_q hs (mu M 0 0 1) (iv 0) ?_ mu_eq (fun q => by omega) qeff_0
    unfold fX7_whyNoDoor
    simp (disch := omega) only [↓reduceIte, Int.reduceEq, Int.reduceNe, Int.reduceLT, Int.reduceLE, Int.reduceNeg, Int.reduceMod, Int.reduceDiv, Int.reduceAdd, Int.reduceSub, Int.reduceMul, not_true_eq_false, not_false_eq_true, Int.lt_irrefl, true_or, or_true, false_or, or_false, true_and, and_true, false_and, and_false, b2_T, b2_F, if_true, if_false, ↓mjn_b, ↓mjn0_b, ↓mjn2_b, iv_lit, iv_add, iv_sub, iv_mul, iv_neg, iv_le_t, iv_le_f, iv_lt_t, iv_lt_f, iv_eq_t, iv_eq_f, iv_div, iv_mod, mretT_p, mretT_b, e_mret, ↓e_bret, ↓m_mon, ↓m_oI0, m_pI0, ↓m_oI3, m_pI3, ↓m_oI5, m_pI5, ↓m_oI7, m_pI7, ↓m_oI11, m_pI11, ↓m_oI12, m_pI12, ↓m_oI13, m_pI13, ↓m_oI14, m_pI14, ↓m_oI15, m_pI15, ↓m_oI16, m_pI16, ↓m_oI17, m_pI17, m_pZ5, m_pZ12, ↓m_oR1, m_aI1, m_sI1, ↓m_oR2, m_aI2, m_sI2, ↓m_oR4, m_aI4, m_sI4, ↓m_oR6, m_aI6, m_sI6, ↓m_oR8, m_aI8, m_sI8, ↓m_oR9, m_aI9, m_sI9, ↓m_oR10, m_aI10, m_sI10, X7_isCell_c, b2_f hg, mu_nb, mu_at, mu_ni]
noncomputable def o_whyNoPillar (x : XS) (a : Int) (b : Int) : Int × Int × XS := @ite (Int × Int × XS) (inR a b) (Classical.propDecidable _) (0, npl x.1 (16 * b + a), x) (1, 0, x)
theorem MR_whyNoPillar {g : Nat → Nat} {h : Nat → Option hC} {n m : Nat} {M : Mm} {x : XS} {a b : Int} (hs : MS M x) (ha : -2147483648 ≤ a ∧ a < 2147483648) (hb : -2147483648 ≤ b ∧ b < 2147483648) : MR m h n (fX7_whyNoPillar g (some m) (iv a) (iv b) (md m M h, n, 0)) (o_whyNoPillar x a b) := by
  have hz := MS_z hs
  have hx := hs.1
  unfold o_whyNoPillar
  rw [hx]
  have h15 := wZ_15 hz
  have h60 := wZ_60 hz
  have hh := hz.1
  by_cases hg : inR a b
  · rw [if_pos hg]
    have hi := hg
    unfold inR at hi
    have hcin : cin (16 * b + a) := by unfold cin; omega
    obtain ⟨M2, d1, d2, d3, -⟩ := X7_noPillar_ev (g := g) (h := h) (n := n) (w := 0) (m := m) (M := mu M 0 0 0) (c := 16 * b + a) (by rw [mu_ob (by decide)]; exact hh) hcin
    rw [mu_ob (show (1 : Nat) ≠ 0 by decide)] at d1 d3
    refine MR_q hs M2 _ ?_ (qsm_0 d2) (fun _ => rfl) (qeff_of rfl d2 (by rw [mu_ob (by decide)]; exact d3))
    unfold fX7_whyNoPillar
    simp (disch := omega) only [↓reduceIte, Int.reduceEq, Int.reduceNe, Int.reduceLT, Int.reduceLE, Int.reduceNeg, Int.reduceMod, Int.reduceDiv, Int.reduceAdd, Int.reduceSub, Int.reduceMul, not_true_eq_false, not_false_eq_true, Int.lt_irrefl, true_or, or_true, false_or, or_false, true_and, and_true, false_and, and_false, b2_T, b2_F, if_true, if_false, ↓mjn_b, ↓mjn0_b, ↓mjn2_b, iv_lit, iv_add, iv_sub, iv_mul, iv_neg, iv_le_t, iv_le_f, iv_lt_t, iv_lt_f, iv_eq_t, iv_eq_f, iv_div, iv_mod, mretT_p, mretT_b, e_mret, ↓e_bret, ↓m_mon, ↓m_oI0, m_pI0, ↓m_oI3, m_pI3, ↓m_oI5, m_pI5, ↓m_oI7, m_pI7, ↓m_oI11, m_pI11, ↓m_oI12, m_pI12, ↓m_oI13, m_pI13, ↓m_oI14, m_pI14, ↓m_oI15, m_pI15, ↓m_oI16, m_pI16, ↓m_oI17, m_pI17, m_pZ5, m_pZ12, ↓m_oR1, m_aI1, m_sI1, ↓m_oR2, m_aI2, m_sI2, ↓m_oR4, m_aI4, m_sI4, ↓m_oR6, m_aI6, m_sI6, ↓m_oR8, m_aI8, m_sI8, ↓m_oR9, m_aI9, m_sI9, ↓m_oR10, m_aI10, m_sI10, X7_isCell_c, b2_t hi, e_call0 d1, mu_nb, mu_at, mu_ni]
  · rw [if_neg hg]
    unfold inR at hg
    refine MR_q hs (mu M 0 0 1) (iv 0) ?_ mu_eq (fun q => by omega) qeff_0
    unfold fX7_whyNoPillar
    simp (disch := omega) only [↓reduceIte, Int.reduceEq, Int.reduceNe, Int.reduceLT, Int.reduceLE, Int.reduceNeg, Int.reduceMod, Int.reduceDiv, Int.reduceAdd, Int.reduceSub, Int.reduceMul, not_true_eq_false, not_false_eq_true, Int.lt_irrefl, true_or, or_true, false_or, or_false, true_and, and_true, false_and, and_false, b2_T, b2_F, if_true, if_false, ↓mjn_b, ↓mjn0_b, ↓mjn2_b, iv_lit, iv_add, iv_sub, iv_mul, iv_neg, iv_le_t, iv_le_f, iv_lt_t, iv_lt_f, iv_eq_t, iv_eq_f, iv_div, iv_mod, mretT_p, mretT_b, e_mret, ↓e_bret, ↓m_mon, ↓m_oI0, m_pI0, ↓m_oI3, m_pI3, ↓m_oI5, m_pI5, ↓m_oI7, m_pI7, ↓m_oI11, m_pI11, ↓m_oI12, m_pI12, ↓m_oI13, m_pI13, ↓m_oI14, m_pI14, ↓m_oI15, m_pI15, ↓m_oI16, m_pI16, ↓m_oI17, m_pI17, m_pZ5, m_pZ12, ↓m_oR1, m_aI1, m_sI1, ↓m_oR2, m_aI2, m_sI2, ↓m_oR4, m_aI4, m_sI4, ↓m_oR6, m_aI6, m_sI6, ↓m_oR8, m_aI8, m_sI8, ↓m_oR9, m_aI9, m_sI9, ↓m_oR10, m_aI10, m_sI10, X7_isCell_c, b2_f hg, mu_nb, mu_at, mu_ni]
noncomputable def o_whyNoTable (x : XS) (k : Int) (a : Int) (b : Int) (u : Int) : Int × Int × XS := @ite (Int × Int × XS) ((0 ≤ k ∧ k ≤ 2) ∧ inR a b ∧ 0 ≤ u ∧ u ≤ 3) (Classical.propDecidable _) (0, pck (zadd x.1 k (16 * b + a) u), x) (1, 0, x)
theorem MR_whyNoTable {g : Nat → Nat} {h : Nat → Option hC} {n m : Nat} {M : Mm} {x : XS} {k a b u : Int} (hs : MS M x) (hk : -2147483648 ≤ k ∧ k < 2147483648) (ha : -2147483648 ≤ a ∧ a < 2147483648) (hb : -2147483648 ≤ b ∧ b < 2147483648) (hu : -2147483648 ≤ u ∧ u < 2147483648) : MR m h n (fX7_whyNoTable g (some m) (iv k) (iv a) (iv b) (iv u) (md m M h, n, 0)) (o_whyNoTable x k a b u) := by
  have hz := MS_z hs
  have hx := hs.1
  unfold o_whyNoTable
  rw [hx]
  have h15 := wZ_15 hz
  have h60 := wZ_60 hz
  have hh := hz.1
  by_cases hg : (0 ≤ k ∧ k ≤ 2) ∧ inR a b ∧ 0 ≤ u ∧ u ≤ 3
  · rw [if_pos hg]
    obtain ⟨M2, d1, d2, d3, -⟩ := X7_noTable_ev (g := g) (h := h) (n := n) (w := 0) (m := m) (M := mu M 0 0 0) (k := k) (x := a) (y := b) (u := u) (by rw [mu_ob (by decide)]; exact hh) (by rw [mu_ob (by decide)]; exact h15.2) hg.1 hg.2.1 hg.2.2
    rw [mu_ob (show (1 : Nat) ≠ 0 by decide)] at d1 d3
    refine MR_q hs M2 _ ?_ (qsm_0 d2) (fun _ => rfl) (qeff_of rfl d2 (by rw [mu_ob (by decide)]; exact d3))
    unfold fX7_whyNoTable
    simp (disch := omega) only [↓reduceIte, Int.reduceEq, Int.reduceNe, Int.reduceLT, Int.reduceLE, Int.reduceNeg, Int.reduceMod, Int.reduceDiv, Int.reduceAdd, Int.reduceSub, Int.reduceMul, not_true_eq_false, not_false_eq_true, Int.lt_irrefl, true_or, or_true, false_or, or_false, true_and, and_true, false_and, and_false, b2_T, b2_F, if_true, if_false, ↓mjn_b, ↓mjn0_b, ↓mjn2_b, iv_lit, iv_add, iv_sub, iv_mul, iv_neg, iv_le_t, iv_le_f, iv_lt_t, iv_lt_f, iv_eq_t, iv_eq_f, iv_div, iv_mod, mretT_p, mretT_b, e_mret, ↓e_bret, ↓m_mon, ↓m_oI0, m_pI0, ↓m_oI3, m_pI3, ↓m_oI5, m_pI5, ↓m_oI7, m_pI7, ↓m_oI11, m_pI11, ↓m_oI12, m_pI12, ↓m_oI13, m_pI13, ↓m_oI14, m_pI14, ↓m_oI15, m_pI15, ↓m_oI16, m_pI16, ↓m_oI17, m_pI17, m_pZ5, m_pZ12, ↓m_oR1, m_aI1, m_sI1, ↓m_oR2, m_aI2, m_sI2, ↓m_oR4, m_aI4, m_sI4, ↓m_oR6, m_aI6, m_sI6, ↓m_oR8, m_aI8, m_sI8, ↓m_oR9, m_aI9, m_sI9, ↓m_oR10, m_aI10, m_sI10, X7_isShape_c, b2_t hg, e_call0 d1, mu_nb, mu_at, mu_ni]
  · rw [if_neg hg]
    refine MR_q hs (mu M 0 0 1) (iv 0) ?_ mu_eq (fun q => by omega) qeff_0
    unfold fX7_whyNoTable
    simp (disch := omega) only [↓reduceIte, Int.reduceEq, Int.reduceNe, Int.reduceLT, Int.reduceLE, Int.reduceNeg, Int.reduceMod, Int.reduceDiv, Int.reduceAdd, Int.reduceSub, Int.reduceMul, not_true_eq_false, not_false_eq_true, Int.lt_irrefl, true_or, or_true, false_or, or_false, true_and, and_true, false_and, and_false, b2_T, b2_F, if_true, if_false, ↓mjn_b, ↓mjn0_b, ↓mjn2_b, iv_lit, iv_add, iv_sub, iv_mul, iv_neg, iv_le_t, iv_le_f, iv_lt_t, iv_lt_f, iv_eq_t, iv_eq_f, iv_div, iv_mod, mretT_p, mretT_b, e_mret, ↓e_bret, ↓m_mon, ↓m_oI0, m_pI0, ↓m_oI3, m_pI3, ↓m_oI5, m_pI5, ↓m_oI7, m_pI7, ↓m_oI11, m_pI11, ↓m_oI12, m_pI12, ↓m_oI13, m_pI13, ↓m_oI14, m_pI14, ↓m_oI15, m_pI15, ↓m_oI16, m_pI16, ↓m_oI17, m_pI17, m_pZ5, m_pZ12, ↓m_oR1, m_aI1, m_sI1, ↓m_oR2, m_aI2, m_sI2, ↓m_oR4, m_aI4, m_sI4, ↓m_oR6, m_aI6, m_sI6, ↓m_oR8, m_aI8, m_sI8, ↓m_oR9, m_aI9, m_sI9, ↓m_oR10, m_aI10, m_sI10, X7_isShape_c, b2_f hg, mu_nb, mu_at, mu_ni]
noncomputable def o_stepsFromDoor (x : XS) (t : Int) (c : Int) : Int × Int × XS := @ite (Int × Int × XS) (isCh x.1 t c) (Classical.propDecidable _) (0, stz x.1 (chT x.1 t c), x) (1, 0, x)
theorem MR_stepsFromDoor {g : Nat → Nat} {h : Nat → Option hC} {n m : Nat} {M : Mm} {x : XS} {t c : Int} (hs : MS M x) (ht : -2147483648 ≤ t ∧ t < 2147483648) (hc : -2147483648 ≤ c ∧ c < 2147483648) : MR m h n (fX7_stepsFromDoor g (some m) (iv t) (iv c) (md m M h, n, 0)) (o_stepsFromDoor x t c) := by
  have hz := MS_z hs
  have hx := hs.1
  unfold o_stepsFromDoor
  rw [hx]
  have h15 := wZ_15 hz
  have h60 := wZ_60 hz
  have hh := hz.1
  have ec := X7_isChair_ev (g := g) (h := h) (n := n) (w := 0) (m := m) (M := M) hz ht hc
  by_cases hg : isCh (M 1) t c
  · rw [if_pos hg]
    have hg2 := hg
    unfold isCh at hg2
    have hw := wZ_t hz hg2.1
    have hcn := chN_rg (zk (M 1) t)
    have hci := chT_cin ((pck_0i hz.2.2.2.2.2.2).1 t hg2.1.1 hg2.1.2) hg2.2
    have hci2 := hci
    unfold cin at hci2
    obtain ⟨M2, c1, c2, c3, c4, c5, c6⟩ := MS_chk (g := g) (h := h) (n := n) (m := m) hs 0
    have e1 := X7_cellOfChair_ev (g := g) (h := h) (n := n) (w := 0) (m := m) (M := M2) (t := t) (c := c) (by omega) (by rw [c2]; exact hw) (by omega)
    rw [c2] at e1
    have e9 : M2 9 (chT (M 1) t c) = stz (M 1) (chT (M 1) t c) := by rw [(c3.2 _ hci).1, c2]
    refine MR_q hs M2 _ ?_ c5 (fun _ => rfl) (c4)
    unfold fX7_stepsFromDoor
    simp (disch := omega) only [↓reduceIte, Int.reduceEq, Int.reduceNe, Int.reduceLT, Int.reduceLE, Int.reduceNeg, Int.reduceMod, Int.reduceDiv, Int.reduceAdd, Int.reduceSub, Int.reduceMul, not_true_eq_false, not_false_eq_true, Int.lt_irrefl, true_or, or_true, false_or, or_false, true_and, and_true, false_and, and_false, b2_T, b2_F, if_true, if_false, ↓mjn_b, ↓mjn0_b, ↓mjn2_b, iv_lit, iv_add, iv_sub, iv_mul, iv_neg, iv_le_t, iv_le_f, iv_lt_t, iv_lt_f, iv_eq_t, iv_eq_f, iv_div, iv_mod, mretT_p, mretT_b, e_mret, ↓e_bret, ↓m_mon, ↓m_oI0, m_pI0, ↓m_oI3, m_pI3, ↓m_oI5, m_pI5, ↓m_oI7, m_pI7, ↓m_oI11, m_pI11, ↓m_oI12, m_pI12, ↓m_oI13, m_pI13, ↓m_oI14, m_pI14, ↓m_oI15, m_pI15, ↓m_oI16, m_pI16, ↓m_oI17, m_pI17, m_pZ5, m_pZ12, ↓m_oR1, m_aI1, m_sI1, ↓m_oR2, m_aI2, m_sI2, ↓m_oR4, m_aI4, m_sI4, ↓m_oR6, m_aI6, m_sI6, ↓m_oR8, m_aI8, m_sI8, ↓m_oR9, m_aI9, m_sI9, ↓m_oR10, m_aI10, m_sI10, e_call0 ec, b2_t hg, e_call0 c1, e_call0 e1, e9, Int.zero_add, mu_nb, mu_at, mu_ni]
  · rw [if_neg hg]
    refine MR_q hs (mu M 0 0 1) (iv 0) ?_ mu_eq (fun q => by omega) qeff_0
    unfold fX7_stepsFromDoor
    simp (disch := omega) only [↓reduceIte, Int.reduceEq, Int.reduceNe, Int.reduceLT, Int.reduceLE, Int.reduceNeg, Int.reduceMod, Int.reduceDiv, Int.reduceAdd, Int.reduceSub, Int.reduceMul, not_true_eq_false, not_false_eq_true, Int.lt_irrefl, true_or, or_true, false_or, or_false, true_and, and_true, false_and, and_false, b2_T, b2_F, if_true, if_false, ↓mjn_b, ↓mjn0_b, ↓mjn2_b, iv_lit, iv_add, iv_sub, iv_mul, iv_neg, iv_le_t, iv_le_f, iv_lt_t, iv_lt_f, iv_eq_t, iv_eq_f, iv_div, iv_mod, mretT_p, mretT_b, e_mret, ↓e_bret, ↓m_mon, ↓m_oI0, m_pI0, ↓m_oI3, m_pI3, ↓m_oI5, m_pI5, ↓m_oI7, m_pI7, ↓m_oI11, m_pI11, ↓m_oI12, m_pI12, ↓m_oI13, m_pI13, ↓m_oI14, m_pI14, ↓m_oI15, m_pI15, ↓m_oI16, m_pI16, ↓m_oI17, m_pI17, m_pZ5, m_pZ12, ↓m_oR1, m_aI1, m_sI1, ↓m_oR2, m_aI2, m_sI2, ↓m_oR4, m_aI4, m_sI4, ↓m_oR6, m_aI6, m_sI6, ↓m_oR8, m_aI8, m_sI8, ↓m_oR9, m_aI9, m_sI9, ↓m_oR10, m_aI10, m_sI10, e_call0 ec, b2_f hg, mu_nb, mu_at, mu_ni]
noncomputable def o_stepsFromChair (x : XS) (t : Int) (c : Int) : Int × Int × XS := o_stepsFromDoor x t c
theorem MR_stepsFromChair {g : Nat → Nat} {h : Nat → Option hC} {n m : Nat} {M : Mm} {x : XS} {t c : Int} (hs : MS M x) (ht : -2147483648 ≤ t ∧ t < 2147483648) (hc : -2147483648 ≤ c ∧ c < 2147483648) : MR m h n (fX7_stepsFromChair g (some m) (iv t) (iv c) (md m M h, n, 0)) (o_stepsFromChair x t c) := MR_w (g := g) (MR_stepsFromDoor hs ht hc)
noncomputable def o_longestWay (x : XS) : Int × Int × XS := (0, lwz x.1, x)
theorem X7_longestWay_L12_ev {g : Nat → Nat} {h : Nat → Option hC} {n m : Nat} {M : Mm} (hz : wZ (M 1)) (hl : lay8 M) : ∀ (k nn : Nat) (a i : Int), k < nn → 0 ≤ i → i + k = 192 → 0 ≤ a ∧ a ≤ 193 → fX7_longestWay_L12 g nn (some m) (iv a) (iv i) (md m M h, n, 0) = some (iv (foldI (fun a c => @ite Int (30 ≤ mpz (M 1) c ∧ a < stz (M 1) c) (Classical.propDecidable _) (stz (M 1) c) a) a i k), (md m M h, n, 0)) := by
  intro k
  induction k with
  | zero =>
    intro nn a i hn hi he ha
    obtain ⟨q, rfl⟩ : ∃ q, nn = q + 1 := ⟨nn - 1, by omega⟩
    simp (disch := omega) only [↓reduceIte, Int.reduceEq, Int.reduceNe, Int.reduceLT, Int.reduceLE, Int.reduceNeg, Int.reduceMod, Int.reduceDiv, Int.reduceAdd, Int.reduceSub, Int.reduceMul, not_true_eq_false, not_false_eq_true, Int.lt_irrefl, true_or, or_true, false_or, or_false, true_and, and_true, false_and, and_false, b2_T, b2_F, if_true, if_false, ↓mjn_b, ↓mjn0_b, ↓mjn2_b, iv_lit, iv_add, iv_sub, iv_mul, iv_neg, iv_le_t, iv_le_f, iv_lt_t, iv_lt_f, iv_eq_t, iv_eq_f, iv_div, iv_mod, mretT_p, mretT_b, e_mret, ↓e_bret, ↓m_mon, ↓m_oI0, m_pI0, ↓m_oI3, m_pI3, ↓m_oI5, m_pI5, ↓m_oI7, m_pI7, ↓m_oI11, m_pI11, ↓m_oI12, m_pI12, ↓m_oI13, m_pI13, ↓m_oI14, m_pI14, ↓m_oI15, m_pI15, ↓m_oI16, m_pI16, ↓m_oI17, m_pI17, m_pZ5, m_pZ12, ↓m_oR1, m_aI1, m_sI1, ↓m_oR2, m_aI2, m_sI2, ↓m_oR4, m_aI4, m_sI4, ↓m_oR6, m_aI6, m_sI6, ↓m_oR8, m_aI8, m_sI8, ↓m_oR9, m_aI9, m_sI9, ↓m_oR10, m_aI10, m_sI10, fX7_longestWay_L12, foldI]
  | succ k ih =>
    intro nn a i hn hi he ha
    obtain ⟨q, rfl⟩ : ∃ q, nn = q + 1 := ⟨nn - 1, by omega⟩
    have hci : cin i := by unfold cin; omega
    have e8 : M 8 i = mpz (M 1) i := hl.1 i hci
    have e9 := lay9 hl hci
    have r8 := mpz_rg hl hz.1 hci
    rw [show foldI (fun a c => @ite Int (30 ≤ mpz (M 1) c ∧ a < stz (M 1) c) (Classical.propDecidable _) (stz (M 1) c) a) a i (k + 1) = foldI (fun a c => @ite Int (30 ≤ mpz (M 1) c ∧ a < stz (M 1) c) (Classical.propDecidable _) (stz (M 1) c) a) (@ite Int (30 ≤ mpz (M 1) i ∧ a < stz (M 1) i) (Classical.propDecidable _) (stz (M 1) i) a) (i + 1) k from rfl]
    by_cases h1 : 30 ≤ mpz (M 1) i
    · by_cases h2 : a < stz (M 1) i
      · rw [if_pos ⟨h1, h2⟩]
        have ih3 := ih q (stz (M 1) i) (i + 1) (by omega) (by omega) (by omega) (by omega)
        rw [← ih3]
        simp (disch := omega) only [↓reduceIte, Int.reduceEq, Int.reduceNe, Int.reduceLT, Int.reduceLE, Int.reduceNeg, Int.reduceMod, Int.reduceDiv, Int.reduceAdd, Int.reduceSub, Int.reduceMul, not_true_eq_false, not_false_eq_true, Int.lt_irrefl, true_or, or_true, false_or, or_false, true_and, and_true, false_and, and_false, b2_T, b2_F, if_true, if_false, ↓mjn_b, ↓mjn0_b, ↓mjn2_b, iv_lit, iv_add, iv_sub, iv_mul, iv_neg, iv_le_t, iv_le_f, iv_lt_t, iv_lt_f, iv_eq_t, iv_eq_f, iv_div, iv_mod, mretT_p, mretT_b, e_mret, ↓e_bret, ↓m_mon, ↓m_oI0, m_pI0, ↓m_oI3, m_pI3, ↓m_oI5, m_pI5, ↓m_oI7, m_pI7, ↓m_oI11, m_pI11, ↓m_oI12, m_pI12, ↓m_oI13, m_pI13, ↓m_oI14, m_pI14, ↓m_oI15, m_pI15, ↓m_oI16, m_pI16, ↓m_oI17, m_pI17, m_pZ5, m_pZ12, ↓m_oR1, m_aI1, m_sI1, ↓m_oR2, m_aI2, m_sI2, ↓m_oR4, m_aI4, m_sI4, ↓m_oR6, m_aI6, m_sI6, ↓m_oR8, m_aI8, m_sI8, ↓m_oR9, m_aI9, m_sI9, ↓m_oR10, m_aI10, m_sI10, fX7_longestWay_L12, e8, e9]
      · rw [if_neg (fun q => h2 q.2)]
        have ih3 := ih q a (i + 1) (by omega) (by omega) (by omega) ha
        rw [← ih3]
        simp (disch := omega) only [↓reduceIte, Int.reduceEq, Int.reduceNe, Int.reduceLT, Int.reduceLE, Int.reduceNeg, Int.reduceMod, Int.reduceDiv, Int.reduceAdd, Int.reduceSub, Int.reduceMul, not_true_eq_false, not_false_eq_true, Int.lt_irrefl, true_or, or_true, false_or, or_false, true_and, and_true, false_and, and_false, b2_T, b2_F, if_true, if_false, ↓mjn_b, ↓mjn0_b, ↓mjn2_b, iv_lit, iv_add, iv_sub, iv_mul, iv_neg, iv_le_t, iv_le_f, iv_lt_t, iv_lt_f, iv_eq_t, iv_eq_f, iv_div, iv_mod, mretT_p, mretT_b, e_mret, ↓e_bret, ↓m_mon, ↓m_oI0, m_pI0, ↓m_oI3, m_pI3, ↓m_oI5, m_pI5, ↓m_oI7, m_pI7, ↓m_oI11, m_pI11, ↓m_oI12, m_pI12, ↓m_oI13, m_pI13, ↓m_oI14, m_pI14, ↓m_oI15, m_pI15, ↓m_oI16, m_pI16, ↓m_oI17, m_pI17, m_pZ5, m_pZ12, ↓m_oR1, m_aI1, m_sI1, ↓m_oR2, m_aI2, m_sI2, ↓m_oR4, m_aI4, m_sI4, ↓m_oR6, m_aI6, m_sI6, ↓m_oR8, m_aI8, m_sI8, ↓m_oR9, m_aI9, m_sI9, ↓m_oR10, m_aI10, m_sI10, fX7_longestWay_L12, e8, e9]
    · rw [if_neg (fun q => h1 q.1)]
      have ih3 := ih q a (i + 1) (by omega) (by omega) (by omega) ha
      rw [← ih3]
      simp (disch := omega) only [↓reduceIte, Int.reduceEq, Int.reduceNe, Int.reduceLT, Int.reduceLE, Int.reduceNeg, Int.reduceMod, Int.reduceDiv, Int.reduceAdd, Int.reduceSub, Int.reduceMul, not_true_eq_false, not_false_eq_true, Int.lt_irrefl, true_or, or_true, false_or, or_false, true_and, and_true, false_and, and_false, b2_T, b2_F, if_true, if_false, ↓mjn_b, ↓mjn0_b, ↓mjn2_b, iv_lit, iv_add, iv_sub, iv_mul, iv_neg, iv_le_t, iv_le_f, iv_lt_t, iv_lt_f, iv_eq_t, iv_eq_f, iv_div, iv_mod, mretT_p, mretT_b, e_mret, ↓e_bret, ↓m_mon, ↓m_oI0, m_pI0, ↓m_oI3, m_pI3, ↓m_oI5, m_pI5, ↓m_oI7, m_pI7, ↓m_oI11, m_pI11, ↓m_oI12, m_pI12, ↓m_oI13, m_pI13, ↓m_oI14, m_pI14, ↓m_oI15, m_pI15, ↓m_oI16, m_pI16, ↓m_oI17, m_pI17, m_pZ5, m_pZ12, ↓m_oR1, m_aI1, m_sI1, ↓m_oR2, m_aI2, m_sI2, ↓m_oR4, m_aI4, m_sI4, ↓m_oR6, m_aI6, m_sI6, ↓m_oR8, m_aI8, m_sI8, ↓m_oR9, m_aI9, m_sI9, ↓m_oR10, m_aI10, m_sI10, fX7_longestWay_L12, e8, e9]
theorem MR_longestWay {g : Nat → Nat} {h : Nat → Option hC} {n m : Nat} {M : Mm} {x : XS} (hs : MS M x) : MR m h n (fX7_longestWay g (some m) (md m M h, n, 0)) (o_longestWay x) := by
  have hz := MS_z hs
  have hx := hs.1
  unfold o_longestWay
  rw [hx]
  have h15 := wZ_15 hz
  have h60 := wZ_60 hz
  have hh := hz.1
  obtain ⟨M2, c1, c2, c3, c4, c5, c6⟩ := MS_chk (g := g) (h := h) (n := n) (m := m) hs 0
  refine MR_q hs M2 _ ?_ c5 (fun _ => rfl) c4
  have e1 := X7_longestWay_L12_ev (g := g) (h := h) (n := n) (m := m) c6 c3 192 5000 0 0 (by omega) (by omega) (by omega) (by omega)
  rw [c2] at e1
  unfold lwz
  rw [← e1]
  unfold fX7_longestWay
  simp only [iv_lit, m_pI0, m_mon, e_call0 c1]
theorem sitg_rg {z : Int → Int} (h : 0 ≤ z 60 ∧ z 60 ≤ 30) : 0 ≤ sitg z ∧ sitg z ≤ 30 := by
  have q := foldI_inv (s := fun (a : Int) j => a + b2 (sits z j)) (fun i a => 0 ≤ a ∧ a ≤ i) (z 60).toNat 0 0 ⟨by omega, by omega⟩ (fun b j h1 h2 h3 => by
    have := b2_rg (p := sits z j)
    omega)
  unfold sitg
  omega

noncomputable def o_seesByRows (x : XS) (y : Int) : Int × Int × XS := @ite (Int × Int × XS) (0 ≤ y ∧ y ≤ x.1 60 - 1) (Classical.propDecidable _) (@ite (Int × Int × XS) (sits x.1 y) (Classical.propDecidable _) (0, b2 (blkd x.1 y (cgl x.1 y) = -1), x) (0, 0, x)) (1, 0, x)
theorem MR_seesByRows {g : Nat → Nat} {h : Nat → Option hC} {n m : Nat} {M : Mm} {x : XS} {y : Int} (hs : MS M x) (hy : -2147483648 ≤ y ∧ y < 2147483648) : MR m h n (fX7_seesByRows g (some m) (iv y) (md m M h, n, 0)) (o_seesByRows x y) := by
  have hz := MS_z hs
  have hx := hs.1
  unfold o_seesByRows
  rw [hx]
  have h15 := wZ_15 hz
  have h60 := wZ_60 hz
  have hh := hz.1
  by_cases hg : 0 ≤ y ∧ y ≤ M 1 60 - 1
  · rw [if_pos hg]
    have hy2 : 0 ≤ y ∧ y < M 1 60 := by omega
    by_cases hn : sits (M 1) y
    · rw [if_pos hn]
      have es := fun (K : Int32 → HM Int32) => X7_sits_b (g := g) (h := h) (n := n) (w := 0) (m := m) (M := mu M 0 0 0) (i := y) (K := K) (by rw [mu_ob (by decide)]; exact hz) (by rw [mu_ob (by decide)]; exact hy2)
      rw [mu_ob (show (1 : Nat) ≠ 0 by decide), b2_t hn] at es
      obtain ⟨M2, c1, c2, c3, c4, c5, c6⟩ := MS_chk (g := g) (h := h) (n := n) (m := m) hs 0
      have ecg := X7_cellOfGuest_ev (g := g) (h := h) (n := n) (w := 0) (m := m) (M := M2) (x := y) c6 (by rw [c2]; exact hy2) (by rw [c2]; exact hn)
      have hcc := cgl_cin hz hy2 hn
      have ebl := X7_blocked_ev (g := g) (h := h) (n := n) (w := 0) (m := m) (M := M2) (x := y) (c := cgl (M 1) y) c6 c3 (by rw [c2]; exact hy2) hcc
      rw [c2] at ecg ebl
      have hbr := blk_rg (g := y) (c := cgl (M 1) y) hh.1 (by unfold cin at hcc; exact hcc) (cgl (M 1) y / 16).toNat (by unfold cin at hcc; omega)
      change -1 ≤ blkd (M 1) y (cgl (M 1) y) ∧ blkd (M 1) y (cgl (M 1) y) < 192 at hbr
      refine MR_q hs M2 _ ?_ c5 (fun _ => rfl) c4
      unfold fX7_seesByRows
      by_cases hq : blkd (M 1) y (cgl (M 1) y) = -1
      · rw [b2_t hq]
        rw [hq] at ebl
        simp (disch := omega) only [↓reduceIte, Int.reduceEq, Int.reduceNe, Int.reduceLT, Int.reduceLE, Int.reduceNeg, Int.reduceMod, Int.reduceDiv, Int.reduceAdd, Int.reduceSub, Int.reduceMul, not_true_eq_false, not_false_eq_true, Int.lt_irrefl, true_or, or_true, false_or, or_false, true_and, and_true, false_and, and_false, b2_T, b2_F, if_true, if_false, ↓mjn_b, ↓mjn0_b, ↓mjn2_b, iv_lit, iv_add, iv_sub, iv_mul, iv_neg, iv_le_t, iv_le_f, iv_lt_t, iv_lt_f, iv_eq_t, iv_eq_f, iv_div, iv_mod, mretT_p, mretT_b, e_mret, ↓e_bret, ↓m_mon, ↓m_oI0, m_pI0, ↓m_oI3, m_pI3, ↓m_oI5, m_pI5, ↓m_oI7, m_pI7, ↓m_oI11, m_pI11, ↓m_oI12, m_pI12, ↓m_oI13, m_pI13, ↓m_oI14, m_pI14, ↓m_oI15, m_pI15, ↓m_oI16, m_pI16, ↓m_oI17, m_pI17, m_pZ5, m_pZ12, ↓m_oR1, m_aI1, m_sI1, ↓m_oR2, m_aI2, m_sI2, ↓m_oR4, m_aI4, m_sI4, ↓m_oR6, m_aI6, m_sI6, ↓m_oR8, m_aI8, m_sI8, ↓m_oR9, m_aI9, m_sI9, ↓m_oR10, m_aI10, m_sI10, X7_isGuest_c, b2_t hg, ↓es, e_call0 c1, e_call0 ecg, e_call0 ebl, mu_nb, mu_at, mu_ni]
      · rw [b2_f hq]
        simp (disch := omega) only [↓reduceIte, Int.reduceEq, Int.reduceNe, Int.reduceLT, Int.reduceLE, Int.reduceNeg, Int.reduceMod, Int.reduceDiv, Int.reduceAdd, Int.reduceSub, Int.reduceMul, not_true_eq_false, not_false_eq_true, Int.lt_irrefl, true_or, or_true, false_or, or_false, true_and, and_true, false_and, and_false, b2_T, b2_F, if_true, if_false, ↓mjn_b, ↓mjn0_b, ↓mjn2_b, iv_lit, iv_add, iv_sub, iv_mul, iv_neg, iv_le_t, iv_le_f, iv_lt_t, iv_lt_f, iv_eq_t, iv_eq_f, iv_div, iv_mod, mretT_p, mretT_b, e_mret, ↓e_bret, ↓m_mon, ↓m_oI0, m_pI0, ↓m_oI3, m_pI3, ↓m_oI5, m_pI5, ↓m_oI7, m_pI7, ↓m_oI11, m_pI11, ↓m_oI12, m_pI12, ↓m_oI13, m_pI13, ↓m_oI14, m_pI14, ↓m_oI15, m_pI15, ↓m_oI16, m_pI16, ↓m_oI17, m_pI17, m_pZ5, m_pZ12, ↓m_oR1, m_aI1, m_sI1, ↓m_oR2, m_aI2, m_sI2, ↓m_oR4, m_aI4, m_sI4, ↓m_oR6, m_aI6, m_sI6, ↓m_oR8, m_aI8, m_sI8, ↓m_oR9, m_aI9, m_sI9, ↓m_oR10, m_aI10, m_sI10, X7_isGuest_c, b2_t hg, ↓es, e_call0 c1, e_call0 ecg, e_call0 ebl, mu_nb, mu_at, mu_ni]
    · rw [if_neg hn]
      have es := fun (K : Int32 → HM Int32) => X7_sits_b (g := g) (h := h) (n := n) (w := 0) (m := m) (M := mu M 0 0 0) (i := y) (K := K) (by rw [mu_ob (by decide)]; exact hz) (by rw [mu_ob (by decide)]; exact hy2)
      rw [mu_ob (show (1 : Nat) ≠ 0 by decide), b2_f hn] at es
      refine MR_q hs (mu M 0 0 0) _ ?_ mu_eq (fun _ => rfl) qeff_0
      unfold fX7_seesByRows
      simp (disch := omega) only [↓reduceIte, Int.reduceEq, Int.reduceNe, Int.reduceLT, Int.reduceLE, Int.reduceNeg, Int.reduceMod, Int.reduceDiv, Int.reduceAdd, Int.reduceSub, Int.reduceMul, not_true_eq_false, not_false_eq_true, Int.lt_irrefl, true_or, or_true, false_or, or_false, true_and, and_true, false_and, and_false, b2_T, b2_F, if_true, if_false, ↓mjn_b, ↓mjn0_b, ↓mjn2_b, iv_lit, iv_add, iv_sub, iv_mul, iv_neg, iv_le_t, iv_le_f, iv_lt_t, iv_lt_f, iv_eq_t, iv_eq_f, iv_div, iv_mod, mretT_p, mretT_b, e_mret, ↓e_bret, ↓m_mon, ↓m_oI0, m_pI0, ↓m_oI3, m_pI3, ↓m_oI5, m_pI5, ↓m_oI7, m_pI7, ↓m_oI11, m_pI11, ↓m_oI12, m_pI12, ↓m_oI13, m_pI13, ↓m_oI14, m_pI14, ↓m_oI15, m_pI15, ↓m_oI16, m_pI16, ↓m_oI17, m_pI17, m_pZ5, m_pZ12, ↓m_oR1, m_aI1, m_sI1, ↓m_oR2, m_aI2, m_sI2, ↓m_oR4, m_aI4, m_sI4, ↓m_oR6, m_aI6, m_sI6, ↓m_oR8, m_aI8, m_sI8, ↓m_oR9, m_aI9, m_sI9, ↓m_oR10, m_aI10, m_sI10, X7_isGuest_c, b2_t hg, ↓es, mu_nb, mu_at, mu_ni]
  · rw [if_neg hg]
    refine MR_q hs (mu M 0 0 1) (iv 0) ?_ mu_eq (fun q => by omega) qeff_0
    unfold fX7_seesByRows
    simp (disch := omega) only [↓reduceIte, Int.reduceEq, Int.reduceNe, Int.reduceLT, Int.reduceLE, Int.reduceNeg, Int.reduceMod, Int.reduceDiv, Int.reduceAdd, Int.reduceSub, Int.reduceMul, not_true_eq_false, not_false_eq_true, Int.lt_irrefl, true_or, or_true, false_or, or_false, true_and, and_true, false_and, and_false, b2_T, b2_F, if_true, if_false, ↓mjn_b, ↓mjn0_b, ↓mjn2_b, iv_lit, iv_add, iv_sub, iv_mul, iv_neg, iv_le_t, iv_le_f, iv_lt_t, iv_lt_f, iv_eq_t, iv_eq_f, iv_div, iv_mod, mretT_p, mretT_b, e_mret, ↓e_bret, ↓m_mon, ↓m_oI0, m_pI0, ↓m_oI3, m_pI3, ↓m_oI5, m_pI5, ↓m_oI7, m_pI7, ↓m_oI11, m_pI11, ↓m_oI12, m_pI12, ↓m_oI13, m_pI13, ↓m_oI14, m_pI14, ↓m_oI15, m_pI15, ↓m_oI16, m_pI16, ↓m_oI17, m_pI17, m_pZ5, m_pZ12, ↓m_oR1, m_aI1, m_sI1, ↓m_oR2, m_aI2, m_sI2, ↓m_oR4, m_aI4, m_sI4, ↓m_oR6, m_aI6, m_sI6, ↓m_oR8, m_aI8, m_sI8, ↓m_oR9, m_aI9, m_sI9, ↓m_oR10, m_aI10, m_sI10, X7_isGuest_c, b2_f hg, mu_nb, mu_at, mu_ni]
theorem SR_seesByRows {g : Nat → Nat} {h : Nat → Option hC} {n m : Nat} {M : Mm} {x : XS} {y : Int} (hs : MS M x) (hy : -2147483648 ≤ y ∧ y < 2147483648) : ∃ M', fX7_seesByRows g (some m) (iv y) (md m M h, n, 0) = some (iv (o_seesByRows x y).2.1, (md m M' h, n, 0)) ∧ M' 0 0 = (o_seesByRows x y).1 ∧ qeff M M' ∧ (o_seesByRows x y).2.2 = x ∧ ((o_seesByRows x y).2.1 = 0 ∨ (o_seesByRows x y).2.1 = 1) := by
  have hz := MS_z hs
  have hx := hs.1
  unfold o_seesByRows
  rw [hx]
  have h15 := wZ_15 hz
  have h60 := wZ_60 hz
  have hh := hz.1
  by_cases hg : 0 ≤ y ∧ y ≤ M 1 60 - 1
  · rw [if_pos hg]
    have hy2 : 0 ≤ y ∧ y < M 1 60 := by omega
    by_cases hn : sits (M 1) y
    · rw [if_pos hn]
      have es := fun (K : Int32 → HM Int32) => X7_sits_b (g := g) (h := h) (n := n) (w := 0) (m := m) (M := mu M 0 0 0) (i := y) (K := K) (by rw [mu_ob (by decide)]; exact hz) (by rw [mu_ob (by decide)]; exact hy2)
      rw [mu_ob (show (1 : Nat) ≠ 0 by decide), b2_t hn] at es
      obtain ⟨M2, c1, c2, c3, c4, c5, c6⟩ := MS_chk (g := g) (h := h) (n := n) (m := m) hs 0
      have ecg := X7_cellOfGuest_ev (g := g) (h := h) (n := n) (w := 0) (m := m) (M := M2) (x := y) c6 (by rw [c2]; exact hy2) (by rw [c2]; exact hn)
      have hcc := cgl_cin hz hy2 hn
      have ebl := X7_blocked_ev (g := g) (h := h) (n := n) (w := 0) (m := m) (M := M2) (x := y) (c := cgl (M 1) y) c6 c3 (by rw [c2]; exact hy2) hcc
      rw [c2] at ecg ebl
      have hbr := blk_rg (g := y) (c := cgl (M 1) y) hh.1 (by unfold cin at hcc; exact hcc) (cgl (M 1) y / 16).toNat (by unfold cin at hcc; omega)
      change -1 ≤ blkd (M 1) y (cgl (M 1) y) ∧ blkd (M 1) y (cgl (M 1) y) < 192 at hbr
      refine ⟨M2, ?_, c5, c4, rfl, b2_or⟩
      dsimp only
      unfold fX7_seesByRows
      by_cases hq : blkd (M 1) y (cgl (M 1) y) = -1
      · rw [b2_t hq]
        rw [hq] at ebl
        simp (disch := omega) only [↓reduceIte, Int.reduceEq, Int.reduceNe, Int.reduceLT, Int.reduceLE, Int.reduceNeg, Int.reduceMod, Int.reduceDiv, Int.reduceAdd, Int.reduceSub, Int.reduceMul, not_true_eq_false, not_false_eq_true, Int.lt_irrefl, true_or, or_true, false_or, or_false, true_and, and_true, false_and, and_false, b2_T, b2_F, if_true, if_false, ↓mjn_b, ↓mjn0_b, ↓mjn2_b, iv_lit, iv_add, iv_sub, iv_mul, iv_neg, iv_le_t, iv_le_f, iv_lt_t, iv_lt_f, iv_eq_t, iv_eq_f, iv_div, iv_mod, mretT_p, mretT_b, e_mret, ↓e_bret, ↓m_mon, ↓m_oI0, m_pI0, ↓m_oI3, m_pI3, ↓m_oI5, m_pI5, ↓m_oI7, m_pI7, ↓m_oI11, m_pI11, ↓m_oI12, m_pI12, ↓m_oI13, m_pI13, ↓m_oI14, m_pI14, ↓m_oI15, m_pI15, ↓m_oI16, m_pI16, ↓m_oI17, m_pI17, m_pZ5, m_pZ12, ↓m_oR1, m_aI1, m_sI1, ↓m_oR2, m_aI2, m_sI2, ↓m_oR4, m_aI4, m_sI4, ↓m_oR6, m_aI6, m_sI6, ↓m_oR8, m_aI8, m_sI8, ↓m_oR9, m_aI9, m_sI9, ↓m_oR10, m_aI10, m_sI10, X7_isGuest_c, b2_t hg, ↓es, e_call0 c1, e_call0 ecg, e_call0 ebl, mu_nb, mu_at, mu_ni]
      · rw [b2_f hq]
        simp (disch := omega) only [↓reduceIte, Int.reduceEq, Int.reduceNe, Int.reduceLT, Int.reduceLE, Int.reduceNeg, Int.reduceMod, Int.reduceDiv, Int.reduceAdd, Int.reduceSub, Int.reduceMul, not_true_eq_false, not_false_eq_true, Int.lt_irrefl, true_or, or_true, false_or, or_false, true_and, and_true, false_and, and_false, b2_T, b2_F, if_true, if_false, ↓mjn_b, ↓mjn0_b, ↓mjn2_b, iv_lit, iv_add, iv_sub, iv_mul, iv_neg, iv_le_t, iv_le_f, iv_lt_t, iv_lt_f, iv_eq_t, iv_eq_f, iv_div, iv_mod, mretT_p, mretT_b, e_mret, ↓e_bret, ↓m_mon, ↓m_oI0, m_pI0, ↓m_oI3, m_pI3, ↓m_oI5, m_pI5, ↓m_oI7, m_pI7, ↓m_oI11, m_pI11, ↓m_oI12, m_pI12, ↓m_oI13, m_pI13, ↓m_oI14, m_pI14, ↓m_oI15, m_pI15, ↓m_oI16, m_pI16, ↓m_oI17, m_pI17, m_pZ5, m_pZ12, ↓m_oR1, m_aI1, m_sI1, ↓m_oR2, m_aI2, m_sI2, ↓m_oR4, m_aI4, m_sI4, ↓m_oR6, m_aI6, m_sI6, ↓m_oR8, m_aI8, m_sI8, ↓m_oR9, m_aI9, m_sI9, ↓m_oR10, m_aI10, m_sI10, X7_isGuest_c, b2_t hg, ↓es, e_call0 c1, e_call0 ecg, e_call0 ebl, mu_nb, mu_at, mu_ni]
    · rw [if_neg hn]
      have es := fun (K : Int32 → HM Int32) => X7_sits_b (g := g) (h := h) (n := n) (w := 0) (m := m) (M := mu M 0 0 0) (i := y) (K := K) (by rw [mu_ob (by decide)]; exact hz) (by rw [mu_ob (by decide)]; exact hy2)
      rw [mu_ob (show (1 : Nat) ≠ 0 by decide), b2_f hn] at es
      refine ⟨mu M 0 0 0, ?_, mu_eq, qeff_0, rfl, Or.inl rfl⟩
      unfold fX7_seesByRows
      simp (disch := omega) only [↓reduceIte, Int.reduceEq, Int.reduceNe, Int.reduceLT, Int.reduceLE, Int.reduceNeg, Int.reduceMod, Int.reduceDiv, Int.reduceAdd, Int.reduceSub, Int.reduceMul, not_true_eq_false, not_false_eq_true, Int.lt_irrefl, true_or, or_true, false_or, or_false, true_and, and_true, false_and, and_false, b2_T, b2_F, if_true, if_false, ↓mjn_b, ↓mjn0_b, ↓mjn2_b, iv_lit, iv_add, iv_sub, iv_mul, iv_neg, iv_le_t, iv_le_f, iv_lt_t, iv_lt_f, iv_eq_t, iv_eq_f, iv_div, iv_mod, mretT_p, mretT_b, e_mret, ↓e_bret, ↓m_mon, ↓m_oI0, m_pI0, ↓m_oI3, m_pI3, ↓m_oI5, m_pI5, ↓m_oI7, m_pI7, ↓m_oI11, m_pI11, ↓m_oI12, m_pI12, ↓m_oI13, m_pI13, ↓m_oI14, m_pI14, ↓m_oI15, m_pI15, ↓m_oI16, m_pI16, ↓m_oI17, m_pI17, m_pZ5, m_pZ12, ↓m_oR1, m_aI1, m_sI1, ↓m_oR2, m_aI2, m_sI2, ↓m_oR4, m_aI4, m_sI4, ↓m_oR6, m_aI6, m_sI6, ↓m_oR8, m_aI8, m_sI8, ↓m_oR9, m_aI9, m_sI9, ↓m_oR10, m_aI10, m_sI10, X7_isGuest_c, b2_t hg, ↓es, mu_nb, mu_at, mu_ni]
  · rw [if_neg hg]
    refine ⟨mu M 0 0 1, ?_, mu_eq, qeff_0, rfl, Or.inl rfl⟩
    unfold fX7_seesByRows
    simp (disch := omega) only [↓reduceIte, Int.reduceEq, Int.reduceNe, Int.reduceLT, Int.reduceLE, Int.reduceNeg, Int.reduceMod, Int.reduceDiv, Int.reduceAdd, Int.reduceSub, Int.reduceMul, not_true_eq_false, not_false_eq_true, Int.lt_irrefl, true_or, or_true, false_or, or_false, true_and, and_true, false_and, and_false, b2_T, b2_F, if_true, if_false, ↓mjn_b, ↓mjn0_b, ↓mjn2_b, iv_lit, iv_add, iv_sub, iv_mul, iv_neg, iv_le_t, iv_le_f, iv_lt_t, iv_lt_f, iv_eq_t, iv_eq_f, iv_div, iv_mod, mretT_p, mretT_b, e_mret, ↓e_bret, ↓m_mon, ↓m_oI0, m_pI0, ↓m_oI3, m_pI3, ↓m_oI5, m_pI5, ↓m_oI7, m_pI7, ↓m_oI11, m_pI11, ↓m_oI12, m_pI12, ↓m_oI13, m_pI13, ↓m_oI14, m_pI14, ↓m_oI15, m_pI15, ↓m_oI16, m_pI16, ↓m_oI17, m_pI17, m_pZ5, m_pZ12, ↓m_oR1, m_aI1, m_sI1, ↓m_oR2, m_aI2, m_sI2, ↓m_oR4, m_aI4, m_sI4, ↓m_oR6, m_aI6, m_sI6, ↓m_oR8, m_aI8, m_sI8, ↓m_oR9, m_aI9, m_sI9, ↓m_oR10, m_aI10, m_sI10, X7_isGuest_c, b2_f hg, mu_nb, mu_at, mu_ni]
noncomputable def o_seesByObstacles (x : XS) (y : Int) : Int × Int × XS := o_seesByRows x y
theorem MR_seesByObstacles {g : Nat → Nat} {h : Nat → Option hC} {n m : Nat} {M : Mm} {x : XS} {y : Int} (hs : MS M x) (hy : -2147483648 ≤ y ∧ y < 2147483648) : MR m h n (fX7_seesByObstacles g (some m) (iv y) (md m M h, n, 0)) (o_seesByObstacles x y) := by
  obtain ⟨M', e, c1, c2, c3, c4⟩ := SR_seesByRows (g := g) (h := h) (n := n) (m := m) hs hy
  obtain ⟨a, b⟩ := MS_q hs c2
  unfold o_seesByObstacles
  refine ⟨M', iv (o_seesByRows x y).2.1, ?_, c1, fun _ => rfl, (M' 1, x.2), a, by rw [c3]; exact b⟩
  unfold fX7_seesByObstacles
  rw [m_mon, e_call0 e, mretT_b c4, e_mret]
noncomputable def o_blockedAt (x : XS) (y : Int) : Int × Int × XS := @ite (Int × Int × XS) (0 ≤ y ∧ y ≤ x.1 60 - 1) (Classical.propDecidable _) (@ite (Int × Int × XS) (sits x.1 y) (Classical.propDecidable _) (0, blkd x.1 y (cgl x.1 y), x) (0, -1, x)) (1, 0, x)
theorem MR_blockedAt {g : Nat → Nat} {h : Nat → Option hC} {n m : Nat} {M : Mm} {x : XS} {y : Int} (hs : MS M x) (hy : -2147483648 ≤ y ∧ y < 2147483648) : MR m h n (fX7_blockedAt g (some m) (iv y) (md m M h, n, 0)) (o_blockedAt x y) := by
  have hz := MS_z hs
  have hx := hs.1
  unfold o_blockedAt
  rw [hx]
  have h15 := wZ_15 hz
  have h60 := wZ_60 hz
  have hh := hz.1
  by_cases hg : 0 ≤ y ∧ y ≤ M 1 60 - 1
  · rw [if_pos hg]
    have hy2 : 0 ≤ y ∧ y < M 1 60 := by omega
    by_cases hn : sits (M 1) y
    · rw [if_pos hn]
      have es := fun (K : Int32 → HM Int32) => X7_sits_b (g := g) (h := h) (n := n) (w := 0) (m := m) (M := mu M 0 0 0) (i := y) (K := K) (by rw [mu_ob (by decide)]; exact hz) (by rw [mu_ob (by decide)]; exact hy2)
      rw [mu_ob (show (1 : Nat) ≠ 0 by decide), b2_t hn] at es
      obtain ⟨M2, c1, c2, c3, c4, c5, c6⟩ := MS_chk (g := g) (h := h) (n := n) (m := m) hs 0
      have ecg := X7_cellOfGuest_ev (g := g) (h := h) (n := n) (w := 0) (m := m) (M := M2) (x := y) c6 (by rw [c2]; exact hy2) (by rw [c2]; exact hn)
      have hcc := cgl_cin hz hy2 hn
      have ebl := X7_blocked_ev (g := g) (h := h) (n := n) (w := 0) (m := m) (M := M2) (x := y) (c := cgl (M 1) y) c6 c3 (by rw [c2]; exact hy2) hcc
      rw [c2] at ecg ebl
      have hbr := blk_rg (g := y) (c := cgl (M 1) y) hh.1 (by unfold cin at hcc; exact hcc) (cgl (M 1) y / 16).toNat (by unfold cin at hcc; omega)
      change -1 ≤ blkd (M 1) y (cgl (M 1) y) ∧ blkd (M 1) y (cgl (M 1) y) < 192 at hbr
      refine MR_q hs M2 _ ?_ c5 (fun _ => rfl) c4
      unfold fX7_blockedAt
      simp (disch := omega) only [↓reduceIte, Int.reduceEq, Int.reduceNe, Int.reduceLT, Int.reduceLE, Int.reduceNeg, Int.reduceMod, Int.reduceDiv, Int.reduceAdd, Int.reduceSub, Int.reduceMul, not_true_eq_false, not_false_eq_true, Int.lt_irrefl, true_or, or_true, false_or, or_false, true_and, and_true, false_and, and_false, b2_T, b2_F, if_true, if_false, ↓mjn_b, ↓mjn0_b, ↓mjn2_b, iv_lit, iv_add, iv_sub, iv_mul, iv_neg, iv_le_t, iv_le_f, iv_lt_t, iv_lt_f, iv_eq_t, iv_eq_f, iv_div, iv_mod, mretT_p, mretT_b, e_mret, ↓e_bret, ↓m_mon, ↓m_oI0, m_pI0, ↓m_oI3, m_pI3, ↓m_oI5, m_pI5, ↓m_oI7, m_pI7, ↓m_oI11, m_pI11, ↓m_oI12, m_pI12, ↓m_oI13, m_pI13, ↓m_oI14, m_pI14, ↓m_oI15, m_pI15, ↓m_oI16, m_pI16, ↓m_oI17, m_pI17, m_pZ5, m_pZ12, ↓m_oR1, m_aI1, m_sI1, ↓m_oR2, m_aI2, m_sI2, ↓m_oR4, m_aI4, m_sI4, ↓m_oR6, m_aI6, m_sI6, ↓m_oR8, m_aI8, m_sI8, ↓m_oR9, m_aI9, m_sI9, ↓m_oR10, m_aI10, m_sI10, X7_isGuest_c, b2_t hg, ↓es, e_call0 c1, e_call0 ecg, e_call0 ebl, mu_nb, mu_at, mu_ni]
    · rw [if_neg hn]
      have es := fun (K : Int32 → HM Int32) => X7_sits_b (g := g) (h := h) (n := n) (w := 0) (m := m) (M := mu M 0 0 0) (i := y) (K := K) (by rw [mu_ob (by decide)]; exact hz) (by rw [mu_ob (by decide)]; exact hy2)
      rw [mu_ob (show (1 : Nat) ≠ 0 by decide), b2_f hn] at es
      refine MR_q hs (mu M 0 0 0) _ ?_ mu_eq (fun _ => rfl) qeff_0
      unfold fX7_blockedAt
      simp (disch := omega) only [↓reduceIte, Int.reduceEq, Int.reduceNe, Int.reduceLT, Int.reduceLE, Int.reduceNeg, Int.reduceMod, Int.reduceDiv, Int.reduceAdd, Int.reduceSub, Int.reduceMul, not_true_eq_false, not_false_eq_true, Int.lt_irrefl, true_or, or_true, false_or, or_false, true_and, and_true, false_and, and_false, b2_T, b2_F, if_true, if_false, ↓mjn_b, ↓mjn0_b, ↓mjn2_b, iv_lit, iv_add, iv_sub, iv_mul, iv_neg, iv_le_t, iv_le_f, iv_lt_t, iv_lt_f, iv_eq_t, iv_eq_f, iv_div, iv_mod, mretT_p, mretT_b, e_mret, ↓e_bret, ↓m_mon, ↓m_oI0, m_pI0, ↓m_oI3, m_pI3, ↓m_oI5, m_pI5, ↓m_oI7, m_pI7, ↓m_oI11, m_pI11, ↓m_oI12, m_pI12, ↓m_oI13, m_pI13, ↓m_oI14, m_pI14, ↓m_oI15, m_pI15, ↓m_oI16, m_pI16, ↓m_oI17, m_pI17, m_pZ5, m_pZ12, ↓m_oR1, m_aI1, m_sI1, ↓m_oR2, m_aI2, m_sI2, ↓m_oR4, m_aI4, m_sI4, ↓m_oR6, m_aI6, m_sI6, ↓m_oR8, m_aI8, m_sI8, ↓m_oR9, m_aI9, m_sI9, ↓m_oR10, m_aI10, m_sI10, X7_isGuest_c, b2_t hg, ↓es, mu_nb, mu_at, mu_ni]
  · rw [if_neg hg]
    refine MR_q hs (mu M 0 0 1) (iv 0) ?_ mu_eq (fun q => by omega) qeff_0
    unfold fX7_blockedAt
    simp (disch := omega) only [↓reduceIte, Int.reduceEq, Int.reduceNe, Int.reduceLT, Int.reduceLE, Int.reduceNeg, Int.reduceMod, Int.reduceDiv, Int.reduceAdd, Int.reduceSub, Int.reduceMul, not_true_eq_false, not_false_eq_true, Int.lt_irrefl, true_or, or_true, false_or, or_false, true_and, and_true, false_and, and_false, b2_T, b2_F, if_true, if_false, ↓mjn_b, ↓mjn0_b, ↓mjn2_b, iv_lit, iv_add, iv_sub, iv_mul, iv_neg, iv_le_t, iv_le_f, iv_lt_t, iv_lt_f, iv_eq_t, iv_eq_f, iv_div, iv_mod, mretT_p, mretT_b, e_mret, ↓e_bret, ↓m_mon, ↓m_oI0, m_pI0, ↓m_oI3, m_pI3, ↓m_oI5, m_pI5, ↓m_oI7, m_pI7, ↓m_oI11, m_pI11, ↓m_oI12, m_pI12, ↓m_oI13, m_pI13, ↓m_oI14, m_pI14, ↓m_oI15, m_pI15, ↓m_oI16, m_pI16, ↓m_oI17, m_pI17, m_pZ5, m_pZ12, ↓m_oR1, m_aI1, m_sI1, ↓m_oR2, m_aI2, m_sI2, ↓m_oR4, m_aI4, m_sI4, ↓m_oR6, m_aI6, m_sI6, ↓m_oR8, m_aI8, m_sI8, ↓m_oR9, m_aI9, m_sI9, ↓m_oR10, m_aI10, m_sI10, X7_isGuest_c, b2_f hg, mu_nb, mu_at, mu_ni]
noncomputable def o_placeOf (x : XS) (y : Int) : Int × Int × XS := @ite (Int × Int × XS) (0 ≤ y ∧ y ≤ x.1 60 - 1) (Classical.propDecidable _) (@ite (Int × Int × XS) (sits x.1 y) (Classical.propDecidable _) (0, ahd x.1 y, x) (0, -1, x)) (1, 0, x)
theorem MR_placeOf {g : Nat → Nat} {h : Nat → Option hC} {n m : Nat} {M : Mm} {x : XS} {y : Int} (hs : MS M x) (hy : -2147483648 ≤ y ∧ y < 2147483648) : MR m h n (fX7_placeOf g (some m) (iv y) (md m M h, n, 0)) (o_placeOf x y) := by
  have hz := MS_z hs
  have hx := hs.1
  unfold o_placeOf
  rw [hx]
  have h15 := wZ_15 hz
  have h60 := wZ_60 hz
  have hh := hz.1
  by_cases hg : 0 ≤ y ∧ y ≤ M 1 60 - 1
  · rw [if_pos hg]
    have hy2 : 0 ≤ y ∧ y < M 1 60 := by omega
    by_cases hn : sits (M 1) y
    · rw [if_pos hn]
      have es := fun (K : Int32 → HM Int32) => X7_sits_b (g := g) (h := h) (n := n) (w := 0) (m := m) (M := mu M 0 0 0) (i := y) (K := K) (by rw [mu_ob (by decide)]; exact hz) (by rw [mu_ob (by decide)]; exact hy2)
      rw [mu_ob (show (1 : Nat) ≠ 0 by decide), b2_t hn] at es
      obtain ⟨M2, c1, c2, c3, c4, c5, c6⟩ := MS_chk (g := g) (h := h) (n := n) (m := m) hs 0
      have esa := X7_servedAhead_ev (g := g) (h := h) (n := n) (w := 0) (m := m) (M := M2) (x := y) c6 c3 (by rw [c2]; exact hy2) (by rw [c2]; exact hn)
      rw [c2] at esa
      refine MR_q hs M2 _ ?_ c5 (fun _ => rfl) c4
      unfold fX7_placeOf
      simp (disch := omega) only [↓reduceIte, Int.reduceEq, Int.reduceNe, Int.reduceLT, Int.reduceLE, Int.reduceNeg, Int.reduceMod, Int.reduceDiv, Int.reduceAdd, Int.reduceSub, Int.reduceMul, not_true_eq_false, not_false_eq_true, Int.lt_irrefl, true_or, or_true, false_or, or_false, true_and, and_true, false_and, and_false, b2_T, b2_F, if_true, if_false, ↓mjn_b, ↓mjn0_b, ↓mjn2_b, iv_lit, iv_add, iv_sub, iv_mul, iv_neg, iv_le_t, iv_le_f, iv_lt_t, iv_lt_f, iv_eq_t, iv_eq_f, iv_div, iv_mod, mretT_p, mretT_b, e_mret, ↓e_bret, ↓m_mon, ↓m_oI0, m_pI0, ↓m_oI3, m_pI3, ↓m_oI5, m_pI5, ↓m_oI7, m_pI7, ↓m_oI11, m_pI11, ↓m_oI12, m_pI12, ↓m_oI13, m_pI13, ↓m_oI14, m_pI14, ↓m_oI15, m_pI15, ↓m_oI16, m_pI16, ↓m_oI17, m_pI17, m_pZ5, m_pZ12, ↓m_oR1, m_aI1, m_sI1, ↓m_oR2, m_aI2, m_sI2, ↓m_oR4, m_aI4, m_sI4, ↓m_oR6, m_aI6, m_sI6, ↓m_oR8, m_aI8, m_sI8, ↓m_oR9, m_aI9, m_sI9, ↓m_oR10, m_aI10, m_sI10, X7_isGuest_c, b2_t hg, ↓es, e_call0 c1, e_call0 esa, mu_nb, mu_at, mu_ni]
    · rw [if_neg hn]
      have es := fun (K : Int32 → HM Int32) => X7_sits_b (g := g) (h := h) (n := n) (w := 0) (m := m) (M := mu M 0 0 0) (i := y) (K := K) (by rw [mu_ob (by decide)]; exact hz) (by rw [mu_ob (by decide)]; exact hy2)
      rw [mu_ob (show (1 : Nat) ≠ 0 by decide), b2_f hn] at es
      refine MR_q hs (mu M 0 0 0) _ ?_ mu_eq (fun _ => rfl) qeff_0
      unfold fX7_placeOf
      simp (disch := omega) only [↓reduceIte, Int.reduceEq, Int.reduceNe, Int.reduceLT, Int.reduceLE, Int.reduceNeg, Int.reduceMod, Int.reduceDiv, Int.reduceAdd, Int.reduceSub, Int.reduceMul, not_true_eq_false, not_false_eq_true, Int.lt_irrefl, true_or, or_true, false_or, or_false, true_and, and_true, false_and, and_false, b2_T, b2_F, if_true, if_false, ↓mjn_b, ↓mjn0_b, ↓mjn2_b, iv_lit, iv_add, iv_sub, iv_mul, iv_neg, iv_le_t, iv_le_f, iv_lt_t, iv_lt_f, iv_eq_t, iv_eq_f, iv_div, iv_mod, mretT_p, mretT_b, e_mret, ↓e_bret, ↓m_mon, ↓m_oI0, m_pI0, ↓m_oI3, m_pI3, ↓m_oI5, m_pI5, ↓m_oI7, m_pI7, ↓m_oI11, m_pI11, ↓m_oI12, m_pI12, ↓m_oI13, m_pI13, ↓m_oI14, m_pI14, ↓m_oI15, m_pI15, ↓m_oI16, m_pI16, ↓m_oI17, m_pI17, m_pZ5, m_pZ12, ↓m_oR1, m_aI1, m_sI1, ↓m_oR2, m_aI2, m_sI2, ↓m_oR4, m_aI4, m_sI4, ↓m_oR6, m_aI6, m_sI6, ↓m_oR8, m_aI8, m_sI8, ↓m_oR9, m_aI9, m_sI9, ↓m_oR10, m_aI10, m_sI10, X7_isGuest_c, b2_t hg, ↓es, mu_nb, mu_at, mu_ni]
  · rw [if_neg hg]
    refine MR_q hs (mu M 0 0 1) (iv 0) ?_ mu_eq (fun q => by omega) qeff_0
    unfold fX7_placeOf
    simp (disch := omega) only [↓reduceIte, Int.reduceEq, Int.reduceNe, Int.reduceLT, Int.reduceLE, Int.reduceNeg, Int.reduceMod, Int.reduceDiv, Int.reduceAdd, Int.reduceSub, Int.reduceMul, not_true_eq_false, not_false_eq_true, Int.lt_irrefl, true_or, or_true, false_or, or_false, true_and, and_true, false_and, and_false, b2_T, b2_F, if_true, if_false, ↓mjn_b, ↓mjn0_b, ↓mjn2_b, iv_lit, iv_add, iv_sub, iv_mul, iv_neg, iv_le_t, iv_le_f, iv_lt_t, iv_lt_f, iv_eq_t, iv_eq_f, iv_div, iv_mod, mretT_p, mretT_b, e_mret, ↓e_bret, ↓m_mon, ↓m_oI0, m_pI0, ↓m_oI3, m_pI3, ↓m_oI5, m_pI5, ↓m_oI7, m_pI7, ↓m_oI11, m_pI11, ↓m_oI12, m_pI12, ↓m_oI13, m_pI13, ↓m_oI14, m_pI14, ↓m_oI15, m_pI15, ↓m_oI16, m_pI16, ↓m_oI17, m_pI17, m_pZ5, m_pZ12, ↓m_oR1, m_aI1, m_sI1, ↓m_oR2, m_aI2, m_sI2, ↓m_oR4, m_aI4, m_sI4, ↓m_oR6, m_aI6, m_sI6, ↓m_oR8, m_aI8, m_sI8, ↓m_oR9, m_aI9, m_sI9, ↓m_oR10, m_aI10, m_sI10, X7_isGuest_c, b2_f hg, mu_nb, mu_at, mu_ni]
noncomputable def o_seeing (x : XS) : Int × Int × XS := (0, seez x.1, x)
theorem MR_seeing {g : Nat → Nat} {h : Nat → Option hC} {n m : Nat} {M : Mm} {x : XS} (hs : MS M x) : MR m h n (fX7_seeing g (some m) (md m M h, n, 0)) (o_seeing x) := by
  have hz := MS_z hs
  have hx := hs.1
  unfold o_seeing
  rw [hx]
  have h15 := wZ_15 hz
  have h60 := wZ_60 hz
  have hh := hz.1
  obtain ⟨M2, d1, d2⟩ := X7_see_ev (g := g) (h := h) (n := n) (w := 0) (m := m) (M := mu M 0 0 0) (by rw [mu_ob (by decide)]; exact hz)
  rw [mu_ob (show (1 : Nat) ≠ 0 by decide)] at d1
  have d3 : qsm (mu M 0 0 0) M2 := fun b b1 b8 b9 b10 => d2 b b8 b9 b10
  refine MR_q hs M2 _ ?_ (qsm_0 d3) (fun _ => rfl) (qeff_of rfl d3 (by rw [d2 1 (by decide) (by decide) (by decide)]; exact zeq_rf))
  unfold fX7_seeing
  simp only [iv_lit, m_pI0, m_mon, e_call0 d1, e_mret]
noncomputable def o_bestChair (x : XS) (y : Int) : Int × Int × XS := @ite (Int × Int × XS) (0 ≤ y ∧ y ≤ x.1 60 - 1) (Classical.propDecidable _) (0, bst x.1 y, x) (1, 0, x)
theorem MR_bestChair {g : Nat → Nat} {h : Nat → Option hC} {n m : Nat} {M : Mm} {x : XS} {y : Int} (hs : MS M x) (hy : -2147483648 ≤ y ∧ y < 2147483648) : MR m h n (fX7_bestChair g (some m) (iv y) (md m M h, n, 0)) (o_bestChair x y) := by
  have hz := MS_z hs
  have hx := hs.1
  unfold o_bestChair
  rw [hx]
  have h15 := wZ_15 hz
  have h60 := wZ_60 hz
  have hh := hz.1
  by_cases hg : 0 ≤ y ∧ y ≤ M 1 60 - 1
  · rw [if_pos hg]
    have hy2 : 0 ≤ y ∧ y < M 1 60 := by omega
    obtain ⟨M2, c1, c2, c3, c4, c5, c6⟩ := MS_chk (g := g) (h := h) (n := n) (m := m) hs 0
    have e1 := X7_bestChair_L36_ev (g := g) (h := h) (n := n) (w := 0) (m := m) (M := M2) (x := y) c6 c3 (by rw [c2]; exact hy2) (M 1 15).toNat 5000 (-1, 0) 0 (by omega) (by omega) (by rw [c2]; omega) ⟨by simp only; omega, by unfold cin; simp only; omega⟩
    rw [c2] at e1
    dsimp only at e1
    unfold bst
    refine MR_q hs M2 _ ?_ c5 (fun _ => rfl) (c4)
    unfold fX7_bestChair
    simp (disch := omega) only [↓reduceIte, Int.reduceEq, Int.reduceNe, Int.reduceLT, Int.reduceLE, Int.reduceNeg, Int.reduceMod, Int.reduceDiv, Int.reduceAdd, Int.reduceSub, Int.reduceMul, not_true_eq_false, not_false_eq_true, Int.lt_irrefl, true_or, or_true, false_or, or_false, true_and, and_true, false_and, and_false, b2_T, b2_F, if_true, if_false, ↓mjn_b, ↓mjn0_b, ↓mjn2_b, iv_lit, iv_add, iv_sub, iv_mul, iv_neg, iv_le_t, iv_le_f, iv_lt_t, iv_lt_f, iv_eq_t, iv_eq_f, iv_div, iv_mod, mretT_p, mretT_b, e_mret, ↓e_bret, ↓m_mon, ↓m_oI0, m_pI0, ↓m_oI3, m_pI3, ↓m_oI5, m_pI5, ↓m_oI7, m_pI7, ↓m_oI11, m_pI11, ↓m_oI12, m_pI12, ↓m_oI13, m_pI13, ↓m_oI14, m_pI14, ↓m_oI15, m_pI15, ↓m_oI16, m_pI16, ↓m_oI17, m_pI17, m_pZ5, m_pZ12, ↓m_oR1, m_aI1, m_sI1, ↓m_oR2, m_aI2, m_sI2, ↓m_oR4, m_aI4, m_sI4, ↓m_oR6, m_aI6, m_sI6, ↓m_oR8, m_aI8, m_sI8, ↓m_oR9, m_aI9, m_sI9, ↓m_oR10, m_aI10, m_sI10, X7_isGuest_c, b2_t hg, e_call0 c1, ↓e1, mu_nb, mu_at, mu_ni]
  · rw [if_neg hg]
    refine MR_q hs (mu M 0 0 1) (iv 0) ?_ mu_eq (fun q => by omega) qeff_0
    unfold fX7_bestChair
    simp (disch := omega) only [↓reduceIte, Int.reduceEq, Int.reduceNe, Int.reduceLT, Int.reduceLE, Int.reduceNeg, Int.reduceMod, Int.reduceDiv, Int.reduceAdd, Int.reduceSub, Int.reduceMul, not_true_eq_false, not_false_eq_true, Int.lt_irrefl, true_or, or_true, false_or, or_false, true_and, and_true, false_and, and_false, b2_T, b2_F, if_true, if_false, ↓mjn_b, ↓mjn0_b, ↓mjn2_b, iv_lit, iv_add, iv_sub, iv_mul, iv_neg, iv_le_t, iv_le_f, iv_lt_t, iv_lt_f, iv_eq_t, iv_eq_f, iv_div, iv_mod, mretT_p, mretT_b, e_mret, ↓e_bret, ↓m_mon, ↓m_oI0, m_pI0, ↓m_oI3, m_pI3, ↓m_oI5, m_pI5, ↓m_oI7, m_pI7, ↓m_oI11, m_pI11, ↓m_oI12, m_pI12, ↓m_oI13, m_pI13, ↓m_oI14, m_pI14, ↓m_oI15, m_pI15, ↓m_oI16, m_pI16, ↓m_oI17, m_pI17, m_pZ5, m_pZ12, ↓m_oR1, m_aI1, m_sI1, ↓m_oR2, m_aI2, m_sI2, ↓m_oR4, m_aI4, m_sI4, ↓m_oR6, m_aI6, m_sI6, ↓m_oR8, m_aI8, m_sI8, ↓m_oR9, m_aI9, m_sI9, ↓m_oR10, m_aI10, m_sI10, X7_isGuest_c, b2_f hg, mu_nb, mu_at, mu_ni]
noncomputable def o_servedAt (x : XS) (p : Int) : Int × Int × XS := @ite (Int × Int × XS) (0 ≤ p ∧ p ≤ sitg x.1 - 1) (Classical.propDecidable _) (0, srv x.1 p, x) (1, 0, x)
theorem MR_servedAt {g : Nat → Nat} {h : Nat → Option hC} {n m : Nat} {M : Mm} {x : XS} {p : Int} (hs : MS M x) (hp : -2147483648 ≤ p ∧ p < 2147483648) : MR m h n (fX7_servedAt g (some m) (iv p) (md m M h, n, 0)) (o_servedAt x p) := by
  have hz := MS_z hs
  have hx := hs.1
  unfold o_servedAt
  rw [hx]
  have h15 := wZ_15 hz
  have h60 := wZ_60 hz
  have hh := hz.1
  have es := X7_sitting_ev (g := g) (h := h) (n := n) (w := 0) (m := m) (M := M) hz
  have hsg := sitg_rg h60
  by_cases hg : 0 ≤ p ∧ p ≤ sitg (M 1) - 1
  · rw [if_pos hg]
    obtain ⟨M2, c1, c2, c3, c4, c5, c6⟩ := MS_chk (g := g) (h := h) (n := n) (m := m) hs 0
    have e1 := X7_servedAt_L39_ev (g := g) (h := h) (n := n) (w := 0) (m := m) (M := M2) (p := p) c6 c3 (by omega) (M 1 60).toNat 5000 0 0 (by omega) (by omega) (by rw [c2]; omega)
    rw [c2] at e1
    unfold srv
    refine MR_q hs M2 _ ?_ c5 (fun _ => rfl) (c4)
    unfold fX7_servedAt
    simp (disch := omega) only [↓reduceIte, Int.reduceEq, Int.reduceNe, Int.reduceLT, Int.reduceLE, Int.reduceNeg, Int.reduceMod, Int.reduceDiv, Int.reduceAdd, Int.reduceSub, Int.reduceMul, not_true_eq_false, not_false_eq_true, Int.lt_irrefl, true_or, or_true, false_or, or_false, true_and, and_true, false_and, and_false, b2_T, b2_F, if_true, if_false, ↓mjn_b, ↓mjn0_b, ↓mjn2_b, iv_lit, iv_add, iv_sub, iv_mul, iv_neg, iv_le_t, iv_le_f, iv_lt_t, iv_lt_f, iv_eq_t, iv_eq_f, iv_div, iv_mod, mretT_p, mretT_b, e_mret, ↓e_bret, ↓m_mon, ↓m_oI0, m_pI0, ↓m_oI3, m_pI3, ↓m_oI5, m_pI5, ↓m_oI7, m_pI7, ↓m_oI11, m_pI11, ↓m_oI12, m_pI12, ↓m_oI13, m_pI13, ↓m_oI14, m_pI14, ↓m_oI15, m_pI15, ↓m_oI16, m_pI16, ↓m_oI17, m_pI17, m_pZ5, m_pZ12, ↓m_oR1, m_aI1, m_sI1, ↓m_oR2, m_aI2, m_sI2, ↓m_oR4, m_aI4, m_sI4, ↓m_oR6, m_aI6, m_sI6, ↓m_oR8, m_aI8, m_sI8, ↓m_oR9, m_aI9, m_sI9, ↓m_oR10, m_aI10, m_sI10, e_call0 es, X7_in_c, b2_t hg, e_call0 c1, ↓e1, mu_nb, mu_at, mu_ni]
  · rw [if_neg hg]
    refine MR_q hs (mu M 0 0 1) (iv 0) ?_ mu_eq (fun q => by omega) qeff_0
    unfold fX7_servedAt
    simp (disch := omega) only [↓reduceIte, Int.reduceEq, Int.reduceNe, Int.reduceLT, Int.reduceLE, Int.reduceNeg, Int.reduceMod, Int.reduceDiv, Int.reduceAdd, Int.reduceSub, Int.reduceMul, not_true_eq_false, not_false_eq_true, Int.lt_irrefl, true_or, or_true, false_or, or_false, true_and, and_true, false_and, and_false, b2_T, b2_F, if_true, if_false, ↓mjn_b, ↓mjn0_b, ↓mjn2_b, iv_lit, iv_add, iv_sub, iv_mul, iv_neg, iv_le_t, iv_le_f, iv_lt_t, iv_lt_f, iv_eq_t, iv_eq_f, iv_div, iv_mod, mretT_p, mretT_b, e_mret, ↓e_bret, ↓m_mon, ↓m_oI0, m_pI0, ↓m_oI3, m_pI3, ↓m_oI5, m_pI5, ↓m_oI7, m_pI7, ↓m_oI11, m_pI11, ↓m_oI12, m_pI12, ↓m_oI13, m_pI13, ↓m_oI14, m_pI14, ↓m_oI15, m_pI15, ↓m_oI16, m_pI16, ↓m_oI17, m_pI17, m_pZ5, m_pZ12, ↓m_oR1, m_aI1, m_sI1, ↓m_oR2, m_aI2, m_sI2, ↓m_oR4, m_aI4, m_sI4, ↓m_oR6, m_aI6, m_sI6, ↓m_oR8, m_aI8, m_sI8, ↓m_oR9, m_aI9, m_sI9, ↓m_oR10, m_aI10, m_sI10, e_call0 es, X7_in_c, b2_f hg, mu_nb, mu_at, mu_ni]
noncomputable def o_nearByPairs (x : XS) : Int × Int × XS := (0, nprs x.1, x)
theorem MR_nearByPairs {g : Nat → Nat} {h : Nat → Option hC} {n m : Nat} {M : Mm} {x : XS} (hs : MS M x) : MR m h n (fX7_nearByPairs g (some m) (md m M h, n, 0)) (o_nearByPairs x) := by
  have hz := MS_z hs
  have hx := hs.1
  unfold o_nearByPairs
  rw [hx]
  have h15 := wZ_15 hz
  have h60 := wZ_60 hz
  have hh := hz.1
  have e1 := X7_nearByPairs_L9_ev (g := g) (h := h) (n := n) (w := 0) (m := m) (M := mu M 0 0 0) (by rw [mu_ob (by decide)]; exact hz) (M 1 60).toNat 5000 0 0 (by omega) (by omega) (by rw [mu_ob (by decide)]; omega)
  rw [mu_ob (show (1 : Nat) ≠ 0 by decide)] at e1
  refine MR_q hs (mu M 0 0 0) _ ?_ mu_eq (fun _ => rfl) qeff_0
  unfold fX7_nearByPairs nprs
  rw [← e1]
  simp only [iv_lit, m_pI0]
noncomputable def o_nearByChairs (x : XS) : Int × Int × XS := o_nearByPairs x
theorem MR_nearByChairs {g : Nat → Nat} {h : Nat → Option hC} {n m : Nat} {M : Mm} {x : XS} (hs : MS M x) : MR m h n (fX7_nearByChairs g (some m) (md m M h, n, 0)) (o_nearByChairs x) := MR_w (g := g) (MR_nearByPairs hs)
