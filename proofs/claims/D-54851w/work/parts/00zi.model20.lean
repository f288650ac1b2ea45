/-! ===== the model: more questions ===== -/
theorem MS_chk {g : Nat → Nat} {h : Nat → Option hC} {n m : Nat} {M : Mm} {x : XS} (hs : MS M x) (t : Int) : ∃ M', fX7_check g (some m) (md m (mu M 0 0 t) h, n, 0) = some (iv 0, (md m M' h, n, 0)) ∧ M' 1 = M 1 ∧ lay8 M' ∧ qeff M M' ∧ M' 0 0 = t ∧ wZ (M' 1) := by
  have hz := MS_z hs
  have h1 : (mu M 0 0 t) 1 = M 1 := mu_ob (by decide)
  obtain ⟨M', e1, e2, e3⟩ := X7_check0 (g := g) (h := h) (n := n) (w := 0) (m := m) (M := mu M 0 0 t) (by rw [h1]; exact hz.1)
  have h0 := hz.2.2.2.2.2.2
  rw [h1, h0] at e1
  have q : qsm (mu M 0 0 t) M' := fun b _ b8 b9 b10 => e2 b b8 b9 b10
  have h11 : M' 1 = M 1 := by rw [e2 1 (by decide) (by decide) (by decide), h1]
  exact ⟨M', e1, h11, e3 (by rw [h1]; exact h0), qeff_of rfl q (by rw [e2 1 (by decide) (by decide) (by decide)]; exact zeq_rf), qsm_0 q, by rw [h11]; exact hz⟩
noncomputable def o_cellOf (x : XS) (t : Int) (c : Int) : Int × Int × XS := @ite (Int × Int × XS) (isCh x.1 t c) (Classical.propDecidable _) (0, chT x.1 t c, x) (1, 0, x)
theorem MR_cellOf {g : Nat → Nat} {h : Nat → Option hC} {n m : Nat} {M : Mm} {x : XS} {t c : Int} (hs : MS M x) (ht : -2147483648 ≤ t ∧ t < 2147483648) (hc : -2147483648 ≤ c ∧ c < 2147483648) : MR m h n (fX7_cellOf g (some m) (iv t) (iv c) (md m M h, n, 0)) (o_cellOf x t c) := by
  have hz := MS_z hs
  have hx := hs.1
  unfold o_cellOf
  rw [hx]
  have h15 := wZ_15 hz
  have h60 := wZ_60 hz
  have ec := X7_isChair_ev (g := g) (h := h) (n := n) (w := 0) (m := m) (M := M) hz ht hc
  by_cases hg : isCh (M 1) t c
  · rw [if_pos hg]
    refine MR_q hs (mu M 0 0 0) _ ?_ mu_eq (fun _ => rfl) qeff_0
    have hg2 := hg
    unfold isCh at hg2
    have hw := wZ_t hz hg2.1
    have hcn := chN_rg (zk (M 1) t)
    have e1 := X7_cellOfChair_ev (g := g) (h := h) (n := n) (w := 0) (m := m) (M := mu M 0 0 0) (t := t) (c := c) (by omega) (by rw [mu_ob (show (1 : Nat) ≠ 0 by decide)]; exact hw) (by omega)
    rw [mu_ob (show (1 : Nat) ≠ 0 by decide)] at e1
    unfold fX7_cellOf
    simp (disch := omega) only [↓reduceIte, Int.reduceEq, Int.reduceNe, Int.reduceLT, Int.reduceLE, Int.reduceNeg, Int.reduceMod, Int.reduceDiv, Int.reduceAdd, Int.reduceSub, Int.reduceMul, not_true_eq_false, not_false_eq_true, Int.lt_irrefl, true_or, or_true, false_or, or_false, true_and, and_true, false_and, and_false, b2_T, b2_F, if_true, if_false, ↓mjn_b, ↓mjn0_b, ↓mjn2_b, iv_lit, iv_add, iv_sub, iv_mul, iv_neg, iv_le_t, iv_le_f, iv_lt_t, iv_lt_f, iv_eq_t, iv_eq_f, iv_div, iv_mod, mretT_p, mretT_b, e_mret, ↓e_bret, ↓m_mon, ↓m_oI0, m_pI0, ↓m_oI3, m_pI3, ↓m_oI5, m_pI5, ↓m_oI7, m_pI7, ↓m_oI11, m_pI11, ↓m_oI12, m_pI12, ↓m_oI13, m_pI13, ↓m_oI14, m_pI14, ↓m_oI15, m_pI15, ↓m_oI16, m_pI16, ↓m_oI17, m_pI17, m_pZ5, m_pZ12, ↓m_oR1, m_aI1, m_sI1, ↓m_oR2, m_aI2, m_sI2, ↓m_oR4, m_aI4, m_sI4, ↓m_oR6, m_aI6, m_sI6, ↓m_oR8, m_aI8, m_sI8, ↓m_oR9, m_aI9, m_sI9, ↓m_oR10, m_aI10, m_sI10, e_call0 ec, b2_t hg, e_call0 e1, mu_nb, mu_at, mu_ni]
  · rw [if_neg hg]
    refine MR_q hs (mu M 0 0 1) (iv 0) ?_ mu_eq (fun q => by omega) qeff_0
    unfold fX7_cellOf
    simp (disch := omega) only [↓reduceIte, Int.reduceEq, Int.reduceNe, Int.reduceLT, Int.reduceLE, Int.reduceNeg, Int.reduceMod, Int.reduceDiv, Int.reduceAdd, Int.reduceSub, Int.reduceMul, not_true_eq_false, not_false_eq_true, Int.lt_irrefl, true_or, or_true, false_or, or_false, true_and, and_true, false_and, and_false, b2_T, b2_F, if_true, if_false, ↓mjn_b, ↓mjn0_b, ↓mjn2_b, iv_lit, iv_add, iv_sub, iv_mul, iv_neg, iv_le_t, iv_le_f, iv_lt_t, iv_lt_f, iv_eq_t, iv_eq_f, iv_div, iv_mod, mretT_p, mretT_b, e_mret, ↓e_bret, ↓m_mon, ↓m_oI0, m_pI0, ↓m_oI3, m_pI3, ↓m_oI5, m_pI5, ↓m_oI7, m_pI7, ↓m_oI11, m_pI11, ↓m_oI12, m_pI12, ↓m_oI13, m_pI13, ↓m_oI14, m_pI14, ↓m_oI15, m_pI15, ↓m_oI16, m_pI16, ↓m_oI17, m_pI17, m_pZ5, m_pZ12, ↓m_oR1, m_aI1, m_sI1, ↓m_oR2, m_aI2, m_sI2, ↓m_oR4, m_aI4, m_sI4, ↓m_oR6, m_aI6, m_sI6, ↓m_oR8, m_aI8, m_sI8, ↓m_oR9, m_aI9, m_sI9, ↓m_oR10, m_aI10, m_sI10, e_call0 ec, b2_f hg, mu_nb, mu_at, mu_ni]
noncomputable def o_guestOn (x : XS) (t : Int) (c : Int) : Int × Int × XS := @ite (Int × Int × XS) (isCh x.1 t c) (Classical.propDecidable _) (0, sitr x.1 t c, x) (1, 0, x)
theorem MR_guestOn {g : Nat → Nat} {h : Nat → Option hC} {n m : Nat} {M : Mm} {x : XS} {t c : Int} (hs : MS M x) (ht : -2147483648 ≤ t ∧ t < 2147483648) (hc : -2147483648 ≤ c ∧ c < 2147483648) : MR m h n (fX7_guestOn g (some m) (iv t) (iv c) (md m M h, n, 0)) (o_guestOn x t c) := by
  have hz := MS_z hs
  have hx := hs.1
  unfold o_guestOn
  rw [hx]
  have h15 := wZ_15 hz
  have h60 := wZ_60 hz
  have ec := X7_isChair_ev (g := g) (h := h) (n := n) (w := 0) (m := m) (M := M) hz ht hc
  by_cases hg : isCh (M 1) t c
  · rw [if_pos hg]
    refine MR_q hs (mu M 0 0 0) _ ?_ mu_eq (fun _ => rfl) qeff_0
    have hg2 := hg
    unfold isCh at hg2
    have hw := wZ_t hz hg2.1
    have hcn := chN_rg (zk (M 1) t)
    have e1 := X7_sitter_ev (g := g) (h := h) (n := n) (w := 0) (m := m) (M := mu M 0 0 0) (t := t) (c := c) (by rw [mu_ob (show (1 : Nat) ≠ 0 by decide)]; exact hz) (by omega) (by omega)
    rw [mu_ob (show (1 : Nat) ≠ 0 by decide)] at e1
    unfold fX7_guestOn
    simp (disch := omega) only [↓reduceIte, Int.reduceEq, Int.reduceNe, Int.reduceLT, Int.reduceLE, Int.reduceNeg, Int.reduceMod, Int.reduceDiv, Int.reduceAdd, Int.reduceSub, Int.reduceMul, not_true_eq_false, not_false_eq_true, Int.lt_irrefl, true_or, or_true, false_or, or_false, true_and, and_true, false_and, and_false, b2_T, b2_F, if_true, if_false, ↓mjn_b, ↓mjn0_b, ↓mjn2_b, iv_lit, iv_add, iv_sub, iv_mul, iv_neg, iv_le_t, iv_le_f, iv_lt_t, iv_lt_f, iv_eq_t, iv_eq_f, iv_div, iv_mod, mretT_p, mretT_b, e_mret, ↓e_bret, ↓m_mon, ↓m_oI0, m_pI0, ↓m_oI3, m_pI3, ↓m_oI5, m_pI5, ↓m_oI7, m_pI7, ↓m_oI11, m_pI11, ↓m_oI12, m_pI12, ↓m_oI13, m_pI13, ↓m_oI14, m_pI14, ↓m_oI15, m_pI15, ↓m_oI16, m_pI16, ↓m_oI17, m_pI17, m_pZ5, m_pZ12, ↓m_oR1, m_aI1, m_sI1, ↓m_oR2, m_aI2, m_sI2, ↓m_oR4, m_aI4, m_sI4, ↓m_oR6, m_aI6, m_sI6, ↓m_oR8, m_aI8, m_sI8, ↓m_oR9, m_aI9, m_sI9, ↓m_oR10, m_aI10, m_sI10, e_call0 ec, b2_t hg, e_call0 e1, mu_nb, mu_at, mu_ni]
  · rw [if_neg hg]
    refine MR_q hs (mu M 0 0 1) (iv 0) ?_ mu_eq (fun q => by omega) qeff_0
    unfold fX7_guestOn
    simp (disch := omega) only [↓reduceIte, Int.reduceEq, Int.reduceNe, Int.reduceLT, Int.reduceLE, Int.reduceNeg, Int.reduceMod, Int.reduceDiv, Int.reduceAdd, Int.reduceSub, Int.reduceMul, not_true_eq_false, not_false_eq_true, Int.lt_irrefl, true_or, or_true, false_or, or_false, true_and, and_true, false_and, and_false, b2_T, b2_F, if_true, if_false, ↓mjn_b, ↓mjn0_b, ↓mjn2_b, iv_lit, iv_add, iv_sub, iv_mul, iv_neg, iv_le_t, iv_le_f, iv_lt_t, iv_lt_f, iv_eq_t, iv_eq_f, iv_div, iv_mod, mretT_p, mretT_b, e_mret, ↓e_bret, ↓m_mon, ↓m_oI0, m_pI0, ↓m_oI3, m_pI3, ↓m_oI5, m_pI5, ↓m_oI7, m_pI7, ↓m_oI11, m_pI11, ↓m_oI12, m_pI12, ↓m_oI13, m_pI13, ↓m_oI14, m_pI14, ↓m_oI15, m_pI15, ↓m_oI16, m_pI16, ↓m_oI17, m_pI17, m_pZ5, m_pZ12, ↓m_oR1, m_aI1, m_sI1, ↓m_oR2, m_aI2, m_sI2, ↓m_oR4, m_aI4, m_sI4, ↓m_oR6, m_aI6, m_sI6, ↓m_oR8, m_aI8, m_sI8, ↓m_oR9, m_aI9, m_sI9, ↓m_oR10, m_aI10, m_sI10, e_call0 ec, b2_f hg, mu_nb, mu_at, mu_ni]
noncomputable def o_placeByName (x : XS) (y : Int) : Int × Int × XS := @ite (Int × Int × XS) (0 ≤ y ∧ y ≤ x.1 60 - 1) (Classical.propDecidable _) (0, pln x.1 y, x) (1, 0, x)
theorem MR_placeByName {g : Nat → Nat} {h : Nat → Option hC} {n m : Nat} {M : Mm} {x : XS} {y : Int} (hs : MS M x) (hy : -2147483648 ≤ y ∧ y < 2147483648) : MR m h n (fX7_placeByName g (some m) (iv y) (md m M h, n, 0)) (o_placeByName x y) := by
  have hz := MS_z hs
  have hx := hs.1
  unfold o_placeByName
  rw [hx]
  have h15 := wZ_15 hz
  have h60 := wZ_60 hz
  by_cases hg : 0 ≤ y ∧ y ≤ M 1 60 - 1
  · rw [if_pos hg]
    refine MR_q hs (mu M 0 0 0) _ ?_ mu_eq (fun _ => rfl) qeff_0
    have hy2 : 0 ≤ y ∧ y < M 1 60 := by omega
    have e1 := X7_placeByName_L21_ev (g := g) (h := h) (n := n) (w := 0) (m := m) (M := mu M 0 0 0) (x := y) (by rw [mu_ob (show (1 : Nat) ≠ 0 by decide)]; exact hz) (by rw [mu_ob (show (1 : Nat) ≠ 0 by decide)]; exact hy2) mu_eq (M 1 60).toNat 5000 0 0 (by omega) (by omega) (by rw [mu_ob (show (1 : Nat) ≠ 0 by decide)]; omega)
    rw [mu_ob (show (1 : Nat) ≠ 0 by decide)] at e1
    unfold pln
    unfold fX7_placeByName
    simp (disch := omega) only [↓reduceIte, Int.reduceEq, Int.reduceNe, Int.reduceLT, Int.reduceLE, Int.reduceNeg, Int.reduceMod, Int.reduceDiv, Int.reduceAdd, Int.reduceSub, Int.reduceMul, not_true_eq_false, not_false_eq_true, Int.lt_irrefl, true_or, or_true, false_or, or_false, true_and, and_true, false_and, and_false, b2_T, b2_F, if_true, if_false, ↓mjn_b, ↓mjn0_b, ↓mjn2_b, iv_lit, iv_add, iv_sub, iv_mul, iv_neg, iv_le_t, iv_le_f, iv_lt_t, iv_lt_f, iv_eq_t, iv_eq_f, iv_div, iv_mod, mretT_p, mretT_b, e_mret, ↓e_bret, ↓m_mon, ↓m_oI0, m_pI0, ↓m_oI3, m_pI3, ↓m_oI5, m_pI5, ↓m_oI7, m_pI7, ↓m_oI11, m_pI11, ↓m_oI12, m_pI12, ↓m_oI13, m_pI13, ↓m_oI14, m_pI14, ↓m_oI15, m_pI15, ↓m_oI16, m_pI16, ↓m_oI17, m_pI17, m_pZ5, m_pZ12, ↓m_oR1, m_aI1, m_sI1, ↓m_oR2, m_aI2, m_sI2, ↓m_oR4, m_aI4, m_sI4, ↓m_oR6, m_aI6, m_sI6, ↓m_oR8, m_aI8, m_sI8, ↓m_oR9, m_aI9, m_sI9, ↓m_oR10, m_aI10, m_sI10, X7_isGuest_c, b2_t hg, e1, mu_nb, mu_at, mu_ni]
  · rw [if_neg hg]
    refine MR_q hs (mu M 0 0 1) (iv 0) ?_ mu_eq (fun q => by omega) qeff_0
    have e0 : ∀ q, fX7_placeByName_L21 g (q + 1) (some m) (iv y) (iv 0) (iv 0) (md m (mu M 0 0 1) h, n, 0) = some (iv 0, (md m (mu M 0 0 1) h, n, 0)) := fun q => by
      by_cases h6 : M 1 60 ≤ 0
      · simp (disch := omega) only [↓reduceIte, Int.reduceEq, Int.reduceNe, Int.reduceLT, Int.reduceLE, Int.reduceNeg, Int.reduceMod, Int.reduceDiv, Int.reduceAdd, Int.reduceSub, Int.reduceMul, not_true_eq_false, not_false_eq_true, Int.lt_irrefl, true_or, or_true, false_or, or_false, true_and, and_true, false_and, and_false, b2_T, b2_F, if_true, if_false, ↓mjn_b, ↓mjn0_b, ↓mjn2_b, iv_lit, iv_add, iv_sub, iv_mul, iv_neg, iv_le_t, iv_le_f, iv_lt_t, iv_lt_f, iv_eq_t, iv_eq_f, iv_div, iv_mod, mretT_p, mretT_b, e_mret, ↓e_bret, ↓m_mon, ↓m_oI0, m_pI0, ↓m_oI3, m_pI3, ↓m_oI5, m_pI5, ↓m_oI7, m_pI7, ↓m_oI11, m_pI11, ↓m_oI12, m_pI12, ↓m_oI13, m_pI13, ↓m_oI14, m_pI14, ↓m_oI15, m_pI15, ↓m_oI16, m_pI16, ↓m_oI17, m_pI17, m_pZ5, m_pZ12, ↓m_oR1, m_aI1, m_sI1, ↓m_oR2, m_aI2, m_sI2, ↓m_oR4, m_aI4, m_sI4, ↓m_oR6, m_aI6, m_sI6, ↓m_oR8, m_aI8, m_sI8, ↓m_oR9, m_aI9, m_sI9, ↓m_oR10, m_aI10, m_sI10, fX7_placeByName_L21, mu_nb, mu_at, mu_ni]
      · simp (disch := omega) only [↓reduceIte, Int.reduceEq, Int.reduceNe, Int.reduceLT, Int.reduceLE, Int.reduceNeg, Int.reduceMod, Int.reduceDiv, Int.reduceAdd, Int.reduceSub, Int.reduceMul, not_true_eq_false, not_false_eq_true, Int.lt_irrefl, true_or, or_true, false_or, or_false, true_and, and_true, false_and, and_false, b2_T, b2_F, if_true, if_false, ↓mjn_b, ↓mjn0_b, ↓mjn2_b, iv_lit, iv_add, iv_sub, iv_mul, iv_neg, iv_le_t, iv_le_f, iv_lt_t, iv_lt_f, iv_eq_t, iv_eq_f, iv_div, iv_mod, mretT_p, mretT_b, e_mret, ↓e_bret, ↓m_mon, ↓m_oI0, m_pI0, ↓m_oI3, m_pI3, ↓m_oI5, m_pI5, ↓m_oI7, m_pI7, ↓m_oI11, m_pI11, ↓m_oI12, m_pI12, ↓m_oI13, m_pI13, ↓m_oI14, m_pI14, ↓m_oI15, m_pI15, ↓m_oI16, m_pI16, ↓m_oI17, m_pI17, m_pZ5, m_pZ12, ↓m_oR1, m_aI1, m_sI1, ↓m_oR2, m_aI2, m_sI2, ↓m_oR4, m_aI4, m_sI4, ↓m_oR6, m_aI6, m_sI6, ↓m_oR8, m_aI8, m_sI8, ↓m_oR9, m_aI9, m_sI9, ↓m_oR10, m_aI10, m_sI10, fX7_placeByName_L21, mu_nb, mu_at, mu_ni]
    have e1 := e0 4999
    unfold fX7_placeByName
    simp (disch := omega) only [↓reduceIte, Int.reduceEq, Int.reduceNe, Int.reduceLT, Int.reduceLE, Int.reduceNeg, Int.reduceMod, Int.reduceDiv, Int.reduceAdd, Int.reduceSub, Int.reduceMul, not_true_eq_false, not_false_eq_true, Int.lt_irrefl, true_or, or_true, false_or, or_false, true_and, and_true, false_and, and_false, b2_T, b2_F, if_true, if_false, ↓mjn_b, ↓mjn0_b, ↓mjn2_b, iv_lit, iv_add, iv_sub, iv_mul, iv_neg, iv_le_t, iv_le_f, iv_lt_t, iv_lt_f, iv_eq_t, iv_eq_f, iv_div, iv_mod, mretT_p, mretT_b, e_mret, ↓e_bret, ↓m_mon, ↓m_oI0, m_pI0, ↓m_oI3, m_pI3, ↓m_oI5, m_pI5, ↓m_oI7, m_pI7, ↓m_oI11, m_pI11, ↓m_oI12, m_pI12, ↓m_oI13, m_pI13, ↓m_oI14, m_pI14, ↓m_oI15, m_pI15, ↓m_oI16, m_pI16, ↓m_oI17, m_pI17, m_pZ5, m_pZ12, ↓m_oR1, m_aI1, m_sI1, ↓m_oR2, m_aI2, m_sI2, ↓m_oR4, m_aI4, m_sI4, ↓m_oR6, m_aI6, m_sI6, ↓m_oR8, m_aI8, m_sI8, ↓m_oR9, m_aI9, m_sI9, ↓m_oR10, m_aI10, m_sI10, X7_isGuest_c, b2_f hg, e1, mu_nb, mu_at, mu_ni]
noncomputable def o_letterOf (x : XS) (y : Int) (i : Int) : Int × Int × XS := @ite (Int × Int × XS) ((0 ≤ y ∧ y ≤ x.1 60 - 1) ∧ 0 ≤ i) (Classical.propDecidable _) (0, if gl x.1 y ≤ i then -1 else gn x.1 y i, x) (1, 0, x)
theorem MR_letterOf {g : Nat → Nat} {h : Nat → Option hC} {n m : Nat} {M : Mm} {x : XS} {y i : Int} (hs : MS M x) (hy : -2147483648 ≤ y ∧ y < 2147483648) (hi : -2147483648 ≤ i ∧ i < 2147483648) : MR m h n (fX7_letterOf g (some m) (iv y) (iv i) (md m M h, n, 0)) (o_letterOf x y i) := by
  have hz := MS_z hs
  have hx := hs.1
  unfold o_letterOf
  rw [hx]
  have h60 := wZ_60 hz
  by_cases hg : 0 ≤ y ∧ y ≤ M 1 60 - 1
  · have hy2 : 0 ≤ y ∧ y < M 1 60 := by omega
    have r := wZ_graw hz hy2
    by_cases hi0 : 0 ≤ i
    · rw [if_pos ⟨hg, hi0⟩]
      refine MR_q hs (mu M 0 0 0) _ ?_ mu_eq (fun _ => rfl) qeff_0
      unfold fX7_letterOf gl gn
      by_cases h1 : M 1 (61 + 18 * y + 3) ≤ i
      · simp (disch := omega) only [↓reduceIte, Int.reduceEq, Int.reduceNe, Int.reduceLT, Int.reduceLE, Int.reduceNeg, Int.reduceMod, Int.reduceDiv, Int.reduceAdd, Int.reduceSub, Int.reduceMul, not_true_eq_false, not_false_eq_true, Int.lt_irrefl, true_or, or_true, false_or, or_false, true_and, and_true, false_and, and_false, b2_T, b2_F, if_true, if_false, ↓mjn_b, ↓mjn0_b, ↓mjn2_b, iv_lit, iv_add, iv_sub, iv_mul, iv_neg, iv_le_t, iv_le_f, iv_lt_t, iv_lt_f, iv_eq_t, iv_eq_f, iv_div, iv_mod, mretT_p, mretT_b, e_mret, ↓e_bret, ↓m_mon, ↓m_oI0, m_pI0, ↓m_oI3, m_pI3, ↓m_oI5, m_pI5, ↓m_oI7, m_pI7, ↓m_oI11, m_pI11, ↓m_oI12, m_pI12, ↓m_oI13, m_pI13, ↓m_oI14, m_pI14, ↓m_oI15, m_pI15, ↓m_oI16, m_pI16, ↓m_oI17, m_pI17, m_pZ5, m_pZ12, ↓m_oR1, m_aI1, m_sI1, ↓m_oR2, m_aI2, m_sI2, ↓m_oR4, m_aI4, m_sI4, ↓m_oR6, m_aI6, m_sI6, ↓m_oR8, m_aI8, m_sI8, ↓m_oR9, m_aI9, m_sI9, ↓m_oR10, m_aI10, m_sI10, X7_isGuest_c, b2_t hg, X7_guest_c, h1, mu_nb, mu_at, mu_ni]
      · simp (disch := omega) only [↓reduceIte, Int.reduceEq, Int.reduceNe, Int.reduceLT, Int.reduceLE, Int.reduceNeg, Int.reduceMod, Int.reduceDiv, Int.reduceAdd, Int.reduceSub, Int.reduceMul, not_true_eq_false, not_false_eq_true, Int.lt_irrefl, true_or, or_true, false_or, or_false, true_and, and_true, false_and, and_false, b2_T, b2_F, if_true, if_false, ↓mjn_b, ↓mjn0_b, ↓mjn2_b, iv_lit, iv_add, iv_sub, iv_mul, iv_neg, iv_le_t, iv_le_f, iv_lt_t, iv_lt_f, iv_eq_t, iv_eq_f, iv_div, iv_mod, mretT_p, mretT_b, e_mret, ↓e_bret, ↓m_mon, ↓m_oI0, m_pI0, ↓m_oI3, m_pI3, ↓m_oI5, m_pI5, ↓m_oI7, m_pI7, ↓m_oI11, m_pI11, ↓m_oI12, m_pI12, ↓m_oI13, m_pI13, ↓m_oI14, m_pI14, ↓m_oI15, m_pI15, ↓m_oI16, m_pI16, ↓m_oI17, m_pI17, m_pZ5, m_pZ12, ↓m_oR1, m_aI1, m_sI1, ↓m_oR2, m_aI2, m_sI2, ↓m_oR4, m_aI4, m_sI4, ↓m_oR6, m_aI6, m_sI6, ↓m_oR8, m_aI8, m_sI8, ↓m_oR9, m_aI9, m_sI9, ↓m_oR10, m_aI10, m_sI10, X7_isGuest_c, b2_t hg, X7_guest_c, h1, mu_nb, mu_at, mu_ni]
    · rw [if_neg (fun q => hi0 q.2)]
      refine MR_q hs (mu M 0 0 1) (iv 0) ?_ mu_eq (fun q => by omega) qeff_0
      unfold fX7_letterOf
      simp (disch := omega) only [↓reduceIte, Int.reduceEq, Int.reduceNe, Int.reduceLT, Int.reduceLE, Int.reduceNeg, Int.reduceMod, Int.reduceDiv, Int.reduceAdd, Int.reduceSub, Int.reduceMul, not_true_eq_false, not_false_eq_true, Int.lt_irrefl, true_or, or_true, false_or, or_false, true_and, and_true, false_and, and_false, b2_T, b2_F, if_true, if_false, ↓mjn_b, ↓mjn0_b, ↓mjn2_b, iv_lit, iv_add, iv_sub, iv_mul, iv_neg, iv_le_t, iv_le_f, iv_lt_t, iv_lt_f, iv_eq_t, iv_eq_f, iv_div, iv_mod, mretT_p, mretT_b, e_mret, ↓e_bret, ↓m_mon, ↓m_oI0, m_pI0, ↓m_oI3, m_pI3, ↓m_oI5, m_pI5, ↓m_oI7, m_pI7, ↓m_oI11, m_pI11, ↓m_oI12, m_pI12, ↓m_oI13, m_pI13, ↓m_oI14, m_pI14, ↓m_oI15, m_pI15, ↓m_oI16, m_pI16, ↓m_oI17, m_pI17, m_pZ5, m_pZ12, ↓m_oR1, m_aI1, m_sI1, ↓m_oR2, m_aI2, m_sI2, ↓m_oR4, m_aI4, m_sI4, ↓m_oR6, m_aI6, m_sI6, ↓m_oR8, m_aI8, m_sI8, ↓m_oR9, m_aI9, m_sI9, ↓m_oR10, m_aI10, m_sI10, X7_isGuest_c, b2_t hg, mu_nb, mu_at, mu_ni]
  · rw [if_neg (fun q => hg q.1)]
    refine MR_q hs (mu M 0 0 1) (iv 0) ?_ mu_eq (fun q => by omega) qeff_0
    unfold fX7_letterOf
    simp (disch := omega) only [↓reduceIte, Int.reduceEq, Int.reduceNe, Int.reduceLT, Int.reduceLE, Int.reduceNeg, Int.reduceMod, Int.reduceDiv, Int.reduceAdd, Int.reduceSub, Int.reduceMul, not_true_eq_false, not_false_eq_true, Int.lt_irrefl, true_or, or_true, false_or, or_false, true_and, and_true, false_and, and_false, b2_T, b2_F, if_true, if_false, ↓mjn_b, ↓mjn0_b, ↓mjn2_b, iv_lit, iv_add, iv_sub, iv_mul, iv_neg, iv_le_t, iv_le_f, iv_lt_t, iv_lt_f, iv_eq_t, iv_eq_f, iv_div, iv_mod, mretT_p, mretT_b, e_mret, ↓e_bret, ↓m_mon, ↓m_oI0, m_pI0, ↓m_oI3, m_pI3, ↓m_oI5, m_pI5, ↓m_oI7, m_pI7, ↓m_oI11, m_pI11, ↓m_oI12, m_pI12, ↓m_oI13, m_pI13, ↓m_oI14, m_pI14, ↓m_oI15, m_pI15, ↓m_oI16, m_pI16, ↓m_oI17, m_pI17, m_pZ5, m_pZ12, ↓m_oR1, m_aI1, m_sI1, ↓m_oR2, m_aI2, m_sI2, ↓m_oR4, m_aI4, m_sI4, ↓m_oR6, m_aI6, m_sI6, ↓m_oR8, m_aI8, m_sI8, ↓m_oR9, m_aI9, m_sI9, ↓m_oR10, m_aI10, m_sI10, X7_isGuest_c, b2_f hg, mu_nb, mu_at, mu_ni]
noncomputable def o_whyNotSeated (x : XS) (y : Int) (t : Int) (c : Int) : Int × Int × XS := @ite (Int × Int × XS) ((0 ≤ y ∧ y ≤ x.1 60 - 1) ∧ isCh x.1 t c) (Classical.propDecidable _) (0, nse x.1 y t c, x) (1, 0, x)
theorem MR_whyNotSeated {g : Nat → Nat} {h : Nat → Option hC} {n m : Nat} {M : Mm} {x : XS} {y t c : Int} (hs : MS M x) (hy : -2147483648 ≤ y ∧ y < 2147483648) (ht : -2147483648 ≤ t ∧ t < 2147483648) (hc : -2147483648 ≤ c ∧ c < 2147483648) : MR m h n (fX7_whyNotSeated g (some m) (iv y) (iv t) (iv c) (md m M h, n, 0)) (o_whyNotSeated x y t c) := by
  have hz := MS_z hs
  have hx := hs.1
  unfold o_whyNotSeated
  rw [hx]
  have h60 := wZ_60 hz
  have ec := X7_isChair_ev (g := g) (h := h) (n := n) (w := 0) (m := m) (M := M) hz ht hc
  by_cases hg : 0 ≤ y ∧ y ≤ M 1 60 - 1
  · have hy2 : 0 ≤ y ∧ y < M 1 60 := by omega
    by_cases hi0 : isCh (M 1) t c
    · rw [if_pos ⟨hg, hi0⟩]
      refine MR_q hs (mu M 0 0 0) _ ?_ mu_eq (fun _ => rfl) qeff_0
      have hg2 := hi0
      unfold isCh at hg2
      have hcn := chN_rg (zk (M 1) t)
      have e1 := X7_noSeat_ev (g := g) (h := h) (n := n) (w := 0) (m := m) (M := mu M 0 0 0) (x := y) (t := t) (c := c) (by rw [mu_ob (show (1 : Nat) ≠ 0 by decide)]; exact hz) (by rw [mu_ob (show (1 : Nat) ≠ 0 by decide)]; exact hy2) (by rw [mu_ob (show (1 : Nat) ≠ 0 by decide)]; exact hg2.1) (by omega)
      rw [mu_ob (show (1 : Nat) ≠ 0 by decide)] at e1
      unfold fX7_whyNotSeated
      simp (disch := omega) only [↓reduceIte, Int.reduceEq, Int.reduceNe, Int.reduceLT, Int.reduceLE, Int.reduceNeg, Int.reduceMod, Int.reduceDiv, Int.reduceAdd, Int.reduceSub, Int.reduceMul, not_true_eq_false, not_false_eq_true, Int.lt_irrefl, true_or, or_true, false_or, or_false, true_and, and_true, false_and, and_false, b2_T, b2_F, if_true, if_false, ↓mjn_b, ↓mjn0_b, ↓mjn2_b, iv_lit, iv_add, iv_sub, iv_mul, iv_neg, iv_le_t, iv_le_f, iv_lt_t, iv_lt_f, iv_eq_t, iv_eq_f, iv_div, iv_mod, mretT_p, mretT_b, e_mret, ↓e_bret, ↓m_mon, ↓m_oI0, m_pI0, ↓m_oI3, m_pI3, ↓m_oI5, m_pI5, ↓m_oI7, m_pI7, ↓m_oI11, m_pI11, ↓m_oI12, m_pI12, ↓m_oI13, m_pI13, ↓m_oI14, m_pI14, ↓m_oI15, m_pI15, ↓m_oI16, m_pI16, ↓m_oI17, m_pI17, m_pZ5, m_pZ12, ↓m_oR1, m_aI1, m_sI1, ↓m_oR2, m_aI2, m_sI2, ↓m_oR4, m_aI4, m_sI4, ↓m_oR6, m_aI6, m_sI6, ↓m_oR8, m_aI8, m_sI8, ↓m_oR9, m_aI9, m_sI9, ↓m_oR10, m_aI10, m_sI10, X7_isGuest_c, b2_t hg, e_call0 ec, b2_t hi0, e_call0 e1, mu_nb, mu_at, mu_ni]
    · rw [if_neg (fun q => hi0 q.2)]
      refine MR_q hs (mu M 0 0 1) (iv 0) ?_ mu_eq (fun q => by omega) qeff_0
      unfold fX7_whyNotSeated
      simp (disch := omega) only [↓reduceIte, Int.reduceEq, Int.reduceNe, Int.reduceLT, Int.reduceLE, Int.reduceNeg, Int.reduceMod, Int.reduceDiv, Int.reduceAdd, Int.reduceSub, Int.reduceMul, not_true_eq_false, not_false_eq_true, Int.lt_irrefl, true_or, or_true, false_or, or_false, true_and, and_true, false_and, and_false, b2_T, b2_F, if_true, if_false, ↓mjn_b, ↓mjn0_b, ↓mjn2_b, iv_lit, iv_add, iv_sub, iv_mul, iv_neg, iv_le_t, iv_le_f, iv_lt_t, iv_lt_f, iv_eq_t, iv_eq_f, iv_div, iv_mod, mretT_p, mretT_b, e_mret, ↓e_bret, ↓m_mon, ↓m_oI0, m_pI0, ↓m_oI3, m_pI3, ↓m_oI5, m_pI5, ↓m_oI7, m_pI7, ↓m_oI11, m_pI11, ↓m_oI12, m_pI12, ↓m_oI13, m_pI13, ↓m_oI14, m_pI14, ↓m_oI15, m_pI15, ↓m_oI16, m_pI16, ↓m_oI17, m_pI17, m_pZ5, m_pZ12, ↓m_oR1, m_aI1, m_sI1, ↓m_oR2, m_aI2, m_sI2, ↓m_oR4, m_aI4, m_sI4, ↓m_oR6, m_aI6, m_sI6, ↓m_oR8, m_aI8, m_sI8, ↓m_oR9, m_aI9, m_sI9, ↓m_oR10, m_aI10, m_sI10, X7_isGuest_c, b2_t hg, e_call0 ec, b2_f hi0, mu_nb, mu_at, mu_ni]
  · rw [if_neg (fun q => hg q.1)]
    refine MR_q hs (mu M 0 0 1) (iv 0) ?_ mu_eq (fun q => by omega) qeff_0
    unfold fX7_whyNotSeated
    simp (disch := omega) only [↓reduceIte, Int.reduceEq, Int.reduceNe, Int.reduceLT, Int.reduceLE, Int.reduceNeg, Int.reduceMod, Int.reduceDiv, Int.reduceAdd, Int.reduceSub, Int.reduceMul, not_true_eq_false, not_false_eq_true, Int.lt_irrefl, true_or, or_true, false_or, or_false, true_and, and_true, false_and, and_false, b2_T, b2_F, if_true, if_false, ↓mjn_b, ↓mjn0_b, ↓mjn2_b, iv_lit, iv_add, iv_sub, iv_mul, iv_neg, iv_le_t, iv_le_f, iv_lt_t, iv_lt_f, iv_eq_t, iv_eq_f, iv_div, iv_mod, mretT_p, mretT_b, e_mret, ↓e_bret, ↓m_mon, ↓m_oI0, m_pI0, ↓m_oI3, m_pI3, ↓m_oI5, m_pI5, ↓m_oI7, m_pI7, ↓m_oI11, m_pI11, ↓m_oI12, m_pI12, ↓m_oI13, m_pI13, ↓m_oI14, m_pI14, ↓m_oI15, m_pI15, ↓m_oI16, m_pI16, ↓m_oI17, m_pI17, m_pZ5, m_pZ12, ↓m_oR1, m_aI1, m_sI1, ↓m_oR2, m_aI2, m_sI2, ↓m_oR4, m_aI4, m_sI4, ↓m_oR6, m_aI6, m_sI6, ↓m_oR8, m_aI8, m_sI8, ↓m_oR9, m_aI9, m_sI9, ↓m_oR10, m_aI10, m_sI10, X7_isGuest_c, b2_f hg, mu_nb, mu_at, mu_ni]
noncomputable def o_whyNotSwapped (x : XS) (y : Int) (k : Int) : Int × Int × XS := @ite (Int × Int × XS) ((0 ≤ y ∧ y ≤ x.1 60 - 1) ∧ 0 ≤ k ∧ k ≤ x.1 60 - 1) (Classical.propDecidable _) (0, nsw x.1 y k, x) (1, 0, x)
theorem MR_whyNotSwapped {g : Nat → Nat} {h : Nat → Option hC} {n m : Nat} {M : Mm} {x : XS} {y k : Int} (hs : MS M x) (hy : -2147483648 ≤ y ∧ y < 2147483648) (hk : -2147483648 ≤ k ∧ k < 2147483648) : MR m h n (fX7_whyNotSwapped g (some m) (iv y) (iv k) (md m M h, n, 0)) (o_whyNotSwapped x y k) := by
  have hz := MS_z hs
  have hx := hs.1
  unfold o_whyNotSwapped
  rw [hx]
  have h60 := wZ_60 hz
  by_cases hg : 0 ≤ y ∧ y ≤ M 1 60 - 1
  · have hy2 : 0 ≤ y ∧ y < M 1 60 := by omega
    by_cases hi0 : 0 ≤ k ∧ k ≤ M 1 60 - 1
    · rw [if_pos ⟨hg, hi0⟩]
      refine MR_q hs (mu M 0 0 0) _ ?_ mu_eq (fun _ => rfl) qeff_0
      have hk2 : 0 ≤ k ∧ k < M 1 60 := by omega
      have e1 := X7_noSwap_ev (g := g) (h := h) (n := n) (w := 0) (m := m) (M := mu M 0 0 0) (x := y) (y := k) (by rw [mu_ob (show (1 : Nat) ≠ 0 by decide)]; exact hz) (by rw [mu_ob (show (1 : Nat) ≠ 0 by decide)]; exact hy2) (by rw [mu_ob (show (1 : Nat) ≠ 0 by decide)]; exact hk2)
      rw [mu_ob (show (1 : Nat) ≠ 0 by decide)] at e1
      unfold fX7_whyNotSwapped
      simp (disch := omega) only [↓reduceIte, Int.reduceEq, Int.reduceNe, Int.reduceLT, Int.reduceLE, Int.reduceNeg, Int.reduceMod, Int.reduceDiv, Int.reduceAdd, Int.reduceSub, Int.reduceMul, not_true_eq_false, not_false_eq_true, Int.lt_irrefl, true_or, or_true, false_or, or_false, true_and, and_true, false_and, and_false, b2_T, b2_F, if_true, if_false, ↓mjn_b, ↓mjn0_b, ↓mjn2_b, iv_lit, iv_add, iv_sub, iv_mul, iv_neg, iv_le_t, iv_le_f, iv_lt_t, iv_lt_f, iv_eq_t, iv_eq_f, iv_div, iv_mod, mretT_p, mretT_b, e_mret, ↓e_bret, ↓m_mon, ↓m_oI0, m_pI0, ↓m_oI3, m_pI3, ↓m_oI5, m_pI5, ↓m_oI7, m_pI7, ↓m_oI11, m_pI11, ↓m_oI12, m_pI12, ↓m_oI13, m_pI13, ↓m_oI14, m_pI14, ↓m_oI15, m_pI15, ↓m_oI16, m_pI16, ↓m_oI17, m_pI17, m_pZ5, m_pZ12, ↓m_oR1, m_aI1, m_sI1, ↓m_oR2, m_aI2, m_sI2, ↓m_oR4, m_aI4, m_sI4, ↓m_oR6, m_aI6, m_sI6, ↓m_oR8, m_aI8, m_sI8, ↓m_oR9, m_aI9, m_sI9, ↓m_oR10, m_aI10, m_sI10, X7_isGuest_c, b2_t hg, b2_t hi0, e_call0 e1, mu_nb, mu_at, mu_ni]
    · rw [if_neg (fun q => hi0 q.2)]
      refine MR_q hs (mu M 0 0 1) (iv 0) ?_ mu_eq (fun q => by omega) qeff_0
      unfold fX7_whyNotSwapped
      simp (disch := omega) only [↓reduceIte, Int.reduceEq, Int.reduceNe, Int.reduceLT, Int.reduceLE, Int.reduceNeg, Int.reduceMod, Int.reduceDiv, Int.reduceAdd, Int.reduceSub, Int.reduceMul, not_true_eq_false, not_false_eq_true, Int.lt_irrefl, true_or, or_true, false_or, or_false, true_and, and_true, false_and, and_false, b2_T, b2_F, if_true, if_false, ↓mjn_b, ↓mjn0_b, ↓mjn2_b, iv_lit, iv_add, iv_sub, iv_mul, iv_neg, iv_le_t, iv_le_f, iv_lt_t, iv_lt_f, iv_eq_t, iv_eq_f, iv_div, iv_mod, mretT_p, mretT_b, e_mret, ↓e_bret, ↓m_mon, ↓m_oI0, m_pI0, ↓m_oI3, m_pI3, ↓m_oI5, m_pI5, ↓m_oI7, m_pI7, ↓m_oI11, m_pI11, ↓m_oI12, m_pI12, ↓m_oI13, m_pI13, ↓m_oI14, m_pI14, ↓m_oI15, m_pI15, ↓m_oI16, m_pI16, ↓m_oI17, m_pI17, m_pZ5, m_pZ12, ↓m_oR1, m_aI1, m_sI1, ↓m_oR2, m_aI2, m_sI2, ↓m_oR4, m_aI4, m_sI4, ↓m_oR6, m_aI6, m_sI6, ↓m_oR8, m_aI8, m_sI8, ↓m_oR9, m_aI9, m_sI9, ↓m_oR10, m_aI10, m_sI10, X7_isGuest_c, b2_t hg, b2_f hi0, mu_nb, mu_at, mu_ni]
  · rw [if_neg (fun q => hg q.1)]
    refine MR_q hs (mu M 0 0 1) (iv 0) ?_ mu_eq (fun q => by omega) qeff_0
    unfold fX7_whyNotSwapped
    simp (disch := omega) only [↓reduceIte, Int.reduceEq, Int.reduceNe, Int.reduceLT, Int.reduceLE, Int.reduceNeg, Int.reduceMod, Int.reduceDiv, Int.reduceAdd, Int.reduceSub, Int.reduceMul, not_true_eq_false, not_false_eq_true, Int.lt_irrefl, true_or, or_true, false_or, or_false, true_and, and_true, false_and, and_false, b2_T, b2_F, if_true, if_false, ↓mjn_b, ↓mjn0_b, ↓mjn2_b, iv_lit, iv_add, iv_sub, iv_mul, iv_neg, iv_le_t, iv_le_f, iv_lt_t, iv_lt_f, iv_eq_t, iv_eq_f, iv_div, iv_mod, mretT_p, mretT_b, e_mret, ↓e_bret, ↓m_mon, ↓m_oI0, m_pI0, ↓m_oI3, m_pI3, ↓m_oI5, m_pI5, ↓m_oI7, m_pI7, ↓m_oI11, m_pI11, ↓m_oI12, m_pI12, ↓m_oI13, m_pI13, ↓m_oI14, m_pI14, ↓m_oI15, m_pI15, ↓m_oI16, m_pI16, ↓m_oI17, m_pI17, m_pZ5, m_pZ12, ↓m_oR1, m_aI1, m_sI1, ↓m_oR2, m_aI2, m_sI2, ↓m_oR4, m_aI4, m_sI4, ↓m_oR6, m_aI6, m_sI6, ↓m_oR8, m_aI8, m_sI8, ↓m_oR9, m_aI9, m_sI9, ↓m_oR10, m_aI10, m_sI10, X7_isGuest_c, b2_f hg, mu_nb, mu_at, mu_ni]
noncomputable def o_lineOf (x : XS) (t : Int) (c : Int) (r : Int) : Int × Int × XS := @ite (Int × Int × XS) (isCh x.1 t c) (Classical.propDecidable _) (@ite (Int × Int × XS) (0 ≤ r ∧ r ≤ chT x.1 t c / 16 - 1) (Classical.propDecidable _) (0, lcol x.1 (chT x.1 t c) r, x) (2, 0, x)) (1, 0, x)
theorem MR_lineOf {g : Nat → Nat} {h : Nat → Option hC} {n m : Nat} {M : Mm} {x : XS} {t c r : Int} (hs : MS M x) (ht : -2147483648 ≤ t ∧ t < 2147483648) (hc : -2147483648 ≤ c ∧ c < 2147483648) (hr : -2147483648 ≤ r ∧ r < 2147483648) : MR m h n (fX7_lineOf g (some m) (iv t) (iv c) (iv r) (md m M h, n, 0)) (o_lineOf x t c r) := by
  have hz := MS_z hs
  have hx := hs.1
  unfold o_lineOf
  rw [hx]
  have ec := X7_isChair_ev (g := g) (h := h) (n := n) (w := 0) (m := m) (M := M) hz ht hc
  by_cases hg : isCh (M 1) t c
  · rw [if_pos hg]
    have hg2 := hg
    unfold isCh at hg2
    have hw := wZ_t hz hg2.1
    have hcn := chN_rg (zk (M 1) t)
    have h15 := wZ_15 hz
    have hci := chT_cin ((pck_0i hz.2.2.2.2.2.2).1 t hg2.1.1 hg2.1.2) hg2.2
    have e1 := X7_cellOfChair_ev (g := g) (h := h) (n := n) (w := 0) (m := m) (M := M) (t := t) (c := c) (by omega) hw (by omega)
    have e2 := fun v => X7_cellOfChair_ev (g := g) (h := h) (n := n) (w := 0) (m := m) (M := mu M 0 0 v) (t := t) (c := c) (by omega) (by rw [mu_ob (show (1 : Nat) ≠ 0 by decide)]; exact hw) (by omega)
    by_cases hr2 : 0 ≤ r ∧ r ≤ chT (M 1) t c / 16 - 1
    · rw [if_pos hr2]
      refine MR_q hs (mu M 0 0 0) _ ?_ mu_eq (fun _ => rfl) qeff_0
      have e3 := X7_column_ev (g := g) (h := h) (n := n) (w := 0) (m := m) (M := mu M 0 0 0) (c := chT (M 1) t c) (r := r) (by rw [mu_ob (show (1 : Nat) ≠ 0 by decide)]; exact hz.1.1) hci (by omega)
      have e2 := e2 0
      rw [mu_ob (show (1 : Nat) ≠ 0 by decide)] at e2 e3
      unfold fX7_lineOf
      simp (disch := omega) only [↓reduceIte, Int.reduceEq, Int.reduceNe, Int.reduceLT, Int.reduceLE, Int.reduceNeg, Int.reduceMod, Int.reduceDiv, Int.reduceAdd, Int.reduceSub, Int.reduceMul, not_true_eq_false, not_false_eq_true, Int.lt_irrefl, true_or, or_true, false_or, or_false, true_and, and_true, false_and, and_false, b2_T, b2_F, if_true, if_false, ↓mjn_b, ↓mjn0_b, ↓mjn2_b, iv_lit, iv_add, iv_sub, iv_mul, iv_neg, iv_le_t, iv_le_f, iv_lt_t, iv_lt_f, iv_eq_t, iv_eq_f, iv_div, iv_mod, mretT_p, mretT_b, e_mret, ↓e_bret, ↓m_mon, ↓m_oI0, m_pI0, ↓m_oI3, m_pI3, ↓m_oI5, m_pI5, ↓m_oI7, m_pI7, ↓m_oI11, m_pI11, ↓m_oI12, m_pI12, ↓m_oI13, m_pI13, ↓m_oI14, m_pI14, ↓m_oI15, m_pI15, ↓m_oI16, m_pI16, ↓m_oI17, m_pI17, m_pZ5, m_pZ12, ↓m_oR1, m_aI1, m_sI1, ↓m_oR2, m_aI2, m_sI2, ↓m_oR4, m_aI4, m_sI4, ↓m_oR6, m_aI6, m_sI6, ↓m_oR8, m_aI8, m_sI8, ↓m_oR9, m_aI9, m_sI9, ↓m_oR10, m_aI10, m_sI10, e_call0 ec, b2_t hg, e_call0 e1, e_call0 e2, e_call0 e3, X7_in_c, b2_t hr2, mu_nb, mu_at, mu_ni]
    · rw [if_neg hr2]
      refine MR_q hs (mu M 0 0 2) (iv 0) ?_ mu_eq (fun q => by omega) qeff_0
      unfold fX7_lineOf
      simp (disch := omega) only [↓reduceIte, Int.reduceEq, Int.reduceNe, Int.reduceLT, Int.reduceLE, Int.reduceNeg, Int.reduceMod, Int.reduceDiv, Int.reduceAdd, Int.reduceSub, Int.reduceMul, not_true_eq_false, not_false_eq_true, Int.lt_irrefl, true_or, or_true, false_or, or_false, true_and, and_true, false_and, and_false, b2_T, b2_F, if_true, if_false, ↓mjn_b, ↓mjn0_b, ↓mjn2_b, iv_lit, iv_add, iv_sub, iv_mul, iv_neg, iv_le_t, iv_le_f, iv_lt_t, iv_lt_f, iv_eq_t, iv_eq_f, iv_div, iv_mod, mretT_p, mretT_b, e_mret, ↓e_bret, ↓m_mon, ↓m_oI0, m_pI0, ↓m_oI3, m_pI3, ↓m_oI5, m_pI5, ↓m_oI7, m_pI7, ↓m_oI11, m_pI11, ↓m_oI12, m_pI12, ↓m_oI13, m_pI13, ↓m_oI14, m_pI14, ↓m_oI15, m_pI15, ↓m_oI16, m_pI16, ↓m_oI17, m_pI17, m_pZ5, m_pZ12, ↓m_oR1, m_aI1, m_sI1, ↓m_oR2, m_aI2, m_sI2, ↓m_oR4, m_aI4, m_sI4, ↓m_oR6, m_aI6, m_sI6, ↓m_oR8, m_aI8, m_sI8, ↓m_oR9, m_aI9, m_sI9, ↓m_oR10, m_aI10, m_sI10, e_call0 ec, b2_t hg, e_call0 e1, X7_in_c, b2_f hr2, mu_nb, mu_at, mu_ni]
  · rw [if_neg hg]
    refine MR_q hs (mu M 0 0 1) (iv 0) ?_ mu_eq (fun q => by omega) qeff_0
    unfold fX7_lineOf
    simp (disch := omega) only [↓reduceIte, Int.reduceEq, Int.reduceNe, Int.reduceLT, Int.reduceLE, Int.reduceNeg, Int.reduceMod, Int.reduceDiv, Int.reduceAdd, Int.reduceSub, Int.reduceMul, not_true_eq_false, not_false_eq_true, Int.lt_irrefl, true_or, or_true, false_or, or_false, true_and, and_true, false_and, and_false, b2_T, b2_F, if_true, if_false, ↓mjn_b, ↓mjn0_b, ↓mjn2_b, iv_lit, iv_add, iv_sub, iv_mul, iv_neg, iv_le_t, iv_le_f, iv_lt_t, iv_lt_f, iv_eq_t, iv_eq_f, iv_div, iv_mod, mretT_p, mretT_b, e_mret, ↓e_bret, ↓m_mon, ↓m_oI0, m_pI0, ↓m_oI3, m_pI3, ↓m_oI5, m_pI5, ↓m_oI7, m_pI7, ↓m_oI11, m_pI11, ↓m_oI12, m_pI12, ↓m_oI13, m_pI13, ↓m_oI14, m_pI14, ↓m_oI15, m_pI15, ↓m_oI16, m_pI16, ↓m_oI17, m_pI17, m_pZ5, m_pZ12, ↓m_oR1, m_aI1, m_sI1, ↓m_oR2, m_aI2, m_sI2, ↓m_oR4, m_aI4, m_sI4, ↓m_oR6, m_aI6, m_sI6, ↓m_oR8, m_aI8, m_sI8, ↓m_oR9, m_aI9, m_sI9, ↓m_oR10, m_aI10, m_sI10, e_call0 ec, b2_f hg, mu_nb, mu_at, mu_ni]
