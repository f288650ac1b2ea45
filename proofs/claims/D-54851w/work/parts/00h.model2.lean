/-! ===== the model: the hall is checked ===== -/
theorem X7_isIn_L98_ev {g : Nat → Nat} {h : Nat → Option hC} {n w : Nat} {kd u x y : Int} (hk : 0 ≤ kd ∧ kd ≤ 2) (hu : 0 ≤ u ∧ u ≤ 3) (hx : 0 ≤ x ∧ x ≤ 15) (hy : 0 ≤ y ∧ y ≤ 11) : ∀ (k nn : Nat) (a i : Int), k < nn → 0 ≤ i → i + k = chN kd → a = 0 ∨ a = 1 → fX7_isIn_L98 g nn (iv kd) (iv u) (iv x) (iv y) (iv a) (iv i) (h, n, w) = some (iv (foldI (fun a j => if a = 0 then 0 else b2 (chIn kd u x y j)) a i k), (h, n, w)) := by
  intro k
  induction k with
  | zero =>
    intro nn a i hn hi he ha
    obtain ⟨q, rfl⟩ : ∃ q, nn = q + 1 := ⟨nn - 1, by omega⟩
    have hcn := chN_rg kd
    simp (disch := omega) only [↓reduceIte, Int.reduceEq, Int.reduceNe, Int.reduceLT, Int.reduceLE, Int.reduceNeg, Int.reduceMod, Int.reduceDiv, Int.reduceAdd, Int.reduceSub, Int.reduceMul, not_true_eq_false, not_false_eq_true, true_or, or_true, false_or, or_false, true_and, and_true, false_and, and_false, b2_T, b2_F, if_true, if_false, ↓mjn_b, ↓mjn0_b, ↓mjn2_b, iv_lit, iv_add, iv_sub, iv_mul, iv_neg, iv_le_t, iv_le_f, iv_lt_t, iv_lt_f, iv_eq_t, iv_eq_f, iv_div, iv_mod, mretT_p, mretT_b, e_mret, ↓e_bret, fX7_isIn_L98, foldI, X7_chairs_c]
  | succ k ih =>
    intro nn a i hn hi he ha
    obtain ⟨q, rfl⟩ : ∃ q, nn = q + 1 := ⟨nn - 1, by omega⟩
    have hcn := chN_rg kd
    have hr := @chR_rg kd u i (by omega)
    have hd := @chD_rg kd u i (by omega)
    by_cases h1 : a = 0
    · simp (disch := omega) only [↓reduceIte, Int.reduceEq, Int.reduceNe, Int.reduceLT, Int.reduceLE, Int.reduceNeg, Int.reduceMod, Int.reduceDiv, Int.reduceAdd, Int.reduceSub, Int.reduceMul, not_true_eq_false, not_false_eq_true, true_or, or_true, false_or, or_false, true_and, and_true, false_and, and_false, b2_T, b2_F, if_true, if_false, ↓mjn_b, ↓mjn0_b, ↓mjn2_b, iv_lit, iv_add, iv_sub, iv_mul, iv_neg, iv_le_t, iv_le_f, iv_lt_t, iv_lt_f, iv_eq_t, iv_eq_f, iv_div, iv_mod, mretT_p, mretT_b, e_mret, ↓e_bret, fX7_isIn_L98, foldI, ih, X7_chairs_c, h1]
    · by_cases hP : (0 ≤ x + chR kd u i ∧ x + chR kd u i ≤ 15) ∧ 0 ≤ y + chD kd u i ∧ y + chD kd u i ≤ 11
      · simp (disch := omega) only [↓reduceIte, Int.reduceEq, Int.reduceNe, Int.reduceLT, Int.reduceLE, Int.reduceNeg, Int.reduceMod, Int.reduceDiv, Int.reduceAdd, Int.reduceSub, Int.reduceMul, not_true_eq_false, not_false_eq_true, true_or, or_true, false_or, or_false, true_and, and_true, false_and, and_false, b2_T, b2_F, if_true, if_false, ↓mjn_b, ↓mjn0_b, ↓mjn2_b, iv_lit, iv_add, iv_sub, iv_mul, iv_neg, iv_le_t, iv_le_f, iv_lt_t, iv_lt_f, iv_eq_t, iv_eq_f, iv_div, iv_mod, mretT_p, mretT_b, e_mret, ↓e_bret, fX7_isIn_L98, foldI, ih, X7_chairs_c, X7_chairRight_c, X7_chairDown_c, X7_isCell_c, chIn, inR, h1, b2_t hP]
      · simp (disch := omega) only [↓reduceIte, Int.reduceEq, Int.reduceNe, Int.reduceLT, Int.reduceLE, Int.reduceNeg, Int.reduceMod, Int.reduceDiv, Int.reduceAdd, Int.reduceSub, Int.reduceMul, not_true_eq_false, not_false_eq_true, true_or, or_true, false_or, or_false, true_and, and_true, false_and, and_false, b2_T, b2_F, if_true, if_false, ↓mjn_b, ↓mjn0_b, ↓mjn2_b, iv_lit, iv_add, iv_sub, iv_mul, iv_neg, iv_le_t, iv_le_f, iv_lt_t, iv_lt_f, iv_eq_t, iv_eq_f, iv_div, iv_mod, mretT_p, mretT_b, e_mret, ↓e_bret, fX7_isIn_L98, foldI, ih, X7_chairs_c, X7_chairRight_c, X7_chairDown_c, X7_isCell_c, chIn, inR, h1, b2_f hP]
theorem X7_isIn_L42_ev {g : Nat → Nat} {h : Nat → Option hC} {n w : Nat} {kd u x y : Int} {K : Int32 → HM Int32} (hk : 0 ≤ kd ∧ kd ≤ 2) (hu : 0 ≤ u ∧ u ≤ 3) (hx : 0 ≤ x ∧ x ≤ 15) (hy : 0 ≤ y ∧ y ≤ 11) : ∀ (k nn : Nat) (a i : Int), k < nn → 0 ≤ i → i + k = ceN kd → a = 0 ∨ a = 1 → fX7_isIn_L42 g nn (iv kd) (iv u) (iv x) (iv y) (iv a) (iv i) K (h, n, w) = K (iv (foldI (fun a j => if a = 0 then 0 else b2 (ceIn kd u x y j)) a i k)) (h, n, w) := by
  intro k
  induction k with
  | zero =>
    intro nn a i hn hi he ha
    obtain ⟨q, rfl⟩ : ∃ q, nn = q + 1 := ⟨nn - 1, by omega⟩
    have hcn := ceN_rg kd
    simp (disch := omega) only [↓reduceIte, Int.reduceEq, Int.reduceNe, Int.reduceLT, Int.reduceLE, Int.reduceNeg, Int.reduceMod, Int.reduceDiv, Int.reduceAdd, Int.reduceSub, Int.reduceMul, not_true_eq_false, not_false_eq_true, true_or, or_true, false_or, or_false, true_and, and_true, false_and, and_false, b2_T, b2_F, if_true, if_false, ↓mjn_b, ↓mjn0_b, ↓mjn2_b, iv_lit, iv_add, iv_sub, iv_mul, iv_neg, iv_le_t, iv_le_f, iv_lt_t, iv_lt_f, iv_eq_t, iv_eq_f, iv_div, iv_mod, mretT_p, mretT_b, e_mret, ↓e_bret, fX7_isIn_L42, foldI, X7_cells_c]
  | succ k ih =>
    intro nn a i hn hi he ha
    obtain ⟨q, rfl⟩ : ∃ q, nn = q + 1 := ⟨nn - 1, by omega⟩
    have hcn := ceN_rg kd
    have hr := @ceR_rg kd u i (by omega)
    have hd := @ceD_rg kd u i (by omega)
    by_cases h1 : a = 0
    · simp (disch := omega) only [↓reduceIte, Int.reduceEq, Int.reduceNe, Int.reduceLT, Int.reduceLE, Int.reduceNeg, Int.reduceMod, Int.reduceDiv, Int.reduceAdd, Int.reduceSub, Int.reduceMul, not_true_eq_false, not_false_eq_true, true_or, or_true, false_or, or_false, true_and, and_true, false_and, and_false, b2_T, b2_F, if_true, if_false, ↓mjn_b, ↓mjn0_b, ↓mjn2_b, iv_lit, iv_add, iv_sub, iv_mul, iv_neg, iv_le_t, iv_le_f, iv_lt_t, iv_lt_f, iv_eq_t, iv_eq_f, iv_div, iv_mod, mretT_p, mretT_b, e_mret, ↓e_bret, fX7_isIn_L42, foldI, ih, X7_cells_c, h1]
    · by_cases hP : (0 ≤ x + ceR kd u i ∧ x + ceR kd u i ≤ 15) ∧ 0 ≤ y + ceD kd u i ∧ y + ceD kd u i ≤ 11
      · simp (disch := omega) only [↓reduceIte, Int.reduceEq, Int.reduceNe, Int.reduceLT, Int.reduceLE, Int.reduceNeg, Int.reduceMod, Int.reduceDiv, Int.reduceAdd, Int.reduceSub, Int.reduceMul, not_true_eq_false, not_false_eq_true, true_or, or_true, false_or, or_false, true_and, and_true, false_and, and_false, b2_T, b2_F, if_true, if_false, ↓mjn_b, ↓mjn0_b, ↓mjn2_b, iv_lit, iv_add, iv_sub, iv_mul, iv_neg, iv_le_t, iv_le_f, iv_lt_t, iv_lt_f, iv_eq_t, iv_eq_f, iv_div, iv_mod, mretT_p, mretT_b, e_mret, ↓e_bret, fX7_isIn_L42, foldI, ih, X7_cells_c, X7_cellRight_c, X7_cellDown_c, X7_isCell_c, ceIn, inR, h1, b2_t hP]
      · simp (disch := omega) only [↓reduceIte, Int.reduceEq, Int.reduceNe, Int.reduceLT, Int.reduceLE, Int.reduceNeg, Int.reduceMod, Int.reduceDiv, Int.reduceAdd, Int.reduceSub, Int.reduceMul, not_true_eq_false, not_false_eq_true, true_or, or_true, false_or, or_false, true_and, and_true, false_and, and_false, b2_T, b2_F, if_true, if_false, ↓mjn_b, ↓mjn0_b, ↓mjn2_b, iv_lit, iv_add, iv_sub, iv_mul, iv_neg, iv_le_t, iv_le_f, iv_lt_t, iv_lt_f, iv_eq_t, iv_eq_f, iv_div, iv_mod, mretT_p, mretT_b, e_mret, ↓e_bret, fX7_isIn_L42, foldI, ih, X7_cells_c, X7_cellRight_c, X7_cellDown_c, X7_isCell_c, ceIn, inR, h1, b2_f hP]
theorem X7_isIn_ev {g : Nat → Nat} {h : Nat → Option hC} {n w : Nat} {m : Nat} {M : Mm} {t : Int} (ht : 0 ≤ t ∧ t ≤ 10) (hw : wT (M 1) t) : fX7_isIn g (some m) (iv t) (md m M h, n, w) = some (iv (b2 (inT (M 1) t)), (md m M h, n, w)) := by
  have hw2 := hw
  unfold wT zk zp zt zf at hw2
  have h1 := ceN_rg (M 1 (16 + 4 * t + 0))
  have h2 := chN_rg (M 1 (16 + 4 * t + 0))
  unfold fX7_isIn
  simp (disch := omega) only [↓reduceIte, Int.reduceEq, Int.reduceNe, Int.reduceLT, Int.reduceLE, Int.reduceNeg, Int.reduceMod, Int.reduceDiv, Int.reduceAdd, Int.reduceSub, Int.reduceMul, not_true_eq_false, not_false_eq_true, true_or, or_true, false_or, or_false, true_and, and_true, false_and, and_false, b2_T, b2_F, if_true, if_false, ↓mjn_b, ↓mjn0_b, ↓mjn2_b, iv_lit, iv_add, iv_sub, iv_mul, iv_neg, iv_le_t, iv_le_f, iv_lt_t, iv_lt_f, iv_eq_t, iv_eq_f, iv_div, iv_mod, mretT_p, mretT_b, e_mret, ↓e_bret, ↓m_mon, ↓m_oI0, m_pI0, ↓m_oI3, m_pI3, ↓m_oI5, m_pI5, ↓m_oI7, m_pI7, ↓m_oI11, m_pI11, ↓m_oI12, m_pI12, ↓m_oI13, m_pI13, ↓m_oI14, m_pI14, ↓m_oI15, m_pI15, ↓m_oI16, m_pI16, ↓m_oI17, m_pI17, m_pZ5, m_pZ12, ↓m_oR1, m_aI1, m_sI1, ↓m_oR2, m_aI2, m_sI2, ↓m_oR4, m_aI4, m_sI4, ↓m_oR6, m_aI6, m_sI6, ↓m_oR8, m_aI8, m_sI8, ↓m_oR9, m_aI9, m_sI9, ↓m_oR10, m_aI10, m_sI10, X7_table_c]
  rw [X7_isIn_L42_ev (kd := M 1 (16 + 4 * t + 0)) (u := M 1 (16 + 4 * t + 2)) (x := M 1 (16 + 4 * t + 1) % 16) (y := M 1 (16 + 4 * t + 1) / 16) hw.1 hw.2.2.1 (by have := hw.2.1; omega) (by have := hw.2.1; omega) (ceN (M 1 (16 + 4 * t + 0))).toNat 5000 1 0 (by omega) (by omega) (by omega) (Or.inr rfl)]
  rw [foldI_and1]
  rw [X7_isIn_L98_ev (kd := M 1 (16 + 4 * t + 0)) (u := M 1 (16 + 4 * t + 2)) (x := M 1 (16 + 4 * t + 1) % 16) (y := M 1 (16 + 4 * t + 1) / 16) hw.1 hw.2.2.1 (by have := hw.2.1; omega) (by have := hw.2.1; omega) (chN (M 1 (16 + 4 * t + 0))).toNat 5000 _ 0 (by omega) (by omega) (by omega) b2_or]
  rw [foldI_and]
  refine congrArg some (congrArg (fun z => (iv z, (md m M h, n, w))) (b2_c ?_))
  unfold inT inH zk zt zp
  refine ⟨fun q => ⟨fun j a b => q.1 j a (by omega), fun c a b => q.2 c a (by omega)⟩, fun q => ⟨fun j a b => q.1 j a (by omega), fun c a b => q.2 c a (by omega)⟩⟩
theorem X7_isIn_c {β : Type} {K : Int32 → HM β} {g : Nat → Nat} {h : Nat → Option hC} {n w : Nat} {m : Nat} {M : Mm} {t : Int} (ht : 0 ≤ t ∧ t ≤ 10) (hw : wT (M 1) t) : mb (mcall0 (fX7_isIn g (some m) (iv t))) K (md m M h, n, w) = K (iv (b2 (inT (M 1) t))) (md m M h, n, w) := e_call0 (X7_isIn_ev ht hw)
