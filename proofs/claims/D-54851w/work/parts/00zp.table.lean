/-! ===== shapes and tables ===== -/
def gD (g : Nat → Nat) : Prop := (g 3 ≠ g 2 ∧ g 4 ≠ g 2 ∧ g 5 ≠ g 2) ∧ (g 4 ≠ g 3 ∧ g 5 ≠ g 3) ∧ g 5 ≠ g 4
def SH (h : Nat → Option hC) (s : Nat) (k : Int) : Prop := (k = 0 ∧ h s = some (.inr (6, []))) ∨ (k = 1 ∧ h s = some (.inr (7, []))) ∨ (k = 2 ∧ h s = some (.inr (8, [])))
theorem c_sT {β : Type} {K : Int32 → HM β} {σ : Hp} {k : Nat} {i x : Int} (hi : 0 ≤ i ∧ i < 4) (hx : (hTab k).getD i.toNat 0 = iv x) : mb (sT k (iv i)) K σ = K (iv x) σ := by
  obtain ⟨j, rfl⟩ : ∃ j : Nat, i = j := ⟨i.toNat, by omega⟩
  have h1 : (iv (j : Int)).toNatClampNeg = j := iv_clamp (by omega)
  have h2 : ¬ iv (j : Int) < 0 := iv_nneg (by omega)
  unfold mb sT
  rw [h1, if_pos ⟨h2, by omega⟩]
  rw [Int.toNat_natCast] at hx
  rw [hx]
theorem i4 {i : Int} (h : 0 ≤ i ∧ i < 4) : i = 0 ∨ i = 1 ∨ i = 2 ∨ i = 3 := by omega
theorem i8 {i : Int} (h : 0 ≤ i ∧ i < 8) : i = 0 ∨ i = 1 ∨ i = 2 ∨ i = 3 ∨ i = 4 ∨ i = 5 ∨ i = 6 ∨ i = 7 := by omega
theorem i3 {i : Int} (h : 0 ≤ i ∧ i < 3) : i = 0 ∨ i = 1 ∨ i = 2 := by omega
theorem c_dsp {β : Type} {K : Int32 → HM β} {h : Nat → Option hC} {n w s : Nat} {k v : Int} {f5 f6 f9 : HM Int32} (hs : SH h s k) (h0 : k = 0 → f6 (h, n, 0) = some (iv v, (h, n, 0))) (h1 : k = 1 → f5 (h, n, 0) = some (iv v, (h, n, 0))) (h2 : k = 2 → f9 (h, n, 0) = some (iv v, (h, n, 0))) :
    mb (mdsp (some s) [(7, mcall0 f5), (6, mcall0 f6), (8, mcall0 f9)]) K (h, n, w) = K (iv v) (h, n, w) := by
  rcases hs with ⟨a, b⟩ | ⟨a, b⟩ | ⟨a, b⟩
  · unfold mb mdsp mdsp mdsp oC mcall0
    simp only [b, Option.some.injEq, Nat.reduceEqDiff, if_false, if_true, h0 a]
  · unfold mb mdsp mdsp mdsp oC mcall0
    simp only [b, Option.some.injEq, Nat.reduceEqDiff, if_false, if_true, h1 a]
  · unfold mb mdsp mdsp mdsp oC mcall0
    simp only [b, Option.some.injEq, Nat.reduceEqDiff, if_false, if_true, h2 a]
theorem cells_d {β : Type} {K : Int32 → HM β} {g : Nat → Nat} {h : Nat → Option hC} {n w s : Nat} {k : Int} (hs : SH h s k) : mb (mdsp (some s) [(7, mcall0 (fX5_cells g (some s))), (6, mcall0 (fX6_cells g (some s))), (8, mcall0 (fX9_cells g (some s)))]) K (h, n, w) = K (iv (ceN k)) (h, n, w) := by
  refine c_dsp hs (fun e => ?_) (fun e => ?_) (fun e => ?_) <;> subst e <;> rfl
theorem chairs_d {β : Type} {K : Int32 → HM β} {g : Nat → Nat} {h : Nat → Option hC} {n w s : Nat} {k : Int} (hs : SH h s k) : mb (mdsp (some s) [(7, mcall0 (fX5_chairs g (some s))), (6, mcall0 (fX6_chairs g (some s))), (8, mcall0 (fX9_chairs g (some s)))]) K (h, n, w) = K (iv (chN k)) (h, n, w) := by
  refine c_dsp hs (fun e => ?_) (fun e => ?_) (fun e => ?_) <;> subst e <;> rfl
theorem X6_cellAcross_v {g : Nat → Nat} {h : Nat → Option hC} {n : Nat} {s : Nat} {j u : Int} (hj : 0 ≤ j ∧ j < 4) : fX6_cellAcross g (some s) (iv j) (iv u) (h, n, 0) = some (iv (ceR 0 u j), (h, n, 0)) := by
  unfold fX6_cellAcross ceR
  simp (disch := omega) only [↓reduceIte, Int.reduceEq, Int.reduceNe, Int.reduceLT, Int.reduceLE, Int.reduceNeg, Int.reduceMod, Int.reduceDiv, Int.reduceAdd, Int.reduceSub, Int.reduceMul, not_true_eq_false, not_false_eq_true, Int.lt_irrefl, true_or, or_true, false_or, or_false, true_and, and_true, false_and, and_false, b2_T, b2_F, if_true, if_false, ↓mjn_b, ↓mjn0_b, ↓mjn2_b, iv_lit, iv_add, iv_sub, iv_mul, iv_neg, iv_le_t, iv_le_f, iv_lt_t, iv_lt_f, iv_eq_t, iv_eq_f, iv_div, iv_mod, mretT_p, mretT_b, e_mret, ↓e_bret, ↓m_mon, ↓m_oI0, m_pI0, ↓m_oI3, m_pI3, ↓m_oI5, m_pI5, ↓m_oI7, m_pI7, ↓m_oI11, m_pI11, ↓m_oI12, m_pI12, ↓m_oI13, m_pI13, ↓m_oI14, m_pI14, ↓m_oI15, m_pI15, ↓m_oI16, m_pI16, ↓m_oI17, m_pI17, m_pZ5, m_pZ12, ↓m_oR1, m_aI1, m_sI1, ↓m_oR2, m_aI2, m_sI2, ↓m_oR4, m_aI4, m_sI4, ↓m_oR6, m_aI6, m_sI6, ↓m_oR8, m_aI8, m_sI8, ↓m_oR9, m_aI9, m_sI9, ↓m_oR10, m_aI10, m_sI10]
theorem X6_cellDown_v {g : Nat → Nat} {h : Nat → Option hC} {n : Nat} {s : Nat} {j u : Int} (hj : 0 ≤ j ∧ j < 4) : fX6_cellDown g (some s) (iv j) (iv u) (h, n, 0) = some (iv (ceD 0 u j), (h, n, 0)) := by
  unfold fX6_cellDown ceD
  simp (disch := omega) only [↓reduceIte, Int.reduceEq, Int.reduceNe, Int.reduceLT, Int.reduceLE, Int.reduceNeg, Int.reduceMod, Int.reduceDiv, Int.reduceAdd, Int.reduceSub, Int.reduceMul, not_true_eq_false, not_false_eq_true, Int.lt_irrefl, true_or, or_true, false_or, or_false, true_and, and_true, false_and, and_false, b2_T, b2_F, if_true, if_false, ↓mjn_b, ↓mjn0_b, ↓mjn2_b, iv_lit, iv_add, iv_sub, iv_mul, iv_neg, iv_le_t, iv_le_f, iv_lt_t, iv_lt_f, iv_eq_t, iv_eq_f, iv_div, iv_mod, mretT_p, mretT_b, e_mret, ↓e_bret, ↓m_mon, ↓m_oI0, m_pI0, ↓m_oI3, m_pI3, ↓m_oI5, m_pI5, ↓m_oI7, m_pI7, ↓m_oI11, m_pI11, ↓m_oI12, m_pI12, ↓m_oI13, m_pI13, ↓m_oI14, m_pI14, ↓m_oI15, m_pI15, ↓m_oI16, m_pI16, ↓m_oI17, m_pI17, m_pZ5, m_pZ12, ↓m_oR1, m_aI1, m_sI1, ↓m_oR2, m_aI2, m_sI2, ↓m_oR4, m_aI4, m_sI4, ↓m_oR6, m_aI6, m_sI6, ↓m_oR8, m_aI8, m_sI8, ↓m_oR9, m_aI9, m_sI9, ↓m_oR10, m_aI10, m_sI10]
theorem X5_cellAcross_v {g : Nat → Nat} {h : Nat → Option hC} {n : Nat} {s : Nat} {j u : Int} (hj : 0 ≤ j ∧ j < 4) (hu : 0 ≤ u ∧ u ≤ 3) : fX5_cellAcross g (some s) (iv j) (iv u) (h, n, 0) = some (iv (ceR 1 u j), (h, n, 0)) := by
  unfold fX5_cellAcross ceR
  by_cases e : u % 2 = 0
  · simp (disch := omega) only [↓reduceIte, Int.reduceEq, Int.reduceNe, Int.reduceLT, Int.reduceLE, Int.reduceNeg, Int.reduceMod, Int.reduceDiv, Int.reduceAdd, Int.reduceSub, Int.reduceMul, not_true_eq_false, not_false_eq_true, Int.lt_irrefl, true_or, or_true, false_or, or_false, true_and, and_true, false_and, and_false, b2_T, b2_F, if_true, if_false, ↓mjn_b, ↓mjn0_b, ↓mjn2_b, iv_lit, iv_add, iv_sub, iv_mul, iv_neg, iv_le_t, iv_le_f, iv_lt_t, iv_lt_f, iv_eq_t, iv_eq_f, iv_div, iv_mod, mretT_p, mretT_b, e_mret, ↓e_bret, ↓m_mon, ↓m_oI0, m_pI0, ↓m_oI3, m_pI3, ↓m_oI5, m_pI5, ↓m_oI7, m_pI7, ↓m_oI11, m_pI11, ↓m_oI12, m_pI12, ↓m_oI13, m_pI13, ↓m_oI14, m_pI14, ↓m_oI15, m_pI15, ↓m_oI16, m_pI16, ↓m_oI17, m_pI17, m_pZ5, m_pZ12, ↓m_oR1, m_aI1, m_sI1, ↓m_oR2, m_aI2, m_sI2, ↓m_oR4, m_aI4, m_sI4, ↓m_oR6, m_aI6, m_sI6, ↓m_oR8, m_aI8, m_sI8, ↓m_oR9, m_aI9, m_sI9, ↓m_oR10, m_aI10, m_sI10, e]
  · simp (disch := omega) only [↓reduceIte, Int.reduceEq, Int.reduceNe, Int.reduceLT, Int.reduceLE, Int.reduceNeg, Int.reduceMod, Int.reduceDiv, Int.reduceAdd, Int.reduceSub, Int.reduceMul, not_true_eq_false, not_false_eq_true, Int.lt_irrefl, true_or, or_true, false_or, or_false, true_and, and_true, false_and, and_false, b2_T, b2_F, if_true, if_false, ↓mjn_b, ↓mjn0_b, ↓mjn2_b, iv_lit, iv_add, iv_sub, iv_mul, iv_neg, iv_le_t, iv_le_f, iv_lt_t, iv_lt_f, iv_eq_t, iv_eq_f, iv_div, iv_mod, mretT_p, mretT_b, e_mret, ↓e_bret, ↓m_mon, ↓m_oI0, m_pI0, ↓m_oI3, m_pI3, ↓m_oI5, m_pI5, ↓m_oI7, m_pI7, ↓m_oI11, m_pI11, ↓m_oI12, m_pI12, ↓m_oI13, m_pI13, ↓m_oI14, m_pI14, ↓m_oI15, m_pI15, ↓m_oI16, m_pI16, ↓m_oI17, m_pI17, m_pZ5, m_pZ12, ↓m_oR1, m_aI1, m_sI1, ↓m_oR2, m_aI2, m_sI2, ↓m_oR4, m_aI4, m_sI4, ↓m_oR6, m_aI6, m_sI6, ↓m_oR8, m_aI8, m_sI8, ↓m_oR9, m_aI9, m_sI9, ↓m_oR10, m_aI10, m_sI10, e]
theorem X5_cellDown_v {g : Nat → Nat} {h : Nat → Option hC} {n : Nat} {s : Nat} {j u : Int} (hj : 0 ≤ j ∧ j < 4) (hu : 0 ≤ u ∧ u ≤ 3) : fX5_cellDown g (some s) (iv j) (iv u) (h, n, 0) = some (iv (ceD 1 u j), (h, n, 0)) := by
  unfold fX5_cellDown ceD
  by_cases e : u % 2 = 0
  · simp (disch := omega) only [↓reduceIte, Int.reduceEq, Int.reduceNe, Int.reduceLT, Int.reduceLE, Int.reduceNeg, Int.reduceMod, Int.reduceDiv, Int.reduceAdd, Int.reduceSub, Int.reduceMul, not_true_eq_false, not_false_eq_true, Int.lt_irrefl, true_or, or_true, false_or, or_false, true_and, and_true, false_and, and_false, b2_T, b2_F, if_true, if_false, ↓mjn_b, ↓mjn0_b, ↓mjn2_b, iv_lit, iv_add, iv_sub, iv_mul, iv_neg, iv_le_t, iv_le_f, iv_lt_t, iv_lt_f, iv_eq_t, iv_eq_f, iv_div, iv_mod, mretT_p, mretT_b, e_mret, ↓e_bret, ↓m_mon, ↓m_oI0, m_pI0, ↓m_oI3, m_pI3, ↓m_oI5, m_pI5, ↓m_oI7, m_pI7, ↓m_oI11, m_pI11, ↓m_oI12, m_pI12, ↓m_oI13, m_pI13, ↓m_oI14, m_pI14, ↓m_oI15, m_pI15, ↓m_oI16, m_pI16, ↓m_oI17, m_pI17, m_pZ5, m_pZ12, ↓m_oR1, m_aI1, m_sI1, ↓m_oR2, m_aI2, m_sI2, ↓m_oR4, m_aI4, m_sI4, ↓m_oR6, m_aI6, m_sI6, ↓m_oR8, m_aI8, m_sI8, ↓m_oR9, m_aI9, m_sI9, ↓m_oR10, m_aI10, m_sI10, e]
  · simp (disch := omega) only [↓reduceIte, Int.reduceEq, Int.reduceNe, Int.reduceLT, Int.reduceLE, Int.reduceNeg, Int.reduceMod, Int.reduceDiv, Int.reduceAdd, Int.reduceSub, Int.reduceMul, not_true_eq_false, not_false_eq_true, Int.lt_irrefl, true_or, or_true, false_or, or_false, true_and, and_true, false_and, and_false, b2_T, b2_F, if_true, if_false, ↓mjn_b, ↓mjn0_b, ↓mjn2_b, iv_lit, iv_add, iv_sub, iv_mul, iv_neg, iv_le_t, iv_le_f, iv_lt_t, iv_lt_f, iv_eq_t, iv_eq_f, iv_div, iv_mod, mretT_p, mretT_b, e_mret, ↓e_bret, ↓m_mon, ↓m_oI0, m_pI0, ↓m_oI3, m_pI3, ↓m_oI5, m_pI5, ↓m_oI7, m_pI7, ↓m_oI11, m_pI11, ↓m_oI12, m_pI12, ↓m_oI13, m_pI13, ↓m_oI14, m_pI14, ↓m_oI15, m_pI15, ↓m_oI16, m_pI16, ↓m_oI17, m_pI17, m_pZ5, m_pZ12, ↓m_oR1, m_aI1, m_sI1, ↓m_oR2, m_aI2, m_sI2, ↓m_oR4, m_aI4, m_sI4, ↓m_oR6, m_aI6, m_sI6, ↓m_oR8, m_aI8, m_sI8, ↓m_oR9, m_aI9, m_sI9, ↓m_oR10, m_aI10, m_sI10, e]
theorem X9_cellAcross_v {g : Nat → Nat} {h : Nat → Option hC} {n : Nat} {s : Nat} {j u : Int} (hj : 0 ≤ j ∧ j < 4) (hu : 0 ≤ u ∧ u ≤ 3) : fX9_cellAcross g (some s) (iv j) (iv u) (h, n, 0) = some (iv (ceR 2 u j), (h, n, 0)) := by
  unfold fX9_cellAcross ceR
  by_cases e : u % 2 = 0
  · simp (disch := omega) only [↓reduceIte, Int.reduceEq, Int.reduceNe, Int.reduceLT, Int.reduceLE, Int.reduceNeg, Int.reduceMod, Int.reduceDiv, Int.reduceAdd, Int.reduceSub, Int.reduceMul, not_true_eq_false, not_false_eq_true, Int.lt_irrefl, true_or, or_true, false_or, or_false, true_and, and_true, false_and, and_false, b2_T, b2_F, if_true, if_false, ↓mjn_b, ↓mjn0_b, ↓mjn2_b, iv_lit, iv_add, iv_sub, iv_mul, iv_neg, iv_le_t, iv_le_f, iv_lt_t, iv_lt_f, iv_eq_t, iv_eq_f, iv_div, iv_mod, mretT_p, mretT_b, e_mret, ↓e_bret, ↓m_mon, ↓m_oI0, m_pI0, ↓m_oI3, m_pI3, ↓m_oI5, m_pI5, ↓m_oI7, m_pI7, ↓m_oI11, m_pI11, ↓m_oI12, m_pI12, ↓m_oI13, m_pI13, ↓m_oI14, m_pI14, ↓m_oI15, m_pI15, ↓m_oI16, m_pI16, ↓m_oI17, m_pI17, m_pZ5, m_pZ12, ↓m_oR1, m_aI1, m_sI1, ↓m_oR2, m_aI2, m_sI2, ↓m_oR4, m_aI4, m_sI4, ↓m_oR6, m_aI6, m_sI6, ↓m_oR8, m_aI8, m_sI8, ↓m_oR9, m_aI9, m_sI9, ↓m_oR10, m_aI10, m_sI10, e]
  · simp (disch := omega) only [↓reduceIte, Int.reduceEq, Int.reduceNe, Int.reduceLT, Int.reduceLE, Int.reduceNeg, Int.reduceMod, Int.reduceDiv, Int.reduceAdd, Int.reduceSub, Int.reduceMul, not_true_eq_false, not_false_eq_true, Int.lt_irrefl, true_or, or_true, false_or, or_false, true_and, and_true, false_and, and_false, b2_T, b2_F, if_true, if_false, ↓mjn_b, ↓mjn0_b, ↓mjn2_b, iv_lit, iv_add, iv_sub, iv_mul, iv_neg, iv_le_t, iv_le_f, iv_lt_t, iv_lt_f, iv_eq_t, iv_eq_f, iv_div, iv_mod, mretT_p, mretT_b, e_mret, ↓e_bret, ↓m_mon, ↓m_oI0, m_pI0, ↓m_oI3, m_pI3, ↓m_oI5, m_pI5, ↓m_oI7, m_pI7, ↓m_oI11, m_pI11, ↓m_oI12, m_pI12, ↓m_oI13, m_pI13, ↓m_oI14, m_pI14, ↓m_oI15, m_pI15, ↓m_oI16, m_pI16, ↓m_oI17, m_pI17, m_pZ5, m_pZ12, ↓m_oR1, m_aI1, m_sI1, ↓m_oR2, m_aI2, m_sI2, ↓m_oR4, m_aI4, m_sI4, ↓m_oR6, m_aI6, m_sI6, ↓m_oR8, m_aI8, m_sI8, ↓m_oR9, m_aI9, m_sI9, ↓m_oR10, m_aI10, m_sI10, e]
theorem X9_cellDown_v {g : Nat → Nat} {h : Nat → Option hC} {n : Nat} {s : Nat} {j u : Int} (hj : 0 ≤ j ∧ j < 4) (hu : 0 ≤ u ∧ u ≤ 3) : fX9_cellDown g (some s) (iv j) (iv u) (h, n, 0) = some (iv (ceD 2 u j), (h, n, 0)) := by
  unfold fX9_cellDown ceD
  by_cases e : u % 2 = 0
  · simp (disch := omega) only [↓reduceIte, Int.reduceEq, Int.reduceNe, Int.reduceLT, Int.reduceLE, Int.reduceNeg, Int.reduceMod, Int.reduceDiv, Int.reduceAdd, Int.reduceSub, Int.reduceMul, not_true_eq_false, not_false_eq_true, Int.lt_irrefl, true_or, or_true, false_or, or_false, true_and, and_true, false_and, and_false, b2_T, b2_F, if_true, if_false, ↓mjn_b, ↓mjn0_b, ↓mjn2_b, iv_lit, iv_add, iv_sub, iv_mul, iv_neg, iv_le_t, iv_le_f, iv_lt_t, iv_lt_f, iv_eq_t, iv_eq_f, iv_div, iv_mod, mretT_p, mretT_b, e_mret, ↓e_bret, ↓m_mon, ↓m_oI0, m_pI0, ↓m_oI3, m_pI3, ↓m_oI5, m_pI5, ↓m_oI7, m_pI7, ↓m_oI11, m_pI11, ↓m_oI12, m_pI12, ↓m_oI13, m_pI13, ↓m_oI14, m_pI14, ↓m_oI15, m_pI15, ↓m_oI16, m_pI16, ↓m_oI17, m_pI17, m_pZ5, m_pZ12, ↓m_oR1, m_aI1, m_sI1, ↓m_oR2, m_aI2, m_sI2, ↓m_oR4, m_aI4, m_sI4, ↓m_oR6, m_aI6, m_sI6, ↓m_oR8, m_aI8, m_sI8, ↓m_oR9, m_aI9, m_sI9, ↓m_oR10, m_aI10, m_sI10, e]
  · simp (disch := omega) only [↓reduceIte, Int.reduceEq, Int.reduceNe, Int.reduceLT, Int.reduceLE, Int.reduceNeg, Int.reduceMod, Int.reduceDiv, Int.reduceAdd, Int.reduceSub, Int.reduceMul, not_true_eq_false, not_false_eq_true, Int.lt_irrefl, true_or, or_true, false_or, or_false, true_and, and_true, false_and, and_false, b2_T, b2_F, if_true, if_false, ↓mjn_b, ↓mjn0_b, ↓mjn2_b, iv_lit, iv_add, iv_sub, iv_mul, iv_neg, iv_le_t, iv_le_f, iv_lt_t, iv_lt_f, iv_eq_t, iv_eq_f, iv_div, iv_mod, mretT_p, mretT_b, e_mret, ↓e_bret, ↓m_mon, ↓m_oI0, m_pI0, ↓m_oI3, m_pI3, ↓m_oI5, m_pI5, ↓m_oI7, m_pI7, ↓m_oI11, m_pI11, ↓m_oI12, m_pI12, ↓m_oI13, m_pI13, ↓m_oI14, m_pI14, ↓m_oI15, m_pI15, ↓m_oI16, m_pI16, ↓m_oI17, m_pI17, m_pZ5, m_pZ12, ↓m_oR1, m_aI1, m_sI1, ↓m_oR2, m_aI2, m_sI2, ↓m_oR4, m_aI4, m_sI4, ↓m_oR6, m_aI6, m_sI6, ↓m_oR8, m_aI8, m_sI8, ↓m_oR9, m_aI9, m_sI9, ↓m_oR10, m_aI10, m_sI10, e]
theorem X6_chairAcross_v {g : Nat → Nat} {h : Nat → Option hC} {n : Nat} {s : Nat} {c u : Int} (hc : 0 ≤ c ∧ c < 4) (hu : 0 ≤ u ∧ u ≤ 3) : fX6_chairAcross g (some s) (iv c) (iv u) (h, n, 0) = some (iv (chR 0 u c), (h, n, 0)) := by
  have e1 : u % 2 = 0 → (hTab 6).getD c.toNat 0 = iv (chR 0 u c) := fun e => by
    unfold chR
    rcases i4 hc with rfl | rfl | rfl | rfl <;> simp only [e, if_true] <;> rfl
  have e2 : ¬ u % 2 = 0 → (hTab 8).getD c.toNat 0 = iv (chR 0 u c) := fun e => by
    unfold chR
    rcases i4 hc with rfl | rfl | rfl | rfl <;> simp only [e, if_true, if_false] <;> rfl
  unfold fX6_chairAcross
  by_cases e : u % 2 = 0
  · have e3 := fun (K : Int32 → HM Int32) => c_sT (K := K) (σ := (h, n, 0)) hc (e1 e)
    simp (disch := omega) only [↓reduceIte, Int.reduceEq, Int.reduceNe, Int.reduceLT, Int.reduceLE, Int.reduceNeg, Int.reduceMod, Int.reduceDiv, Int.reduceAdd, Int.reduceSub, Int.reduceMul, not_true_eq_false, not_false_eq_true, Int.lt_irrefl, true_or, or_true, false_or, or_false, true_and, and_true, false_and, and_false, b2_T, b2_F, if_true, if_false, ↓mjn_b, ↓mjn0_b, ↓mjn2_b, iv_lit, iv_add, iv_sub, iv_mul, iv_neg, iv_le_t, iv_le_f, iv_lt_t, iv_lt_f, iv_eq_t, iv_eq_f, iv_div, iv_mod, mretT_p, mretT_b, e_mret, ↓e_bret, ↓m_mon, ↓m_oI0, m_pI0, ↓m_oI3, m_pI3, ↓m_oI5, m_pI5, ↓m_oI7, m_pI7, ↓m_oI11, m_pI11, ↓m_oI12, m_pI12, ↓m_oI13, m_pI13, ↓m_oI14, m_pI14, ↓m_oI15, m_pI15, ↓m_oI16, m_pI16, ↓m_oI17, m_pI17, m_pZ5, m_pZ12, ↓m_oR1, m_aI1, m_sI1, ↓m_oR2, m_aI2, m_sI2, ↓m_oR4, m_aI4, m_sI4, ↓m_oR6, m_aI6, m_sI6, ↓m_oR8, m_aI8, m_sI8, ↓m_oR9, m_aI9, m_sI9, ↓m_oR10, m_aI10, m_sI10, e, e3]
  · have e3 := fun (K : Int32 → HM Int32) => c_sT (K := K) (σ := (h, n, 0)) hc (e2 e)
    simp (disch := omega) only [↓reduceIte, Int.reduceEq, Int.reduceNe, Int.reduceLT, Int.reduceLE, Int.reduceNeg, Int.reduceMod, Int.reduceDiv, Int.reduceAdd, Int.reduceSub, Int.reduceMul, not_true_eq_false, not_false_eq_true, Int.lt_irrefl, true_or, or_true, false_or, or_false, true_and, and_true, false_and, and_false, b2_T, b2_F, if_true, if_false, ↓mjn_b, ↓mjn0_b, ↓mjn2_b, iv_lit, iv_add, iv_sub, iv_mul, iv_neg, iv_le_t, iv_le_f, iv_lt_t, iv_lt_f, iv_eq_t, iv_eq_f, iv_div, iv_mod, mretT_p, mretT_b, e_mret, ↓e_bret, ↓m_mon, ↓m_oI0, m_pI0, ↓m_oI3, m_pI3, ↓m_oI5, m_pI5, ↓m_oI7, m_pI7, ↓m_oI11, m_pI11, ↓m_oI12, m_pI12, ↓m_oI13, m_pI13, ↓m_oI14, m_pI14, ↓m_oI15, m_pI15, ↓m_oI16, m_pI16, ↓m_oI17, m_pI17, m_pZ5, m_pZ12, ↓m_oR1, m_aI1, m_sI1, ↓m_oR2, m_aI2, m_sI2, ↓m_oR4, m_aI4, m_sI4, ↓m_oR6, m_aI6, m_sI6, ↓m_oR8, m_aI8, m_sI8, ↓m_oR9, m_aI9, m_sI9, ↓m_oR10, m_aI10, m_sI10, e, e3]
theorem X6_chairDown_v {g : Nat → Nat} {h : Nat → Option hC} {n : Nat} {s : Nat} {c u : Int} (hc : 0 ≤ c ∧ c < 4) (hu : 0 ≤ u ∧ u ≤ 3) : fX6_chairDown g (some s) (iv c) (iv u) (h, n, 0) = some (iv (chD 0 u c), (h, n, 0)) := by
  have e1 : u % 2 = 0 → (hTab 7).getD c.toNat 0 = iv (chD 0 u c) := fun e => by
    unfold chD
    rcases i4 hc with rfl | rfl | rfl | rfl <;> simp only [e, if_true] <;> rfl
  have e2 : ¬ u % 2 = 0 → (hTab 9).getD c.toNat 0 = iv (chD 0 u c) := fun e => by
    unfold chD
    rcases i4 hc with rfl | rfl | rfl | rfl <;> simp only [e, if_true, if_false] <;> rfl
  unfold fX6_chairDown
  by_cases e : u % 2 = 0
  · have e3 := fun (K : Int32 → HM Int32) => c_sT (K := K) (σ := (h, n, 0)) hc (e1 e)
    simp (disch := omega) only [↓reduceIte, Int.reduceEq, Int.reduceNe, Int.reduceLT, Int.reduceLE, Int.reduceNeg, Int.reduceMod, Int.reduceDiv, Int.reduceAdd, Int.reduceSub, Int.reduceMul, not_true_eq_false, not_false_eq_true, Int.lt_irrefl, true_or, or_true, false_or, or_false, true_and, and_true, false_and, and_false, b2_T, b2_F, if_true, if_false, ↓mjn_b, ↓mjn0_b, ↓mjn2_b, iv_lit, iv_add, iv_sub, iv_mul, iv_neg, iv_le_t, iv_le_f, iv_lt_t, iv_lt_f, iv_eq_t, iv_eq_f, iv_div, iv_mod, mretT_p, mretT_b, e_mret, ↓e_bret, ↓m_mon, ↓m_oI0, m_pI0, ↓m_oI3, m_pI3, ↓m_oI5, m_pI5, ↓m_oI7, m_pI7, ↓m_oI11, m_pI11, ↓m_oI12, m_pI12, ↓m_oI13, m_pI13, ↓m_oI14, m_pI14, ↓m_oI15, m_pI15, ↓m_oI16, m_pI16, ↓m_oI17, m_pI17, m_pZ5, m_pZ12, ↓m_oR1, m_aI1, m_sI1, ↓m_oR2, m_aI2, m_sI2, ↓m_oR4, m_aI4, m_sI4, ↓m_oR6, m_aI6, m_sI6, ↓m_oR8, m_aI8, m_sI8, ↓m_oR9, m_aI9, m_sI9, ↓m_oR10, m_aI10, m_sI10, e, e3]
  · have e3 := fun (K : Int32 → HM Int32) => c_sT (K := K) (σ := (h, n, 0)) hc (e2 e)
    simp (disch := omega) only [↓reduceIte, Int.reduceEq, Int.reduceNe, Int.reduceLT, Int.reduceLE, Int.reduceNeg, Int.reduceMod, Int.reduceDiv, Int.reduceAdd, Int.reduceSub, Int.reduceMul, not_true_eq_false, not_false_eq_true, Int.lt_irrefl, true_or, or_true, false_or, or_false, true_and, and_true, false_and, and_false, b2_T, b2_F, if_true, if_false, ↓mjn_b, ↓mjn0_b, ↓mjn2_b, iv_lit, iv_add, iv_sub, iv_mul, iv_neg, iv_le_t, iv_le_f, iv_lt_t, iv_lt_f, iv_eq_t, iv_eq_f, iv_div, iv_mod, mretT_p, mretT_b, e_mret, ↓e_bret, ↓m_mon, ↓m_oI0, m_pI0, ↓m_oI3, m_pI3, ↓m_oI5, m_pI5, ↓m_oI7, m_pI7, ↓m_oI11, m_pI11, ↓m_oI12, m_pI12, ↓m_oI13, m_pI13, ↓m_oI14, m_pI14, ↓m_oI15, m_pI15, ↓m_oI16, m_pI16, ↓m_oI17, m_pI17, m_pZ5, m_pZ12, ↓m_oR1, m_aI1, m_sI1, ↓m_oR2, m_aI2, m_sI2, ↓m_oR4, m_aI4, m_sI4, ↓m_oR6, m_aI6, m_sI6, ↓m_oR8, m_aI8, m_sI8, ↓m_oR9, m_aI9, m_sI9, ↓m_oR10, m_aI10, m_sI10, e, e3]
theorem X5_beside_c {β : Type} {K : Int32 → HM β} {g : Nat → Nat} {h : Nat → Option hC} {n w : Nat} {c : Int} (hc : 0 ≤ c ∧ c < 8) : mb (mcall0 (fX5_beside g (iv c))) K (h, n, w) = K (iv (if c < 4 then -1 else 1)) (h, n, w) := by
  refine e_call0 (u' := 0) ?_
  unfold fX5_beside
  by_cases e : c < 4
  · rw [if_pos e]
    simp (disch := omega) only [↓reduceIte, Int.reduceEq, Int.reduceNe, Int.reduceLT, Int.reduceLE, Int.reduceNeg, Int.reduceMod, Int.reduceDiv, Int.reduceAdd, Int.reduceSub, Int.reduceMul, not_true_eq_false, not_false_eq_true, Int.lt_irrefl, true_or, or_true, false_or, or_false, true_and, and_true, false_and, and_false, b2_T, b2_F, if_true, if_false, ↓mjn_b, ↓mjn0_b, ↓mjn2_b, iv_lit, iv_add, iv_sub, iv_mul, iv_neg, iv_le_t, iv_le_f, iv_lt_t, iv_lt_f, iv_eq_t, iv_eq_f, iv_div, iv_mod, mretT_p, mretT_b, e_mret, ↓e_bret, ↓m_mon, ↓m_oI0, m_pI0, ↓m_oI3, m_pI3, ↓m_oI5, m_pI5, ↓m_oI7, m_pI7, ↓m_oI11, m_pI11, ↓m_oI12, m_pI12, ↓m_oI13, m_pI13, ↓m_oI14, m_pI14, ↓m_oI15, m_pI15, ↓m_oI16, m_pI16, ↓m_oI17, m_pI17, m_pZ5, m_pZ12, ↓m_oR1, m_aI1, m_sI1, ↓m_oR2, m_aI2, m_sI2, ↓m_oR4, m_aI4, m_sI4, ↓m_oR6, m_aI6, m_sI6, ↓m_oR8, m_aI8, m_sI8, ↓m_oR9, m_aI9, m_sI9, ↓m_oR10, m_aI10, m_sI10]
  · rw [if_neg e]
    simp (disch := omega) only [↓reduceIte, Int.reduceEq, Int.reduceNe, Int.reduceLT, Int.reduceLE, Int.reduceNeg, Int.reduceMod, Int.reduceDiv, Int.reduceAdd, Int.reduceSub, Int.reduceMul, not_true_eq_false, not_false_eq_true, Int.lt_irrefl, true_or, or_true, false_or, or_false, true_and, and_true, false_and, and_false, b2_T, b2_F, if_true, if_false, ↓mjn_b, ↓mjn0_b, ↓mjn2_b, iv_lit, iv_add, iv_sub, iv_mul, iv_neg, iv_le_t, iv_le_f, iv_lt_t, iv_lt_f, iv_eq_t, iv_eq_f, iv_div, iv_mod, mretT_p, mretT_b, e_mret, ↓e_bret, ↓m_mon, ↓m_oI0, m_pI0, ↓m_oI3, m_pI3, ↓m_oI5, m_pI5, ↓m_oI7, m_pI7, ↓m_oI11, m_pI11, ↓m_oI12, m_pI12, ↓m_oI13, m_pI13, ↓m_oI14, m_pI14, ↓m_oI15, m_pI15, ↓m_oI16, m_pI16, ↓m_oI17, m_pI17, m_pZ5, m_pZ12, ↓m_oR1, m_aI1, m_sI1, ↓m_oR2, m_aI2, m_sI2, ↓m_oR4, m_aI4, m_sI4, ↓m_oR6, m_aI6, m_sI6, ↓m_oR8, m_aI8, m_sI8, ↓m_oR9, m_aI9, m_sI9, ↓m_oR10, m_aI10, m_sI10]
theorem X5_chairAcross_v {g : Nat → Nat} {h : Nat → Option hC} {n : Nat} {s : Nat} {c u : Int} (hc : 0 ≤ c ∧ c < 8) (hu : 0 ≤ u ∧ u ≤ 3) : fX5_chairAcross g (some s) (iv c) (iv u) (h, n, 0) = some (iv (chR 1 u c), (h, n, 0)) := by
  unfold fX5_chairAcross chR
  by_cases e : u % 2 = 0
  · simp (disch := omega) only [↓reduceIte, Int.reduceEq, Int.reduceNe, Int.reduceLT, Int.reduceLE, Int.reduceNeg, Int.reduceMod, Int.reduceDiv, Int.reduceAdd, Int.reduceSub, Int.reduceMul, not_true_eq_false, not_false_eq_true, Int.lt_irrefl, true_or, or_true, false_or, or_false, true_and, and_true, false_and, and_false, b2_T, b2_F, if_true, if_false, ↓mjn_b, ↓mjn0_b, ↓mjn2_b, iv_lit, iv_add, iv_sub, iv_mul, iv_neg, iv_le_t, iv_le_f, iv_lt_t, iv_lt_f, iv_eq_t, iv_eq_f, iv_div, iv_mod, mretT_p, mretT_b, e_mret, ↓e_bret, ↓m_mon, ↓m_oI0, m_pI0, ↓m_oI3, m_pI3, ↓m_oI5, m_pI5, ↓m_oI7, m_pI7, ↓m_oI11, m_pI11, ↓m_oI12, m_pI12, ↓m_oI13, m_pI13, ↓m_oI14, m_pI14, ↓m_oI15, m_pI15, ↓m_oI16, m_pI16, ↓m_oI17, m_pI17, m_pZ5, m_pZ12, ↓m_oR1, m_aI1, m_sI1, ↓m_oR2, m_aI2, m_sI2, ↓m_oR4, m_aI4, m_sI4, ↓m_oR6, m_aI6, m_sI6, ↓m_oR8, m_aI8, m_sI8, ↓m_oR9, m_aI9, m_sI9, ↓m_oR10, m_aI10, m_sI10, e, X5_beside_c]
  · simp (disch := omega) only [↓reduceIte, Int.reduceEq, Int.reduceNe, Int.reduceLT, Int.reduceLE, Int.reduceNeg, Int.reduceMod, Int.reduceDiv, Int.reduceAdd, Int.reduceSub, Int.reduceMul, not_true_eq_false, not_false_eq_true, Int.lt_irrefl, true_or, or_true, false_or, or_false, true_and, and_true, false_and, and_false, b2_T, b2_F, if_true, if_false, ↓mjn_b, ↓mjn0_b, ↓mjn2_b, iv_lit, iv_add, iv_sub, iv_mul, iv_neg, iv_le_t, iv_le_f, iv_lt_t, iv_lt_f, iv_eq_t, iv_eq_f, iv_div, iv_mod, mretT_p, mretT_b, e_mret, ↓e_bret, ↓m_mon, ↓m_oI0, m_pI0, ↓m_oI3, m_pI3, ↓m_oI5, m_pI5, ↓m_oI7, m_pI7, ↓m_oI11, m_pI11, ↓m_oI12, m_pI12, ↓m_oI13, m_pI13, ↓m_oI14, m_pI14, ↓m_oI15, m_pI15, ↓m_oI16, m_pI16, ↓m_oI17, m_pI17, m_pZ5, m_pZ12, ↓m_oR1, m_aI1, m_sI1, ↓m_oR2, m_aI2, m_sI2, ↓m_oR4, m_aI4, m_sI4, ↓m_oR6, m_aI6, m_sI6, ↓m_oR8, m_aI8, m_sI8, ↓m_oR9, m_aI9, m_sI9, ↓m_oR10, m_aI10, m_sI10, e, X5_beside_c]
theorem X5_chairDown_v {g : Nat → Nat} {h : Nat → Option hC} {n : Nat} {s : Nat} {c u : Int} (hc : 0 ≤ c ∧ c < 8) (hu : 0 ≤ u ∧ u ≤ 3) : fX5_chairDown g (some s) (iv c) (iv u) (h, n, 0) = some (iv (chD 1 u c), (h, n, 0)) := by
  unfold fX5_chairDown chD
  by_cases e : u % 2 = 0
  · simp (disch := omega) only [↓reduceIte, Int.reduceEq, Int.reduceNe, Int.reduceLT, Int.reduceLE, Int.reduceNeg, Int.reduceMod, Int.reduceDiv, Int.reduceAdd, Int.reduceSub, Int.reduceMul, not_true_eq_false, not_false_eq_true, Int.lt_irrefl, true_or, or_true, false_or, or_false, true_and, and_true, false_and, and_false, b2_T, b2_F, if_true, if_false, ↓mjn_b, ↓mjn0_b, ↓mjn2_b, iv_lit, iv_add, iv_sub, iv_mul, iv_neg, iv_le_t, iv_le_f, iv_lt_t, iv_lt_f, iv_eq_t, iv_eq_f, iv_div, iv_mod, mretT_p, mretT_b, e_mret, ↓e_bret, ↓m_mon, ↓m_oI0, m_pI0, ↓m_oI3, m_pI3, ↓m_oI5, m_pI5, ↓m_oI7, m_pI7, ↓m_oI11, m_pI11, ↓m_oI12, m_pI12, ↓m_oI13, m_pI13, ↓m_oI14, m_pI14, ↓m_oI15, m_pI15, ↓m_oI16, m_pI16, ↓m_oI17, m_pI17, m_pZ5, m_pZ12, ↓m_oR1, m_aI1, m_sI1, ↓m_oR2, m_aI2, m_sI2, ↓m_oR4, m_aI4, m_sI4, ↓m_oR6, m_aI6, m_sI6, ↓m_oR8, m_aI8, m_sI8, ↓m_oR9, m_aI9, m_sI9, ↓m_oR10, m_aI10, m_sI10, e, X5_beside_c]
  · simp (disch := omega) only [↓reduceIte, Int.reduceEq, Int.reduceNe, Int.reduceLT, Int.reduceLE, Int.reduceNeg, Int.reduceMod, Int.reduceDiv, Int.reduceAdd, Int.reduceSub, Int.reduceMul, not_true_eq_false, not_false_eq_true, Int.lt_irrefl, true_or, or_true, false_or, or_false, true_and, and_true, false_and, and_false, b2_T, b2_F, if_true, if_false, ↓mjn_b, ↓mjn0_b, ↓mjn2_b, iv_lit, iv_add, iv_sub, iv_mul, iv_neg, iv_le_t, iv_le_f, iv_lt_t, iv_lt_f, iv_eq_t, iv_eq_f, iv_div, iv_mod, mretT_p, mretT_b, e_mret, ↓e_bret, ↓m_mon, ↓m_oI0, m_pI0, ↓m_oI3, m_pI3, ↓m_oI5, m_pI5, ↓m_oI7, m_pI7, ↓m_oI11, m_pI11, ↓m_oI12, m_pI12, ↓m_oI13, m_pI13, ↓m_oI14, m_pI14, ↓m_oI15, m_pI15, ↓m_oI16, m_pI16, ↓m_oI17, m_pI17, m_pZ5, m_pZ12, ↓m_oR1, m_aI1, m_sI1, ↓m_oR2, m_aI2, m_sI2, ↓m_oR4, m_aI4, m_sI4, ↓m_oR6, m_aI6, m_sI6, ↓m_oR8, m_aI8, m_sI8, ↓m_oR9, m_aI9, m_sI9, ↓m_oR10, m_aI10, m_sI10, e, X5_beside_c]
theorem X9_chairAcross_v {g : Nat → Nat} {h : Nat → Option hC} {n : Nat} {s : Nat} {c u : Int} (hg : gD g) (hc : 0 ≤ c ∧ c < 3) (hu : 0 ≤ u ∧ u ≤ 3) : fX9_chairAcross g (some s) (iv c) (iv u) (h, n, 0) = some (iv (chR 2 u c), (h, n, 0)) := by
  obtain ⟨⟨g1, g2, g3⟩, ⟨g4, g5⟩, g6⟩ := hg
  have hu4 : 0 ≤ u ∧ u < 4 := by omega
  rcases i4 hu4 with rfl | rfl | rfl | rfl
  · have e1 : fX4_of g (iv 0) (h, n, 0) = some (some (g 2), (h, n, 0)) := Eq.trans rfl rfl
    unfold fX9_chairAcross
    rw [e_call0 e1]
    unfold mb msd
    simp only [if_true]
    rfl
  · have e1 : fX4_of g (iv 1) (h, n, 0) = some (some (g 3), (h, n, 0)) := Eq.trans rfl rfl
    unfold fX9_chairAcross
    rw [e_call0 e1]
    unfold mb msd msd
    simp only [Option.some.injEq, g1, if_false, if_true]
    rfl
  · have e1 : fX4_of g (iv 2) (h, n, 0) = some (some (g 4), (h, n, 0)) := Eq.trans rfl rfl
    unfold fX9_chairAcross
    rw [e_call0 e1]
    unfold mb msd msd msd
    simp only [Option.some.injEq, g2, g4, if_false, if_true]
    rfl
  · have e1 : fX4_of g (iv 3) (h, n, 0) = some (some (g 5), (h, n, 0)) := Eq.trans rfl rfl
    unfold fX9_chairAcross
    rw [e_call0 e1]
    unfold mb msd msd msd msd
    simp only [Option.some.injEq, g3, g5, g6, if_false, if_true]
    rfl
theorem X9_chairDown_v {g : Nat → Nat} {h : Nat → Option hC} {n : Nat} {s : Nat} {c u : Int} (hg : gD g) (hc : 0 ≤ c ∧ c < 3) (hu : 0 ≤ u ∧ u ≤ 3) : fX9_chairDown g (some s) (iv c) (iv u) (h, n, 0) = some (iv (chD 2 u c), (h, n, 0)) := by
  obtain ⟨⟨g1, g2, g3⟩, ⟨g4, g5⟩, g6⟩ := hg
  have hu4 : 0 ≤ u ∧ u < 4 := by omega
  rcases i4 hu4 with rfl | rfl | rfl | rfl
  · have e1 : fX4_of g (iv 0) (h, n, 0) = some (some (g 2), (h, n, 0)) := Eq.trans rfl rfl
    unfold fX9_chairDown
    rw [e_call0 e1]
    unfold mb msd
    simp only [if_true]
    rfl
  · have e1 : fX4_of g (iv 1) (h, n, 0) = some (some (g 3), (h, n, 0)) := Eq.trans rfl rfl
    unfold fX9_chairDown
    rw [e_call0 e1]
    unfold mb msd msd
    simp only [Option.some.injEq, g1, if_false, if_true]
    rfl
  · have e1 : fX4_of g (iv 2) (h, n, 0) = some (some (g 4), (h, n, 0)) := Eq.trans rfl rfl
    unfold fX9_chairDown
    rw [e_call0 e1]
    unfold mb msd msd msd
    simp only [Option.some.injEq, g2, g4, if_false, if_true]
    rfl
  · have e1 : fX4_of g (iv 3) (h, n, 0) = some (some (g 5), (h, n, 0)) := Eq.trans rfl rfl
    unfold fX9_chairDown
    rw [e_call0 e1]
    unfold mb msd msd msd msd
    simp only [Option.some.injEq, g3, g5, g6, if_false, if_true]
    rfl
theorem cellAcross_d {β : Type} {K : Int32 → HM β} {g : Nat → Nat} {h : Nat → Option hC} {n w s : Nat} {k j u : Int} (hg : gD g) (hs : SH h s k) (hj : 0 ≤ j ∧ j < ceN k) (hu : 0 ≤ u ∧ u ≤ 3) : mb (mdsp (some s) [(7, mcall0 (fX5_cellAcross g (some s) (iv j) (iv u))), (6, mcall0 (fX6_cellAcross g (some s) (iv j) (iv u))), (8, mcall0 (fX9_cellAcross g (some s) (iv j) (iv u)))]) K (h, n, w) = K (iv (ceR k u j)) (h, n, w) := by
  unfold ceN at hj
  refine c_dsp hs (fun e => ?_) (fun e => ?_) (fun e => ?_) <;> subst e
  · exact X6_cellAcross_v (by simpa using hj)
  · exact X5_cellAcross_v (by simpa using hj) hu
  · exact X9_cellAcross_v (by simp at hj; omega) hu
theorem cellDown_d {β : Type} {K : Int32 → HM β} {g : Nat → Nat} {h : Nat → Option hC} {n w s : Nat} {k j u : Int} (hg : gD g) (hs : SH h s k) (hj : 0 ≤ j ∧ j < ceN k) (hu : 0 ≤ u ∧ u ≤ 3) : mb (mdsp (some s) [(7, mcall0 (fX5_cellDown g (some s) (iv j) (iv u))), (6, mcall0 (fX6_cellDown g (some s) (iv j) (iv u))), (8, mcall0 (fX9_cellDown g (some s) (iv j) (iv u)))]) K (h, n, w) = K (iv (ceD k u j)) (h, n, w) := by
  unfold ceN at hj
  refine c_dsp hs (fun e => ?_) (fun e => ?_) (fun e => ?_) <;> subst e
  · exact X6_cellDown_v (by simpa using hj)
  · exact X5_cellDown_v (by simpa using hj) hu
  · exact X9_cellDown_v (by simp at hj; omega) hu
theorem chairAcross_d {β : Type} {K : Int32 → HM β} {g : Nat → Nat} {h : Nat → Option hC} {n w s : Nat} {k j u : Int} (hg : gD g) (hs : SH h s k) (hj : 0 ≤ j ∧ j < chN k) (hu : 0 ≤ u ∧ u ≤ 3) : mb (mdsp (some s) [(7, mcall0 (fX5_chairAcross g (some s) (iv j) (iv u))), (6, mcall0 (fX6_chairAcross g (some s) (iv j) (iv u))), (8, mcall0 (fX9_chairAcross g (some s) (iv j) (iv u)))]) K (h, n, w) = K (iv (chR k u j)) (h, n, w) := by
  unfold chN at hj
  refine c_dsp hs (fun e => ?_) (fun e => ?_) (fun e => ?_) <;> subst e
  · exact X6_chairAcross_v (by simpa using hj) hu
  · exact X5_chairAcross_v (by simpa using hj) hu
  · exact X9_chairAcross_v hg (by simpa using hj) hu
theorem chairDown_d {β : Type} {K : Int32 → HM β} {g : Nat → Nat} {h : Nat → Option hC} {n w s : Nat} {k j u : Int} (hg : gD g) (hs : SH h s k) (hj : 0 ≤ j ∧ j < chN k) (hu : 0 ≤ u ∧ u ≤ 3) : mb (mdsp (some s) [(7, mcall0 (fX5_chairDown g (some s) (iv j) (iv u))), (6, mcall0 (fX6_chairDown g (some s) (iv j) (iv u))), (8, mcall0 (fX9_chairDown g (some s) (iv j) (iv u)))]) K (h, n, w) = K (iv (chD k u j)) (h, n, w) := by
  unfold chN at hj
  refine c_dsp hs (fun e => ?_) (fun e => ?_) (fun e => ?_) <;> subst e
  · exact X6_chairDown_v (by simpa using hj) hu
  · exact X5_chairDown_v (by simpa using hj) hu
  · exact X9_chairDown_v hg (by simpa using hj) hu
theorem t_o0 {β : Type} {K : Option Nat → HM β} {h : Nat → Option hC} {n w a s : Nat} {x y u f : Int32} (ha : h a = some (.inr (2, [.ref s, .int x, .int y, .int u, .int f]))) : mb (oR 2 0 (some a)) K (h, n, w) = K (some s) (h, n, w) := c_oR ha rfl
theorem t_o1 {β : Type} {K : Int32 → HM β} {h : Nat → Option hC} {n w a s : Nat} {x y u f : Int32} (ha : h a = some (.inr (2, [.ref s, .int x, .int y, .int u, .int f]))) : mb (oI 2 1 (some a)) K (h, n, w) = K x (h, n, w) := c_oI ha rfl
theorem t_o2 {β : Type} {K : Int32 → HM β} {h : Nat → Option hC} {n w a s : Nat} {x y u f : Int32} (ha : h a = some (.inr (2, [.ref s, .int x, .int y, .int u, .int f]))) : mb (oI 2 2 (some a)) K (h, n, w) = K y (h, n, w) := c_oI ha rfl
theorem t_o3 {β : Type} {K : Int32 → HM β} {h : Nat → Option hC} {n w a s : Nat} {x y u f : Int32} (ha : h a = some (.inr (2, [.ref s, .int x, .int y, .int u, .int f]))) : mb (oI 2 3 (some a)) K (h, n, w) = K u (h, n, w) := c_oI ha rfl
theorem t_o4 {β : Type} {K : Int32 → HM β} {h : Nat → Option hC} {n w a s : Nat} {x y u f : Int32} (ha : h a = some (.inr (2, [.ref s, .int x, .int y, .int u, .int f]))) : mb (oI 2 4 (some a)) K (h, n, w) = K f (h, n, w) := c_oI ha rfl
theorem c_ite {α : Type} {p q : Prop} {a b : α} (h : p ↔ q) : @ite α p (Classical.propDecidable _) a b = @ite α q (Classical.propDecidable _) a b := by
  by_cases e : p
  · rw [if_pos e, if_pos (h.1 e)]
  · rw [if_neg e, if_neg (fun w => e (h.2 w))]
/-- a table: its shape's place, kind, place, turn, flowers -/
def TB (h : Nat → Option hC) (a : Nat) (k x y u fl : Int) : Prop := ∃ s, h a = some (.inr (2, [.ref s, .int (iv x), .int (iv y), .int (iv u), .int (iv fl)])) ∧ SH h s k
theorem X3_isInside_c {β : Type} {K : Int32 → HM β} {g : Nat → Nat} {h : Nat → Option hC} {n w : Nat} {x y : Int} (hx : -100 ≤ x ∧ x ≤ 1000) (hy : -100 ≤ y ∧ y ≤ 1000) : mb (mcall0 (fX3_isInside g (iv x) (iv y))) K (h, n, w) = K (iv (b2 (inR x y))) (h, n, w) := by
  refine e_call0 (u' := 0) ?_
  unfold fX3_isInside
  by_cases h1 : x < 0
  · rw [b2_f (show ¬ inR x y by unfold inR; omega)]
    simp (disch := omega) only [↓reduceIte, Int.reduceEq, Int.reduceNe, Int.reduceLT, Int.reduceLE, Int.reduceNeg, Int.reduceMod, Int.reduceDiv, Int.reduceAdd, Int.reduceSub, Int.reduceMul, not_true_eq_false, not_false_eq_true, Int.lt_irrefl, true_or, or_true, false_or, or_false, true_and, and_true, false_and, and_false, b2_T, b2_F, if_true, if_false, ↓mjn_b, ↓mjn0_b, ↓mjn2_b, iv_lit, iv_add, iv_sub, iv_mul, iv_neg, iv_le_t, iv_le_f, iv_lt_t, iv_lt_f, iv_eq_t, iv_eq_f, iv_div, iv_mod, mretT_p, mretT_b, e_mret, ↓e_bret, ↓m_mon, ↓m_oI0, m_pI0, ↓m_oI3, m_pI3, ↓m_oI5, m_pI5, ↓m_oI7, m_pI7, ↓m_oI11, m_pI11, ↓m_oI12, m_pI12, ↓m_oI13, m_pI13, ↓m_oI14, m_pI14, ↓m_oI15, m_pI15, ↓m_oI16, m_pI16, ↓m_oI17, m_pI17, m_pZ5, m_pZ12, ↓m_oR1, m_aI1, m_sI1, ↓m_oR2, m_aI2, m_sI2, ↓m_oR4, m_aI4, m_sI4, ↓m_oR6, m_aI6, m_sI6, ↓m_oR8, m_aI8, m_sI8, ↓m_oR9, m_aI9, m_sI9, ↓m_oR10, m_aI10, m_sI10]
  · by_cases h2 : 16 ≤ x
    · rw [b2_f (show ¬ inR x y by unfold inR; omega)]
      simp (disch := omega) only [↓reduceIte, Int.reduceEq, Int.reduceNe, Int.reduceLT, Int.reduceLE, Int.reduceNeg, Int.reduceMod, Int.reduceDiv, Int.reduceAdd, Int.reduceSub, Int.reduceMul, not_true_eq_false, not_false_eq_true, Int.lt_irrefl, true_or, or_true, false_or, or_false, true_and, and_true, false_and, and_false, b2_T, b2_F, if_true, if_false, ↓mjn_b, ↓mjn0_b, ↓mjn2_b, iv_lit, iv_add, iv_sub, iv_mul, iv_neg, iv_le_t, iv_le_f, iv_lt_t, iv_lt_f, iv_eq_t, iv_eq_f, iv_div, iv_mod, mretT_p, mretT_b, e_mret, ↓e_bret, ↓m_mon, ↓m_oI0, m_pI0, ↓m_oI3, m_pI3, ↓m_oI5, m_pI5, ↓m_oI7, m_pI7, ↓m_oI11, m_pI11, ↓m_oI12, m_pI12, ↓m_oI13, m_pI13, ↓m_oI14, m_pI14, ↓m_oI15, m_pI15, ↓m_oI16, m_pI16, ↓m_oI17, m_pI17, m_pZ5, m_pZ12, ↓m_oR1, m_aI1, m_sI1, ↓m_oR2, m_aI2, m_sI2, ↓m_oR4, m_aI4, m_sI4, ↓m_oR6, m_aI6, m_sI6, ↓m_oR8, m_aI8, m_sI8, ↓m_oR9, m_aI9, m_sI9, ↓m_oR10, m_aI10, m_sI10]
    · by_cases h3 : y < 0
      · rw [b2_f (show ¬ inR x y by unfold inR; omega)]
        simp (disch := omega) only [↓reduceIte, Int.reduceEq, Int.reduceNe, Int.reduceLT, Int.reduceLE, Int.reduceNeg, Int.reduceMod, Int.reduceDiv, Int.reduceAdd, Int.reduceSub, Int.reduceMul, not_true_eq_false, not_false_eq_true, Int.lt_irrefl, true_or, or_true, false_or, or_false, true_and, and_true, false_and, and_false, b2_T, b2_F, if_true, if_false, ↓mjn_b, ↓mjn0_b, ↓mjn2_b, iv_lit, iv_add, iv_sub, iv_mul, iv_neg, iv_le_t, iv_le_f, iv_lt_t, iv_lt_f, iv_eq_t, iv_eq_f, iv_div, iv_mod, mretT_p, mretT_b, e_mret, ↓e_bret, ↓m_mon, ↓m_oI0, m_pI0, ↓m_oI3, m_pI3, ↓m_oI5, m_pI5, ↓m_oI7, m_pI7, ↓m_oI11, m_pI11, ↓m_oI12, m_pI12, ↓m_oI13, m_pI13, ↓m_oI14, m_pI14, ↓m_oI15, m_pI15, ↓m_oI16, m_pI16, ↓m_oI17, m_pI17, m_pZ5, m_pZ12, ↓m_oR1, m_aI1, m_sI1, ↓m_oR2, m_aI2, m_sI2, ↓m_oR4, m_aI4, m_sI4, ↓m_oR6, m_aI6, m_sI6, ↓m_oR8, m_aI8, m_sI8, ↓m_oR9, m_aI9, m_sI9, ↓m_oR10, m_aI10, m_sI10]
      · by_cases h4 : 12 ≤ y
        · rw [b2_f (show ¬ inR x y by unfold inR; omega)]
          simp (disch := omega) only [↓reduceIte, Int.reduceEq, Int.reduceNe, Int.reduceLT, Int.reduceLE, Int.reduceNeg, Int.reduceMod, Int.reduceDiv, Int.reduceAdd, Int.reduceSub, Int.reduceMul, not_true_eq_false, not_false_eq_true, Int.lt_irrefl, true_or, or_true, false_or, or_false, true_and, and_true, false_and, and_false, b2_T, b2_F, if_true, if_false, ↓mjn_b, ↓mjn0_b, ↓mjn2_b, iv_lit, iv_add, iv_sub, iv_mul, iv_neg, iv_le_t, iv_le_f, iv_lt_t, iv_lt_f, iv_eq_t, iv_eq_f, iv_div, iv_mod, mretT_p, mretT_b, e_mret, ↓e_bret, ↓m_mon, ↓m_oI0, m_pI0, ↓m_oI3, m_pI3, ↓m_oI5, m_pI5, ↓m_oI7, m_pI7, ↓m_oI11, m_pI11, ↓m_oI12, m_pI12, ↓m_oI13, m_pI13, ↓m_oI14, m_pI14, ↓m_oI15, m_pI15, ↓m_oI16, m_pI16, ↓m_oI17, m_pI17, m_pZ5, m_pZ12, ↓m_oR1, m_aI1, m_sI1, ↓m_oR2, m_aI2, m_sI2, ↓m_oR4, m_aI4, m_sI4, ↓m_oR6, m_aI6, m_sI6, ↓m_oR8, m_aI8, m_sI8, ↓m_oR9, m_aI9, m_sI9, ↓m_oR10, m_aI10, m_sI10]
        · rw [b2_t (show inR x y by unfold inR; omega)]
          simp (disch := omega) only [↓reduceIte, Int.reduceEq, Int.reduceNe, Int.reduceLT, Int.reduceLE, Int.reduceNeg, Int.reduceMod, Int.reduceDiv, Int.reduceAdd, Int.reduceSub, Int.reduceMul, not_true_eq_false, not_false_eq_true, Int.lt_irrefl, true_or, or_true, false_or, or_false, true_and, and_true, false_and, and_false, b2_T, b2_F, if_true, if_false, ↓mjn_b, ↓mjn0_b, ↓mjn2_b, iv_lit, iv_add, iv_sub, iv_mul, iv_neg, iv_le_t, iv_le_f, iv_lt_t, iv_lt_f, iv_eq_t, iv_eq_f, iv_div, iv_mod, mretT_p, mretT_b, e_mret, ↓e_bret, ↓m_mon, ↓m_oI0, m_pI0, ↓m_oI3, m_pI3, ↓m_oI5, m_pI5, ↓m_oI7, m_pI7, ↓m_oI11, m_pI11, ↓m_oI12, m_pI12, ↓m_oI13, m_pI13, ↓m_oI14, m_pI14, ↓m_oI15, m_pI15, ↓m_oI16, m_pI16, ↓m_oI17, m_pI17, m_pZ5, m_pZ12, ↓m_oR1, m_aI1, m_sI1, ↓m_oR2, m_aI2, m_sI2, ↓m_oR4, m_aI4, m_sI4, ↓m_oR6, m_aI6, m_sI6, ↓m_oR8, m_aI8, m_sI8, ↓m_oR9, m_aI9, m_sI9, ↓m_oR10, m_aI10, m_sI10]
theorem X3_cell_ev {g : Nat → Nat} {h : Nat → Option hC} {n w a : Nat} {k x y u fl j : Int} (hg : gD g) (ht : TB h a k x y u fl) (hu : 0 ≤ u ∧ u ≤ 3) (hj : 0 ≤ j ∧ j < ceN k) : fX3_cell g (some a) (iv j) (h, n, w) = some (iv (16 * (y + ceD k u j) + x + ceR k u j), (h, n, w)) := by
  obtain ⟨s, ha, hs⟩ := ht
  unfold fX3_cell
  simp only [iv_lit, t_o0 ha, t_o1 ha, t_o2 ha, t_o3 ha, cellDown_d hg hs hj hu, cellAcross_d hg hs hj hu, iv_add, iv_mul]
  rfl
theorem X3_cell_c {β : Type} {K : Int32 → HM β} {g : Nat → Nat} {h : Nat → Option hC} {n w a : Nat} {k x y u fl j : Int} (hg : gD g) (ht : TB h a k x y u fl) (hu : 0 ≤ u ∧ u ≤ 3) (hj : 0 ≤ j ∧ j < ceN k) : mb (mon 2 (some a) (mcall0 (fX3_cell g (some a) (iv j)))) K (h, n, w) = K (iv (16 * (y + ceD k u j) + x + ceR k u j)) (h, n, w) := by
  obtain ⟨s, ha, hs⟩ := id ht
  rw [c_mon ha, e_call0 (X3_cell_ev (w := 0) hg ht hu hj)]
theorem X3_chair_ev {g : Nat → Nat} {h : Nat → Option hC} {n w a : Nat} {k x y u fl j : Int} (hg : gD g) (ht : TB h a k x y u fl) (hu : 0 ≤ u ∧ u ≤ 3) (hj : 0 ≤ j ∧ j < chN k) : fX3_chair g (some a) (iv j) (h, n, w) = some (iv (16 * (y + chD k u j) + x + chR k u j), (h, n, w)) := by
  obtain ⟨s, ha, hs⟩ := ht
  unfold fX3_chair
  simp only [iv_lit, t_o0 ha, t_o1 ha, t_o2 ha, t_o3 ha, chairDown_d hg hs hj hu, chairAcross_d hg hs hj hu, iv_add, iv_mul]
  rfl
theorem X3_chair_c {β : Type} {K : Int32 → HM β} {g : Nat → Nat} {h : Nat → Option hC} {n w a : Nat} {k x y u fl j : Int} (hg : gD g) (ht : TB h a k x y u fl) (hu : 0 ≤ u ∧ u ≤ 3) (hj : 0 ≤ j ∧ j < chN k) : mb (mon 2 (some a) (mcall0 (fX3_chair g (some a) (iv j)))) K (h, n, w) = K (iv (16 * (y + chD k u j) + x + chR k u j)) (h, n, w) := by
  obtain ⟨s, ha, hs⟩ := id ht
  rw [c_mon ha, e_call0 (X3_chair_ev (w := 0) hg ht hu hj)]
theorem X3_isInHall_L81_ev {g : Nat → Nat} {h : Nat → Option hC} {n w a : Nat} {kd x y u fl : Int} (hg : gD g) (ht : TB h a kd x y u fl) (hu : 0 ≤ u ∧ u ≤ 3) (hx : 0 ≤ x ∧ x ≤ 15) (hy : 0 ≤ y ∧ y ≤ 11) : ∀ (k nn : Nat) (i : Int), k < nn → 0 ≤ i → i + k = chN kd → fX3_isInHall_L81 g nn (some a) (iv (chN kd)) (iv i) (h, n, w) = (@ite (Option (Int32 × Hp)) (∀ j, i ≤ j → j < i + k → inR (x + chR kd u j) (y + chD kd u j)) (Classical.propDecidable _) (some (iv 1, (h, n, w))) (some (iv 0, (h, n, w)))) := by
  obtain ⟨s, ha, hs⟩ := ht
  have hN := chN_rg kd
  intro k
  induction k with
  | zero =>
    intro nn i hn hi he
    obtain ⟨q, rfl⟩ : ∃ q, nn = q + 1 := ⟨nn - 1, by omega⟩
    rw [if_pos (fun j a b => absurd b (by omega))]
    simp (disch := omega) only [↓reduceIte, Int.reduceEq, Int.reduceNe, Int.reduceLT, Int.reduceLE, Int.reduceNeg, Int.reduceMod, Int.reduceDiv, Int.reduceAdd, Int.reduceSub, Int.reduceMul, not_true_eq_false, not_false_eq_true, Int.lt_irrefl, true_or, or_true, false_or, or_false, true_and, and_true, false_and, and_false, b2_T, b2_F, if_true, if_false, ↓mjn_b, ↓mjn0_b, ↓mjn2_b, iv_lit, iv_add, iv_sub, iv_mul, iv_neg, iv_le_t, iv_le_f, iv_lt_t, iv_lt_f, iv_eq_t, iv_eq_f, iv_div, iv_mod, mretT_p, mretT_b, e_mret, ↓e_bret, ↓m_mon, ↓m_oI0, m_pI0, ↓m_oI3, m_pI3, ↓m_oI5, m_pI5, ↓m_oI7, m_pI7, ↓m_oI11, m_pI11, ↓m_oI12, m_pI12, ↓m_oI13, m_pI13, ↓m_oI14, m_pI14, ↓m_oI15, m_pI15, ↓m_oI16, m_pI16, ↓m_oI17, m_pI17, m_pZ5, m_pZ12, ↓m_oR1, m_aI1, m_sI1, ↓m_oR2, m_aI2, m_sI2, ↓m_oR4, m_aI4, m_sI4, ↓m_oR6, m_aI6, m_sI6, ↓m_oR8, m_aI8, m_sI8, ↓m_oR9, m_aI9, m_sI9, ↓m_oR10, m_aI10, m_sI10, fX3_isInHall_L81]
  | succ k ih =>
    intro nn i hn hi he
    obtain ⟨q, rfl⟩ : ∃ q, nn = q + 1 := ⟨nn - 1, by omega⟩
    have rR := chR_rg (k := kd) (u := u) (c := i) (by omega)
    have rD := chD_rg (k := kd) (u := u) (c := i) (by omega)
    have d1 := fun (K : Int32 → HM Int32) => chairAcross_d (n := n) (w := w) (K := K) hg hs (j := i) ⟨hi, by omega⟩ hu
    have d2 := fun (K : Int32 → HM Int32) => chairDown_d (n := n) (w := w) (K := K) hg hs (j := i) ⟨hi, by omega⟩ hu
    by_cases hc : inR (x + chR kd u i) (y + chD kd u i)
    · rw [c_ite (show (∀ j, i ≤ j → j < i + ((k + 1 : Nat) : Int) → inR (x + chR kd u j) (y + chD kd u j)) ↔ (∀ j, i + 1 ≤ j → j < i + 1 + (k : Int) → inR (x + chR kd u j) (y + chD kd u j)) from ⟨fun w j a b => w j (by omega) (by omega), fun w j a b => by
        by_cases e : j = i
        · rw [e]; exact hc
        · exact w j (by omega) (by omega)⟩), ← ih q (i + 1) (by omega) (by omega) (by omega)]
      simp (disch := omega) only [↓reduceIte, Int.reduceEq, Int.reduceNe, Int.reduceLT, Int.reduceLE, Int.reduceNeg, Int.reduceMod, Int.reduceDiv, Int.reduceAdd, Int.reduceSub, Int.reduceMul, not_true_eq_false, not_false_eq_true, Int.lt_irrefl, true_or, or_true, false_or, or_false, true_and, and_true, false_and, and_false, b2_T, b2_F, if_true, if_false, ↓mjn_b, ↓mjn0_b, ↓mjn2_b, iv_lit, iv_add, iv_sub, iv_mul, iv_neg, iv_le_t, iv_le_f, iv_lt_t, iv_lt_f, iv_eq_t, iv_eq_f, iv_div, iv_mod, mretT_p, mretT_b, e_mret, ↓e_bret, ↓m_mon, ↓m_oI0, m_pI0, ↓m_oI3, m_pI3, ↓m_oI5, m_pI5, ↓m_oI7, m_pI7, ↓m_oI11, m_pI11, ↓m_oI12, m_pI12, ↓m_oI13, m_pI13, ↓m_oI14, m_pI14, ↓m_oI15, m_pI15, ↓m_oI16, m_pI16, ↓m_oI17, m_pI17, m_pZ5, m_pZ12, ↓m_oR1, m_aI1, m_sI1, ↓m_oR2, m_aI2, m_sI2, ↓m_oR4, m_aI4, m_sI4, ↓m_oR6, m_aI6, m_sI6, ↓m_oR8, m_aI8, m_sI8, ↓m_oR9, m_aI9, m_sI9, ↓m_oR10, m_aI10, m_sI10, fX3_isInHall_L81, ↓t_o0 ha, ↓t_o1 ha, ↓t_o2 ha, ↓t_o3 ha, ↓d1, ↓d2, X3_isInside_c, b2_t hc]
    · rw [if_neg (fun w => hc (w i (by omega) (by omega)))]
      simp (disch := omega) only [↓reduceIte, Int.reduceEq, Int.reduceNe, Int.reduceLT, Int.reduceLE, Int.reduceNeg, Int.reduceMod, Int.reduceDiv, Int.reduceAdd, Int.reduceSub, Int.reduceMul, not_true_eq_false, not_false_eq_true, Int.lt_irrefl, true_or, or_true, false_or, or_false, true_and, and_true, false_and, and_false, b2_T, b2_F, if_true, if_false, ↓mjn_b, ↓mjn0_b, ↓mjn2_b, iv_lit, iv_add, iv_sub, iv_mul, iv_neg, iv_le_t, iv_le_f, iv_lt_t, iv_lt_f, iv_eq_t, iv_eq_f, iv_div, iv_mod, mretT_p, mretT_b, e_mret, ↓e_bret, ↓m_mon, ↓m_oI0, m_pI0, ↓m_oI3, m_pI3, ↓m_oI5, m_pI5, ↓m_oI7, m_pI7, ↓m_oI11, m_pI11, ↓m_oI12, m_pI12, ↓m_oI13, m_pI13, ↓m_oI14, m_pI14, ↓m_oI15, m_pI15, ↓m_oI16, m_pI16, ↓m_oI17, m_pI17, m_pZ5, m_pZ12, ↓m_oR1, m_aI1, m_sI1, ↓m_oR2, m_aI2, m_sI2, ↓m_oR4, m_aI4, m_sI4, ↓m_oR6, m_aI6, m_sI6, ↓m_oR8, m_aI8, m_sI8, ↓m_oR9, m_aI9, m_sI9, ↓m_oR10, m_aI10, m_sI10, fX3_isInHall_L81, ↓t_o0 ha, ↓t_o1 ha, ↓t_o2 ha, ↓t_o3 ha, ↓d1, ↓d2, X3_isInside_c, b2_f hc]
theorem X3_isInHall_L12_ev {g : Nat → Nat} {h : Nat → Option hC} {n w a : Nat} {K : HM Int32} {kd x y u fl : Int} (hg : gD g) (ht : TB h a kd x y u fl) (hu : 0 ≤ u ∧ u ≤ 3) (hx : 0 ≤ x ∧ x ≤ 15) (hy : 0 ≤ y ∧ y ≤ 11) : ∀ (k nn : Nat) (i : Int), k < nn → 0 ≤ i → i + k = ceN kd → fX3_isInHall_L12 g nn (some a) (iv (ceN kd)) (iv i) K (h, n, w) = (@ite (Option (Int32 × Hp)) (∀ j, i ≤ j → j < i + k → inR (x + ceR kd u j) (y + ceD kd u j)) (Classical.propDecidable _) (K (h, n, w)) (some (iv 0, (h, n, w)))) := by
  obtain ⟨s, ha, hs⟩ := ht
  have hN := ceN_rg kd
  intro k
  induction k with
  | zero =>
    intro nn i hn hi he
    obtain ⟨q, rfl⟩ : ∃ q, nn = q + 1 := ⟨nn - 1, by omega⟩
    rw [if_pos (fun j a b => absurd b (by omega))]
    simp (disch := omega) only [↓reduceIte, Int.reduceEq, Int.reduceNe, Int.reduceLT, Int.reduceLE, Int.reduceNeg, Int.reduceMod, Int.reduceDiv, Int.reduceAdd, Int.reduceSub, Int.reduceMul, not_true_eq_false, not_false_eq_true, Int.lt_irrefl, true_or, or_true, false_or, or_false, true_and, and_true, false_and, and_false, b2_T, b2_F, if_true, if_false, ↓mjn_b, ↓mjn0_b, ↓mjn2_b, iv_lit, iv_add, iv_sub, iv_mul, iv_neg, iv_le_t, iv_le_f, iv_lt_t, iv_lt_f, iv_eq_t, iv_eq_f, iv_div, iv_mod, mretT_p, mretT_b, e_mret, ↓e_bret, ↓m_mon, ↓m_oI0, m_pI0, ↓m_oI3, m_pI3, ↓m_oI5, m_pI5, ↓m_oI7, m_pI7, ↓m_oI11, m_pI11, ↓m_oI12, m_pI12, ↓m_oI13, m_pI13, ↓m_oI14, m_pI14, ↓m_oI15, m_pI15, ↓m_oI16, m_pI16, ↓m_oI17, m_pI17, m_pZ5, m_pZ12, ↓m_oR1, m_aI1, m_sI1, ↓m_oR2, m_aI2, m_sI2, ↓m_oR4, m_aI4, m_sI4, ↓m_oR6, m_aI6, m_sI6, ↓m_oR8, m_aI8, m_sI8, ↓m_oR9, m_aI9, m_sI9, ↓m_oR10, m_aI10, m_sI10, fX3_isInHall_L12]
  | succ k ih =>
    intro nn i hn hi he
    obtain ⟨q, rfl⟩ : ∃ q, nn = q + 1 := ⟨nn - 1, by omega⟩
    have rR := ceR_rg (k := kd) (u := u) (j := i) (by omega)
    have rD := ceD_rg (k := kd) (u := u) (j := i) (by omega)
    have d1 := fun (K : Int32 → HM Int32) => cellAcross_d (n := n) (w := w) (K := K) hg hs (j := i) ⟨hi, by omega⟩ hu
    have d2 := fun (K : Int32 → HM Int32) => cellDown_d (n := n) (w := w) (K := K) hg hs (j := i) ⟨hi, by omega⟩ hu
    by_cases hc : inR (x + ceR kd u i) (y + ceD kd u i)
    · rw [c_ite (show (∀ j, i ≤ j → j < i + ((k + 1 : Nat) : Int) → inR (x + ceR kd u j) (y + ceD kd u j)) ↔ (∀ j, i + 1 ≤ j → j < i + 1 + (k : Int) → inR (x + ceR kd u j) (y + ceD kd u j)) from ⟨fun w j a b => w j (by omega) (by omega), fun w j a b => by
        by_cases e : j = i
        · rw [e]; exact hc
        · exact w j (by omega) (by omega)⟩), ← ih q (i + 1) (by omega) (by omega) (by omega)]
      simp (disch := omega) only [↓reduceIte, Int.reduceEq, Int.reduceNe, Int.reduceLT, Int.reduceLE, Int.reduceNeg, Int.reduceMod, Int.reduceDiv, Int.reduceAdd, Int.reduceSub, Int.reduceMul, not_true_eq_false, not_false_eq_true, Int.lt_irrefl, true_or, or_true, false_or, or_false, true_and, and_true, false_and, and_false, b2_T, b2_F, if_true, if_false, ↓mjn_b, ↓mjn0_b, ↓mjn2_b, iv_lit, iv_add, iv_sub, iv_mul, iv_neg, iv_le_t, iv_le_f, iv_lt_t, iv_lt_f, iv_eq_t, iv_eq_f, iv_div, iv_mod, mretT_p, mretT_b, e_mret, ↓e_bret, ↓m_mon, ↓m_oI0, m_pI0, ↓m_oI3, m_pI3, ↓m_oI5, m_pI5, ↓m_oI7, m_pI7, ↓m_oI11, m_pI11, ↓m_oI12, m_pI12, ↓m_oI13, m_pI13, ↓m_oI14, m_pI14, ↓m_oI15, m_pI15, ↓m_oI16, m_pI16, ↓m_oI17, m_pI17, m_pZ5, m_pZ12, ↓m_oR1, m_aI1, m_sI1, ↓m_oR2, m_aI2, m_sI2, ↓m_oR4, m_aI4, m_sI4, ↓m_oR6, m_aI6, m_sI6, ↓m_oR8, m_aI8, m_sI8, ↓m_oR9, m_aI9, m_sI9, ↓m_oR10, m_aI10, m_sI10, fX3_isInHall_L12, ↓t_o0 ha, ↓t_o1 ha, ↓t_o2 ha, ↓t_o3 ha, ↓d1, ↓d2, X3_isInside_c, b2_t hc]
    · rw [if_neg (fun w => hc (w i (by omega) (by omega)))]
      simp (disch := omega) only [↓reduceIte, Int.reduceEq, Int.reduceNe, Int.reduceLT, Int.reduceLE, Int.reduceNeg, Int.reduceMod, Int.reduceDiv, Int.reduceAdd, Int.reduceSub, Int.reduceMul, not_true_eq_false, not_false_eq_true, Int.lt_irrefl, true_or, or_true, false_or, or_false, true_and, and_true, false_and, and_false, b2_T, b2_F, if_true, if_false, ↓mjn_b, ↓mjn0_b, ↓mjn2_b, iv_lit, iv_add, iv_sub, iv_mul, iv_neg, iv_le_t, iv_le_f, iv_lt_t, iv_lt_f, iv_eq_t, iv_eq_f, iv_div, iv_mod, mretT_p, mretT_b, e_mret, ↓e_bret, ↓m_mon, ↓m_oI0, m_pI0, ↓m_oI3, m_pI3, ↓m_oI5, m_pI5, ↓m_oI7, m_pI7, ↓m_oI11, m_pI11, ↓m_oI12, m_pI12, ↓m_oI13, m_pI13, ↓m_oI14, m_pI14, ↓m_oI15, m_pI15, ↓m_oI16, m_pI16, ↓m_oI17, m_pI17, m_pZ5, m_pZ12, ↓m_oR1, m_aI1, m_sI1, ↓m_oR2, m_aI2, m_sI2, ↓m_oR4, m_aI4, m_sI4, ↓m_oR6, m_aI6, m_sI6, ↓m_oR8, m_aI8, m_sI8, ↓m_oR9, m_aI9, m_sI9, ↓m_oR10, m_aI10, m_sI10, fX3_isInHall_L12, ↓t_o0 ha, ↓t_o1 ha, ↓t_o2 ha, ↓t_o3 ha, ↓d1, ↓d2, X3_isInside_c, b2_f hc]
theorem X3_isInHall_ev {g : Nat → Nat} {h : Nat → Option hC} {n w a : Nat} {kd x y u fl : Int} (hg : gD g) (ht : TB h a kd x y u fl) (hu : 0 ≤ u ∧ u ≤ 3) (hx : 0 ≤ x ∧ x ≤ 15) (hy : 0 ≤ y ∧ y ≤ 11) : fX3_isInHall g (some a) (h, n, w) = some (iv (b2 (inH kd u x y)), (h, n, w)) := by
  obtain ⟨s, ha, hs⟩ := id ht
  have hN := ceN_rg kd
  have hN2 := chN_rg kd
  have k2 := X3_isInHall_L81_ev (n := n) (w := w) hg ht hu hx hy (chN kd).toNat 5000 0 (by omega) (by omega) (by omega)
  unfold fX3_isInHall
  simp only [iv_lit] at k2 ⊢
  rw [t_o0 ha, cells_d hs, X3_isInHall_L12_ev hg ht hu hx hy (ceN kd).toNat 5000 0 (by omega) (by omega) (by omega), t_o0 ha, chairs_d hs, k2]
  by_cases h1 : ∀ j, (0 : Int) ≤ j → j < 0 + ((ceN kd).toNat : Int) → inR (x + ceR kd u j) (y + ceD kd u j)
  · rw [if_pos h1]
    by_cases h2 : ∀ j, (0 : Int) ≤ j → j < 0 + ((chN kd).toNat : Int) → inR (x + chR kd u j) (y + chD kd u j)
    · rw [if_pos h2, b2_t (show inH kd u x y from ⟨fun j a b => h1 j a (by omega), fun j a b => h2 j a (by omega)⟩)]
    · rw [if_neg h2, b2_f (fun q => h2 (fun j a b => q.2 j a (by omega)))]
  · rw [if_neg h1, b2_f (fun q => h1 (fun j a b => q.1 j a (by omega)))]
theorem X3_isInHall_c {β : Type} {K : Int32 → HM β} {g : Nat → Nat} {h : Nat → Option hC} {n w a : Nat} {kd x y u fl : Int} (hg : gD g) (ht : TB h a kd x y u fl) (hu : 0 ≤ u ∧ u ≤ 3) (hx : 0 ≤ x ∧ x ≤ 15) (hy : 0 ≤ y ∧ y ≤ 11) : mb (mon 2 (some a) (mcall0 (fX3_isInHall g (some a)))) K (h, n, w) = K (iv (b2 (inH kd u x y))) (h, n, w) := by
  obtain ⟨s, ha, hs⟩ := id ht
  rw [c_mon ha, e_call0 (X3_isInHall_ev (w := 0) hg ht hu hx hy)]
