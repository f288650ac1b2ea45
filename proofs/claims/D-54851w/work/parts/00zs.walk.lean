/-! ===== the steps from the door, in a state ===== -/
def bes (c y : Int) : Int := if y = 0 then c - 16 else if y = 1 then (if c % 16 = 15 then -1 else c + 1) else if y = 2 then (if 192 ≤ c + 16 then -1 else c + 16) else if c % 16 = 0 then -1 else c - 1
theorem bes_adj {c y : Int} (hc : cin c) (hy : 0 ≤ y ∧ y < 4) (h : 0 ≤ bes c y) : adj c (bes c y) := by
  unfold cin at hc
  rcases i4 hy with rfl | rfl | rfl | rfl
  · have e : bes c 0 = c - 16 := if_pos rfl
    rw [e] at h ⊢
    exact ⟨by omega, Or.inl rfl⟩
  · by_cases q : c % 16 = 15
    · have e : bes c 1 = -1 := by unfold bes; rw [if_neg (by decide), if_pos rfl, if_pos q]
      omega
    · have e : bes c 1 = c + 1 := by unfold bes; rw [if_neg (by decide), if_pos rfl, if_neg q]
      rw [e]
      exact ⟨by omega, Or.inr (Or.inr (Or.inl ⟨q, rfl⟩))⟩
  · by_cases q : 192 ≤ c + 16
    · have e : bes c 2 = -1 := by unfold bes; rw [if_neg (by decide), if_neg (by decide), if_pos rfl, if_pos q]
      omega
    · have e : bes c 2 = c + 16 := by unfold bes; rw [if_neg (by decide), if_neg (by decide), if_pos rfl, if_neg q]
      rw [e]
      exact ⟨by omega, Or.inr (Or.inl rfl)⟩
  · by_cases q : c % 16 = 0
    · have e : bes c 3 = -1 := by unfold bes; rw [if_neg (by decide), if_neg (by decide), if_neg (by decide), if_pos q]
      omega
    · have e : bes c 3 = c - 1 := by unfold bes; rw [if_neg (by decide), if_neg (by decide), if_neg (by decide), if_neg q]
      rw [e]
      exact ⟨by omega, Or.inr (Or.inr (Or.inr ⟨q, rfl⟩))⟩
theorem adj_bes {c x : Int} (h : adj c x) : ∃ y, (0 ≤ y ∧ y < 4) ∧ bes c y = x := by
  unfold adj at h
  obtain ⟨h1, h2 | h2 | h2 | h2⟩ := h
  · refine ⟨0, by omega, ?_⟩
    unfold bes
    rw [if_pos rfl]; omega
  · refine ⟨2, by omega, ?_⟩
    unfold bes
    rw [if_neg (by decide), if_neg (by decide), if_pos rfl, if_neg (by omega)]; omega
  · refine ⟨1, by omega, ?_⟩
    unfold bes
    rw [if_neg (by decide), if_pos rfl, if_neg (by omega)]; omega
  · refine ⟨3, by omega, ?_⟩
    unfold bes
    rw [if_neg (by decide), if_neg (by decide), if_neg (by decide), if_neg (by omega)]; omega
theorem bes_rg {c y : Int} (hc : cin c) : -16 ≤ bes c y ∧ bes c y < 192 + 16 := by
  unfold cin at hc
  unfold bes
  split
  · omega
  · split
    · split <;> omega
    · split
      · split <;> omega
      · split <;> omega
theorem X2_beside_c {β : Type} {K : Int32 → HM β} {g : Nat → Nat} {h : Nat → Option hC} {n w : Nat} {c y : Int} (hc : cin c) (hy : 0 ≤ y ∧ y < 4) : mb (mcall0 (fX2_beside g (iv c) (iv y))) K (h, n, w) = K (iv (bes c y)) (h, n, w) := by
  refine e_call0 (u' := 0) ?_
  have hc2 := hc
  unfold cin at hc2
  unfold fX2_beside bes
  rcases i4 hy with rfl | rfl | rfl | rfl
  · simp (disch := omega) only [↓reduceIte, Int.reduceEq, Int.reduceNe, Int.reduceLT, Int.reduceLE, Int.reduceNeg, Int.reduceMod, Int.reduceDiv, Int.reduceAdd, Int.reduceSub, Int.reduceMul, not_true_eq_false, not_false_eq_true, Int.lt_irrefl, true_or, or_true, false_or, or_false, true_and, and_true, false_and, and_false, b2_T, b2_F, if_true, if_false, ↓mjn_b, ↓mjn0_b, ↓mjn2_b, iv_lit, iv_add, iv_sub, iv_mul, iv_neg, iv_le_t, iv_le_f, iv_lt_t, iv_lt_f, iv_eq_t, iv_eq_f, iv_div, iv_mod, mretT_p, mretT_b, e_mret, ↓e_bret, ↓m_mon, ↓m_oI0, m_pI0, ↓m_oI3, m_pI3, ↓m_oI5, m_pI5, ↓m_oI7, m_pI7, ↓m_oI11, m_pI11, ↓m_oI12, m_pI12, ↓m_oI13, m_pI13, ↓m_oI14, m_pI14, ↓m_oI15, m_pI15, ↓m_oI16, m_pI16, ↓m_oI17, m_pI17, m_pZ5, m_pZ12, ↓m_oR1, m_aI1, m_sI1, ↓m_oR2, m_aI2, m_sI2, ↓m_oR4, m_aI4, m_sI4, ↓m_oR6, m_aI6, m_sI6, ↓m_oR8, m_aI8, m_sI8, ↓m_oR9, m_aI9, m_sI9, ↓m_oR10, m_aI10, m_sI10]
  · by_cases e : c % 16 = 15
    · simp (disch := omega) only [↓reduceIte, Int.reduceEq, Int.reduceNe, Int.reduceLT, Int.reduceLE, Int.reduceNeg, Int.reduceMod, Int.reduceDiv, Int.reduceAdd, Int.reduceSub, Int.reduceMul, not_true_eq_false, not_false_eq_true, Int.lt_irrefl, true_or, or_true, false_or, or_false, true_and, and_true, false_and, and_false, b2_T, b2_F, if_true, if_false, ↓mjn_b, ↓mjn0_b, ↓mjn2_b, iv_lit, iv_add, iv_sub, iv_mul, iv_neg, iv_le_t, iv_le_f, iv_lt_t, iv_lt_f, iv_eq_t, iv_eq_f, iv_div, iv_mod, mretT_p, mretT_b, e_mret, ↓e_bret, ↓m_mon, ↓m_oI0, m_pI0, ↓m_oI3, m_pI3, ↓m_oI5, m_pI5, ↓m_oI7, m_pI7, ↓m_oI11, m_pI11, ↓m_oI12, m_pI12, ↓m_oI13, m_pI13, ↓m_oI14, m_pI14, ↓m_oI15, m_pI15, ↓m_oI16, m_pI16, ↓m_oI17, m_pI17, m_pZ5, m_pZ12, ↓m_oR1, m_aI1, m_sI1, ↓m_oR2, m_aI2, m_sI2, ↓m_oR4, m_aI4, m_sI4, ↓m_oR6, m_aI6, m_sI6, ↓m_oR8, m_aI8, m_sI8, ↓m_oR9, m_aI9, m_sI9, ↓m_oR10, m_aI10, m_sI10, e]
    · simp (disch := omega) only [↓reduceIte, Int.reduceEq, Int.reduceNe, Int.reduceLT, Int.reduceLE, Int.reduceNeg, Int.reduceMod, Int.reduceDiv, Int.reduceAdd, Int.reduceSub, Int.reduceMul, not_true_eq_false, not_false_eq_true, Int.lt_irrefl, true_or, or_true, false_or, or_false, true_and, and_true, false_and, and_false, b2_T, b2_F, if_true, if_false, ↓mjn_b, ↓mjn0_b, ↓mjn2_b, iv_lit, iv_add, iv_sub, iv_mul, iv_neg, iv_le_t, iv_le_f, iv_lt_t, iv_lt_f, iv_eq_t, iv_eq_f, iv_div, iv_mod, mretT_p, mretT_b, e_mret, ↓e_bret, ↓m_mon, ↓m_oI0, m_pI0, ↓m_oI3, m_pI3, ↓m_oI5, m_pI5, ↓m_oI7, m_pI7, ↓m_oI11, m_pI11, ↓m_oI12, m_pI12, ↓m_oI13, m_pI13, ↓m_oI14, m_pI14, ↓m_oI15, m_pI15, ↓m_oI16, m_pI16, ↓m_oI17, m_pI17, m_pZ5, m_pZ12, ↓m_oR1, m_aI1, m_sI1, ↓m_oR2, m_aI2, m_sI2, ↓m_oR4, m_aI4, m_sI4, ↓m_oR6, m_aI6, m_sI6, ↓m_oR8, m_aI8, m_sI8, ↓m_oR9, m_aI9, m_sI9, ↓m_oR10, m_aI10, m_sI10, e]
  · by_cases e : 192 ≤ c + 16
    · simp (disch := omega) only [↓reduceIte, Int.reduceEq, Int.reduceNe, Int.reduceLT, Int.reduceLE, Int.reduceNeg, Int.reduceMod, Int.reduceDiv, Int.reduceAdd, Int.reduceSub, Int.reduceMul, not_true_eq_false, not_false_eq_true, Int.lt_irrefl, true_or, or_true, false_or, or_false, true_and, and_true, false_and, and_false, b2_T, b2_F, if_true, if_false, ↓mjn_b, ↓mjn0_b, ↓mjn2_b, iv_lit, iv_add, iv_sub, iv_mul, iv_neg, iv_le_t, iv_le_f, iv_lt_t, iv_lt_f, iv_eq_t, iv_eq_f, iv_div, iv_mod, mretT_p, mretT_b, e_mret, ↓e_bret, ↓m_mon, ↓m_oI0, m_pI0, ↓m_oI3, m_pI3, ↓m_oI5, m_pI5, ↓m_oI7, m_pI7, ↓m_oI11, m_pI11, ↓m_oI12, m_pI12, ↓m_oI13, m_pI13, ↓m_oI14, m_pI14, ↓m_oI15, m_pI15, ↓m_oI16, m_pI16, ↓m_oI17, m_pI17, m_pZ5, m_pZ12, ↓m_oR1, m_aI1, m_sI1, ↓m_oR2, m_aI2, m_sI2, ↓m_oR4, m_aI4, m_sI4, ↓m_oR6, m_aI6, m_sI6, ↓m_oR8, m_aI8, m_sI8, ↓m_oR9, m_aI9, m_sI9, ↓m_oR10, m_aI10, m_sI10, e]
    · simp (disch := omega) only [↓reduceIte, Int.reduceEq, Int.reduceNe, Int.reduceLT, Int.reduceLE, Int.reduceNeg, Int.reduceMod, Int.reduceDiv, Int.reduceAdd, Int.reduceSub, Int.reduceMul, not_true_eq_false, not_false_eq_true, Int.lt_irrefl, true_or, or_true, false_or, or_false, true_and, and_true, false_and, and_false, b2_T, b2_F, if_true, if_false, ↓mjn_b, ↓mjn0_b, ↓mjn2_b, iv_lit, iv_add, iv_sub, iv_mul, iv_neg, iv_le_t, iv_le_f, iv_lt_t, iv_lt_f, iv_eq_t, iv_eq_f, iv_div, iv_mod, mretT_p, mretT_b, e_mret, ↓e_bret, ↓m_mon, ↓m_oI0, m_pI0, ↓m_oI3, m_pI3, ↓m_oI5, m_pI5, ↓m_oI7, m_pI7, ↓m_oI11, m_pI11, ↓m_oI12, m_pI12, ↓m_oI13, m_pI13, ↓m_oI14, m_pI14, ↓m_oI15, m_pI15, ↓m_oI16, m_pI16, ↓m_oI17, m_pI17, m_pZ5, m_pZ12, ↓m_oR1, m_aI1, m_sI1, ↓m_oR2, m_aI2, m_sI2, ↓m_oR4, m_aI4, m_sI4, ↓m_oR6, m_aI6, m_sI6, ↓m_oR8, m_aI8, m_sI8, ↓m_oR9, m_aI9, m_sI9, ↓m_oR10, m_aI10, m_sI10, e]
  · by_cases e : c % 16 = 0
    · simp (disch := omega) only [↓reduceIte, Int.reduceEq, Int.reduceNe, Int.reduceLT, Int.reduceLE, Int.reduceNeg, Int.reduceMod, Int.reduceDiv, Int.reduceAdd, Int.reduceSub, Int.reduceMul, not_true_eq_false, not_false_eq_true, Int.lt_irrefl, true_or, or_true, false_or, or_false, true_and, and_true, false_and, and_false, b2_T, b2_F, if_true, if_false, ↓mjn_b, ↓mjn0_b, ↓mjn2_b, iv_lit, iv_add, iv_sub, iv_mul, iv_neg, iv_le_t, iv_le_f, iv_lt_t, iv_lt_f, iv_eq_t, iv_eq_f, iv_div, iv_mod, mretT_p, mretT_b, e_mret, ↓e_bret, ↓m_mon, ↓m_oI0, m_pI0, ↓m_oI3, m_pI3, ↓m_oI5, m_pI5, ↓m_oI7, m_pI7, ↓m_oI11, m_pI11, ↓m_oI12, m_pI12, ↓m_oI13, m_pI13, ↓m_oI14, m_pI14, ↓m_oI15, m_pI15, ↓m_oI16, m_pI16, ↓m_oI17, m_pI17, m_pZ5, m_pZ12, ↓m_oR1, m_aI1, m_sI1, ↓m_oR2, m_aI2, m_sI2, ↓m_oR4, m_aI4, m_sI4, ↓m_oR6, m_aI6, m_sI6, ↓m_oR8, m_aI8, m_sI8, ↓m_oR9, m_aI9, m_sI9, ↓m_oR10, m_aI10, m_sI10, e]
    · simp (disch := omega) only [↓reduceIte, Int.reduceEq, Int.reduceNe, Int.reduceLT, Int.reduceLE, Int.reduceNeg, Int.reduceMod, Int.reduceDiv, Int.reduceAdd, Int.reduceSub, Int.reduceMul, not_true_eq_false, not_false_eq_true, Int.lt_irrefl, true_or, or_true, false_or, or_false, true_and, and_true, false_and, and_false, b2_T, b2_F, if_true, if_false, ↓mjn_b, ↓mjn0_b, ↓mjn2_b, iv_lit, iv_add, iv_sub, iv_mul, iv_neg, iv_le_t, iv_le_f, iv_lt_t, iv_lt_f, iv_eq_t, iv_eq_f, iv_div, iv_mod, mretT_p, mretT_b, e_mret, ↓e_bret, ↓m_mon, ↓m_oI0, m_pI0, ↓m_oI3, m_pI3, ↓m_oI5, m_pI5, ↓m_oI7, m_pI7, ↓m_oI11, m_pI11, ↓m_oI12, m_pI12, ↓m_oI13, m_pI13, ↓m_oI14, m_pI14, ↓m_oI15, m_pI15, ↓m_oI16, m_pI16, ↓m_oI17, m_pI17, m_pZ5, m_pZ12, ↓m_oR1, m_aI1, m_sI1, ↓m_oR2, m_aI2, m_sI2, ↓m_oR4, m_aI4, m_sI4, ↓m_oR6, m_aI6, m_sI6, ↓m_oR8, m_aI8, m_sI8, ↓m_oR9, m_aI9, m_sI9, ↓m_oR10, m_aI10, m_sI10, e]
def wB (c y : Int) : Int → Prop := fun x => 0 ≤ x ∧ ∃ w, (0 ≤ w ∧ w < y) ∧ bes c w = x
theorem wB_s {c y x : Int} (h : wB c (y + 1) x) : wB c y x ∨ x = bes c y := by
  obtain ⟨h0, w, h1, h2⟩ := h
  by_cases e : w = y
  · subst e; exact Or.inr h2.symm
  · exact Or.inl ⟨h0, w, by omega, h2⟩
theorem wB_n {c y x : Int} (hn : bes c y < 0) (h : wB c (y + 1) x) : wB c y x := by
  rcases wB_s h with q | q
  · exact q
  · have := h.1; omega
/-- steps and queue -/
def wl (h : Nat → Option hC) (D : Nat → Nat) (p : Nat) (S Q : Int → Int) : Nat → Option hC := hset (hset h (D 5) (ari 0 192 S)) p (ari 0 192 Q)
def WB (h : Nat → Option hC) (a : Nat) (D : Nat → Nat) (p : Nat) (z F : Int → Int) : Prop := SO h a D z ∧ h (D 4) = some (ari 0 192 F) ∧ PA h (D 5) ∧ h p = none ∧ D 4 ≠ D 5
theorem wl_ne {h : Nat → Option hC} {D : Nat → Nat} {p : Nat} {S Q : Int → Int} {q : Nat} (h1 : q ≠ D 5) (h2 : q ≠ p) : wl h D p S Q q = h q := by
  unfold wl
  rw [hset_ne h2, hset_ne h1]
theorem WB_p {h : Nat → Option hC} {a : Nat} {D : Nat → Nat} {p : Nat} {z F : Int → Int} (b : WB h a D p z F) : D 5 ≠ p ∧ D 4 ≠ p ∧ a ≠ p ∧ a ≠ D 5 := by
  obtain ⟨b1, b2, ⟨G, b3⟩, b4, b5⟩ := b
  refine ⟨fun e => ?_, fun e => ?_, fun e => ?_, ne_oa b1 b3⟩
  · rw [e, b4] at b3; cases b3
  · rw [e, b4] at b2; cases b2
  · unfold SO at b1
    rw [e, b4] at b1; cases b1
theorem wl_S {h : Nat → Option hC} {a : Nat} {D : Nat → Nat} {p : Nat} {z F S Q : Int → Int} (b : WB h a D p z F) : wl h D p S Q (D 5) = some (ari 0 192 S) := by
  unfold wl
  rw [hset_ne (WB_p b).1, hset_at]
theorem wl_Q {h : Nat → Option hC} {D : Nat → Nat} {p : Nat} {S Q : Int → Int} : wl h D p S Q p = some (ari 0 192 Q) := hset_at
theorem wl_F {h : Nat → Option hC} {a : Nat} {D : Nat → Nat} {p : Nat} {z F S Q : Int → Int} (b : WB h a D p z F) : wl h D p S Q (D 4) = some (ari 0 192 F) := by
  rw [wl_ne b.2.2.2.2 (WB_p b).2.1]; exact b.2.1
theorem wl_O {h : Nat → Option hC} {a : Nat} {D : Nat → Nat} {p : Nat} {z F S Q : Int → Int} (b : WB h a D p z F) : SO (wl h D p S Q) a D z := by
  unfold SO
  rw [wl_ne (WB_p b).2.2.2 (WB_p b).2.2.1]; exact b.1
theorem wl_wS {h : Nat → Option hC} {a : Nat} {D : Nat → Nat} {p : Nat} {z F S Q S' : Int → Int} (b : WB h a D p z F) : hset (wl h D p S Q) (D 5) (ari 0 192 S') = wl h D p S' Q := by
  unfold wl
  rw [hset_cm (fun e => (WB_p b).1 e.symm), hset_hset]
theorem wl_wQ {h : Nat → Option hC} {D : Nat → Nat} {p : Nat} {S Q Q' : Int → Int} : hset (wl h D p S Q) p (ari 0 192 Q') = wl h D p S Q' := hset_hset
theorem X2_walk_L71_ev {g : Nat → Nat} {h : Nat → Option hC} {n w a p : Nat} {D : Nat → Nat} {z F : Int → Int} {K : Int32 → HM Int32} {v2 : Int32} {d i cell : Int} (hb : WB h a D p z F) (hf : mrg F) (hcell : cin cell) : ∀ (k nn : Nat) (S Q : Int → Int) (cnt y : Int), k < nn → 0 ≤ y → y + k = 4 → BJ (entD F 40) (expD F d) d S Q cnt i (wB cell y) → i < cnt → Q i = cell →
    ∃ (S' Q' : Int → Int) (cnt' : Int), fX2_walk_L71 g nn (some a) (some p) v2 (iv cnt) (iv cell) (iv y) K (wl h D p S Q, n, w) = K (iv cnt') (wl h D p S' Q', n, w) ∧ BJ (entD F 40) (expD F d) d S' Q' cnt' i (wB cell 4) ∧ i < cnt' ∧ Q' i = cell := by
  have hc := hcell
  unfold cin at hc
  intro k
  induction k with
  | zero =>
    intro nn S Q cnt y hn hy he hB hi hq
    obtain ⟨q, rfl⟩ : ∃ q, nn = q + 1 := ⟨nn - 1, by omega⟩
    have hy4 : y = 4 := by omega
    subst hy4
    refine ⟨S, Q, cnt, ?_, hB, hi, hq⟩
    simp (disch := omega) only [↓reduceIte, Int.reduceEq, Int.reduceNe, Int.reduceLT, Int.reduceLE, Int.reduceNeg, Int.reduceMod, Int.reduceDiv, Int.reduceAdd, Int.reduceSub, Int.reduceMul, not_true_eq_false, not_false_eq_true, Int.lt_irrefl, true_or, or_true, false_or, or_false, true_and, and_true, false_and, and_false, b2_T, b2_F, if_true, if_false, ↓mjn_b, ↓mjn0_b, ↓mjn2_b, iv_lit, iv_add, iv_sub, iv_mul, iv_neg, iv_le_t, iv_le_f, iv_lt_t, iv_lt_f, iv_eq_t, iv_eq_f, iv_div, iv_mod, mretT_p, mretT_b, e_mret, ↓e_bret, ↓m_mon, ↓m_oI0, m_pI0, ↓m_oI3, m_pI3, ↓m_oI5, m_pI5, ↓m_oI7, m_pI7, ↓m_oI11, m_pI11, ↓m_oI12, m_pI12, ↓m_oI13, m_pI13, ↓m_oI14, m_pI14, ↓m_oI15, m_pI15, ↓m_oI16, m_pI16, ↓m_oI17, m_pI17, m_pZ5, m_pZ12, ↓m_oR1, m_aI1, m_sI1, ↓m_oR2, m_aI2, m_sI2, ↓m_oR4, m_aI4, m_sI4, ↓m_oR6, m_aI6, m_sI6, ↓m_oR8, m_aI8, m_sI8, ↓m_oR9, m_aI9, m_sI9, ↓m_oR10, m_aI10, m_sI10, fX2_walk_L71]
  | succ k ih =>
    intro nn S Q cnt y hn hy he hB hi hq
    obtain ⟨q, rfl⟩ : ∃ q, nn = q + 1 := ⟨nn - 1, by omega⟩
    have ho := wl_O (S := S) (Q := Q) hb
    unfold SO at ho
    have hlen := BI_len hB.1
    have hi0 := hB.1.1
    have hy4 : 0 ≤ y ∧ y < 4 := by omega
    have hbr := bes_rg (y := y) hcell
    have r9c := BJ_rg hB hcell
    have eb := fun (K : Int32 → HM Int32) => X2_beside_c (g := g) (h := wl h D p S Q) (n := n) (w := w) (K := K) hcell hy4
    have ih' := fun (S Q : Int → Int) (cnt : Int) => ih q S Q cnt (y + 1) (by omega) (by omega) (by omega)
    by_cases hneg : bes cell y < 0
    · obtain ⟨S', Q', cnt', f1, f2⟩ := ih' S Q cnt ⟨BI_W hB.1 (fun c hc => wB_n hneg hc), hB.2⟩ hi hq
      refine ⟨S', Q', cnt', ?_, f2⟩
      rw [← f1]
      simp (disch := omega) only [↓reduceIte, Int.reduceEq, Int.reduceNe, Int.reduceLT, Int.reduceLE, Int.reduceNeg, Int.reduceMod, Int.reduceDiv, Int.reduceAdd, Int.reduceSub, Int.reduceMul, not_true_eq_false, not_false_eq_true, Int.lt_irrefl, true_or, or_true, false_or, or_false, true_and, and_true, false_and, and_false, b2_T, b2_F, if_true, if_false, ↓mjn_b, ↓mjn0_b, ↓mjn2_b, iv_lit, iv_add, iv_sub, iv_mul, iv_neg, iv_le_t, iv_le_f, iv_lt_t, iv_lt_f, iv_eq_t, iv_eq_f, iv_div, iv_mod, mretT_p, mretT_b, e_mret, ↓e_bret, ↓m_mon, ↓m_oI0, m_pI0, ↓m_oI3, m_pI3, ↓m_oI5, m_pI5, ↓m_oI7, m_pI7, ↓m_oI11, m_pI11, ↓m_oI12, m_pI12, ↓m_oI13, m_pI13, ↓m_oI14, m_pI14, ↓m_oI15, m_pI15, ↓m_oI16, m_pI16, ↓m_oI17, m_pI17, m_pZ5, m_pZ12, ↓m_oR1, m_aI1, m_sI1, ↓m_oR2, m_aI2, m_sI2, ↓m_oR4, m_aI4, m_sI4, ↓m_oR6, m_aI6, m_sI6, ↓m_oR8, m_aI8, m_sI8, ↓m_oR9, m_aI9, m_sI9, ↓m_oR10, m_aI10, m_sI10, fX2_walk_L71, ↓eb]
    · have hadj := bes_adj hcell hy4 (by omega)
      generalize hx : bes cell y = x at eb hneg hadj hbr
      have hwx : ∀ c, wB cell (y + 1) c → wB cell y c ∨ c = x := fun c hc => by rw [← hx]; exact wB_s hc
      have hnc : cin x := hadj.1
      have hcn := hnc
      unfold cin at hcn
      have r9 := BJ_rg hB hnc
      have r8 := hf x hnc
      have g9 := fun (K : Int32 → HM Int32) => c_aI (K := K) (n := n) (w := w) (i := x) (wl_S (S := S) (Q := Q) hb) (by decide) hcn
      have g9c := fun (K : Int32 → HM Int32) => c_aI (K := K) (n := n) (w := w) (i := cell) (wl_S (S := S) (Q := Q) hb) (by decide) hc
      have g8 := fun (K : Int32 → HM Int32) => c_aI (K := K) (n := n) (w := w) (i := x) (wl_F (S := S) (Q := Q) hb) (by decide) hcn
      by_cases hu : S x = -1
      · have hroom := BI_room hB.1 hnc hu
        have hnd : x ≠ d := fun e => by
          have := hB.1.2.2.1
          rw [← e] at this
          omega
        have s9 := fun (K : Unit → HM Int32) => c_sI (K := K) (n := n) (w := w) (i := x) (x := S cell + 1) (wl_S (S := S) (Q := Q) hb) (by decide) hcn
        rw [wl_wS hb] at s9
        have ho' := wl_O (S := iu S x (S cell + 1)) (Q := Q) hb
        unfold SO at ho'
        have g8' := fun (K : Int32 → HM Int32) => c_aI (K := K) (n := n) (w := w) (i := x) (wl_F (S := iu S x (S cell + 1)) (Q := Q) hb) (by decide) hcn
        by_cases h0 : F x = 0
        · have hm1 : 0 ≤ cnt ∧ cnt < ((192 : Nat) : Int) := by omega
          have s10 := fun (K : Unit → HM Int32) => c_sI (K := K) (n := n) (w := w) (i := cnt) (x := x) (wl_Q (h := h) (D := D) (p := p) (S := iu S x (S cell + 1)) (Q := Q)) (by decide) hm1
          rw [wl_wQ] at s10
          have ht := BJ_take (x := x) (Q' := iu Q cnt x) (m' := cnt + 1) (W' := wB cell (y + 1)) hB hi (by rw [hq]; exact hadj) (Or.inl h0) hu (fun j a b => iu_ne (by omega)) (Or.inl ⟨Or.inr h0, rfl, iu_at rfl⟩) hwx
          rw [hq] at ht
          obtain ⟨S', Q', cnt', f1, f2⟩ := ih' _ _ (cnt + 1) ht (by omega) (by rw [iu_ne (by omega)]; exact hq)
          refine ⟨S', Q', cnt', ?_, f2⟩
          rw [← f1]
          simp (disch := omega) only [↓reduceIte, Int.reduceEq, Int.reduceNe, Int.reduceLT, Int.reduceLE, Int.reduceNeg, Int.reduceMod, Int.reduceDiv, Int.reduceAdd, Int.reduceSub, Int.reduceMul, not_true_eq_false, not_false_eq_true, Int.lt_irrefl, true_or, or_true, false_or, or_false, true_and, and_true, false_and, and_false, b2_T, b2_F, if_true, if_false, ↓mjn_b, ↓mjn0_b, ↓mjn2_b, iv_lit, iv_add, iv_sub, iv_mul, iv_neg, iv_le_t, iv_le_f, iv_lt_t, iv_lt_f, iv_eq_t, iv_eq_f, iv_div, iv_mod, mretT_p, mretT_b, e_mret, ↓e_bret, ↓m_mon, ↓m_oI0, m_pI0, ↓m_oI3, m_pI3, ↓m_oI5, m_pI5, ↓m_oI7, m_pI7, ↓m_oI11, m_pI11, ↓m_oI12, m_pI12, ↓m_oI13, m_pI13, ↓m_oI14, m_pI14, ↓m_oI15, m_pI15, ↓m_oI16, m_pI16, ↓m_oI17, m_pI17, m_pZ5, m_pZ12, ↓m_oR1, m_aI1, m_sI1, ↓m_oR2, m_aI2, m_sI2, ↓m_oR4, m_aI4, m_sI4, ↓m_oR6, m_aI6, m_sI6, ↓m_oR8, m_aI8, m_sI8, ↓m_oR9, m_aI9, m_sI9, ↓m_oR10, m_aI10, m_sI10, fX2_walk_L71, ↓eb, ↓s_o8 ho, ↓s_o7 ho, ↓s_o7 ho', ↓g9, ↓g9c, ↓g8, ↓g8', ↓s9, ↓s10, hu, h0]
        · by_cases h40 : F x < 40
          · obtain ⟨S', Q', cnt', f1, f2⟩ := ih' S Q cnt (BJ_skip (x := x) hB hi (fun _ e => by
              exfalso
              unfold entD at e
              omega) hwx) hi hq
            refine ⟨S', Q', cnt', ?_, f2⟩
            rw [← f1]
            simp (disch := omega) only [↓reduceIte, Int.reduceEq, Int.reduceNe, Int.reduceLT, Int.reduceLE, Int.reduceNeg, Int.reduceMod, Int.reduceDiv, Int.reduceAdd, Int.reduceSub, Int.reduceMul, not_true_eq_false, not_false_eq_true, Int.lt_irrefl, true_or, or_true, false_or, or_false, true_and, and_true, false_and, and_false, b2_T, b2_F, if_true, if_false, ↓mjn_b, ↓mjn0_b, ↓mjn2_b, iv_lit, iv_add, iv_sub, iv_mul, iv_neg, iv_le_t, iv_le_f, iv_lt_t, iv_lt_f, iv_eq_t, iv_eq_f, iv_div, iv_mod, mretT_p, mretT_b, e_mret, ↓e_bret, ↓m_mon, ↓m_oI0, m_pI0, ↓m_oI3, m_pI3, ↓m_oI5, m_pI5, ↓m_oI7, m_pI7, ↓m_oI11, m_pI11, ↓m_oI12, m_pI12, ↓m_oI13, m_pI13, ↓m_oI14, m_pI14, ↓m_oI15, m_pI15, ↓m_oI16, m_pI16, ↓m_oI17, m_pI17, m_pZ5, m_pZ12, ↓m_oR1, m_aI1, m_sI1, ↓m_oR2, m_aI2, m_sI2, ↓m_oR4, m_aI4, m_sI4, ↓m_oR6, m_aI6, m_sI6, ↓m_oR8, m_aI8, m_sI8, ↓m_oR9, m_aI9, m_sI9, ↓m_oR10, m_aI10, m_sI10, fX2_walk_L71, ↓eb, ↓s_o8 ho, ↓s_o7 ho, ↓g9, ↓g8, hu]
          · have ht := BJ_take (x := x) (Q' := Q) (m' := cnt) (W' := wB cell (y + 1)) hB hi (by rw [hq]; exact hadj) (Or.inr (by omega)) hu (fun j a b => rfl) (Or.inr ⟨fun e => e.elim hnd h0, rfl⟩) hwx
            rw [hq] at ht
            obtain ⟨S', Q', cnt', f1, f2⟩ := ih' _ _ cnt ht hi hq
            refine ⟨S', Q', cnt', ?_, f2⟩
            rw [← f1]
            simp (disch := omega) only [↓reduceIte, Int.reduceEq, Int.reduceNe, Int.reduceLT, Int.reduceLE, Int.reduceNeg, Int.reduceMod, Int.reduceDiv, Int.reduceAdd, Int.reduceSub, Int.reduceMul, not_true_eq_false, not_false_eq_true, Int.lt_irrefl, true_or, or_true, false_or, or_false, true_and, and_true, false_and, and_false, b2_T, b2_F, if_true, if_false, ↓mjn_b, ↓mjn0_b, ↓mjn2_b, iv_lit, iv_add, iv_sub, iv_mul, iv_neg, iv_le_t, iv_le_f, iv_lt_t, iv_lt_f, iv_eq_t, iv_eq_f, iv_div, iv_mod, mretT_p, mretT_b, e_mret, ↓e_bret, ↓m_mon, ↓m_oI0, m_pI0, ↓m_oI3, m_pI3, ↓m_oI5, m_pI5, ↓m_oI7, m_pI7, ↓m_oI11, m_pI11, ↓m_oI12, m_pI12, ↓m_oI13, m_pI13, ↓m_oI14, m_pI14, ↓m_oI15, m_pI15, ↓m_oI16, m_pI16, ↓m_oI17, m_pI17, m_pZ5, m_pZ12, ↓m_oR1, m_aI1, m_sI1, ↓m_oR2, m_aI2, m_sI2, ↓m_oR4, m_aI4, m_sI4, ↓m_oR6, m_aI6, m_sI6, ↓m_oR8, m_aI8, m_sI8, ↓m_oR9, m_aI9, m_sI9, ↓m_oR10, m_aI10, m_sI10, fX2_walk_L71, ↓eb, ↓s_o8 ho, ↓s_o7 ho, ↓s_o7 ho', ↓g9, ↓g9c, ↓g8, ↓g8', ↓s9, hu]
      · obtain ⟨S', Q', cnt', f1, f2⟩ := ih' S Q cnt (BJ_skip hB hi (fun _ _ => by omega) hwx) hi hq
        refine ⟨S', Q', cnt', ?_, f2⟩
        rw [← f1]
        simp (disch := omega) only [↓reduceIte, Int.reduceEq, Int.reduceNe, Int.reduceLT, Int.reduceLE, Int.reduceNeg, Int.reduceMod, Int.reduceDiv, Int.reduceAdd, Int.reduceSub, Int.reduceMul, not_true_eq_false, not_false_eq_true, Int.lt_irrefl, true_or, or_true, false_or, or_false, true_and, and_true, false_and, and_false, b2_T, b2_F, if_true, if_false, ↓mjn_b, ↓mjn0_b, ↓mjn2_b, iv_lit, iv_add, iv_sub, iv_mul, iv_neg, iv_le_t, iv_le_f, iv_lt_t, iv_lt_f, iv_eq_t, iv_eq_f, iv_div, iv_mod, mretT_p, mretT_b, e_mret, ↓e_bret, ↓m_mon, ↓m_oI0, m_pI0, ↓m_oI3, m_pI3, ↓m_oI5, m_pI5, ↓m_oI7, m_pI7, ↓m_oI11, m_pI11, ↓m_oI12, m_pI12, ↓m_oI13, m_pI13, ↓m_oI14, m_pI14, ↓m_oI15, m_pI15, ↓m_oI16, m_pI16, ↓m_oI17, m_pI17, m_pZ5, m_pZ12, ↓m_oR1, m_aI1, m_sI1, ↓m_oR2, m_aI2, m_sI2, ↓m_oR4, m_aI4, m_sI4, ↓m_oR6, m_aI6, m_sI6, ↓m_oR8, m_aI8, m_sI8, ↓m_oR9, m_aI9, m_sI9, ↓m_oR10, m_aI10, m_sI10, fX2_walk_L71, ↓eb, ↓s_o8 ho, ↓g9]
theorem X2_walk_L55_ev {g : Nat → Nat} {h : Nat → Option hC} {n w a p : Nat} {D : Nat → Nat} {z F : Int → Int} {K : HM Int32} {d : Int} (hb : WB h a D p z F) (hf : mrg F) : ∀ (k nn : Nat) (S Q : Int → Int) (cnt i : Int), k < nn → i + k = 192 → BJ (entD F 40) (expD F d) d S Q cnt i (fun _ => False) →
    ∃ (S' Q' : Int → Int), fX2_walk_L55 g nn (some a) (some p) (iv i) (iv cnt) K (wl h D p S Q, n, w) = K (wl h D p S' Q', n, w) ∧ ∀ c, cin c → dst (entD F 40) (expD F d) d (S' c) c ∧ -1 ≤ S' c ∧ S' c ≤ 193 := by
  intro k
  induction k with
  | zero =>
    intro nn S Q cnt i hn he hB
    obtain ⟨q, rfl⟩ : ∃ q, nn = q + 1 := ⟨nn - 1, by omega⟩
    have hlen := BI_len hB.1
    have hi0 := hB.1.1
    refine ⟨S, Q, ?_, fun c hc => ⟨BI_all hB.1 (by omega) hc, BJ_rg hB hc⟩⟩
    simp (disch := omega) only [↓reduceIte, Int.reduceEq, Int.reduceNe, Int.reduceLT, Int.reduceLE, Int.reduceNeg, Int.reduceMod, Int.reduceDiv, Int.reduceAdd, Int.reduceSub, Int.reduceMul, not_true_eq_false, not_false_eq_true, Int.lt_irrefl, true_or, or_true, false_or, or_false, true_and, and_true, false_and, and_false, b2_T, b2_F, if_true, if_false, ↓mjn_b, ↓mjn0_b, ↓mjn2_b, iv_lit, iv_add, iv_sub, iv_mul, iv_neg, iv_le_t, iv_le_f, iv_lt_t, iv_lt_f, iv_eq_t, iv_eq_f, iv_div, iv_mod, mretT_p, mretT_b, e_mret, ↓e_bret, ↓m_mon, ↓m_oI0, m_pI0, ↓m_oI3, m_pI3, ↓m_oI5, m_pI5, ↓m_oI7, m_pI7, ↓m_oI11, m_pI11, ↓m_oI12, m_pI12, ↓m_oI13, m_pI13, ↓m_oI14, m_pI14, ↓m_oI15, m_pI15, ↓m_oI16, m_pI16, ↓m_oI17, m_pI17, m_pZ5, m_pZ12, ↓m_oR1, m_aI1, m_sI1, ↓m_oR2, m_aI2, m_sI2, ↓m_oR4, m_aI4, m_sI4, ↓m_oR6, m_aI6, m_sI6, ↓m_oR8, m_aI8, m_sI8, ↓m_oR9, m_aI9, m_sI9, ↓m_oR10, m_aI10, m_sI10, fX2_walk_L55]
  | succ k ih =>
    intro nn S Q cnt i hn he hB
    obtain ⟨q, rfl⟩ : ∃ q, nn = q + 1 := ⟨nn - 1, by omega⟩
    have hlen := BI_len hB.1
    have hi0 := hB.1.1
    by_cases hi : i < cnt
    · have hcell := (hB.1.2.2.2.2.1 i hi0.1 hi).1
      have hi2 : 0 ≤ i ∧ i < ((192 : Nat) : Int) := by omega
      have gq := fun (K : Int32 → HM Int32) => c_aI (K := K) (n := n) (w := w) (i := i) (wl_Q (h := h) (D := D) (p := p) (S := S) (Q := Q)) (by decide) hi2
      have e71 := fun (K : Int32 → HM Int32) => X2_walk_L71_ev (g := g) (n := n) (w := w) (K := K) (v2 := iv (i + 1)) (i := i) hb hf hcell 4 5000 S Q cnt 0 (by omega) (by omega) (by omega) ⟨BI_W hB.1 (fun c hc => by obtain ⟨-, w', a', -⟩ := hc; omega), hB.2⟩ hi rfl
      obtain ⟨S1, Q1, cnt1, f1, f2, f3, f4⟩ := e71 (fun x21 => fX2_walk_L55 g q (some a) (some p) (iv (i + 1)) x21 K)
      have hB2 := BJ_next f2 f3 (fun c hc => by
        rw [f4] at hc
        obtain ⟨y, hy, e⟩ := adj_bes hc
        exact ⟨hc.1.1, y, hy, e⟩)
      obtain ⟨S', Q', k1, k2⟩ := ih q S1 Q1 cnt1 (i + 1) (by omega) (by omega) hB2
      refine ⟨S', Q', ?_, k2⟩
      rw [← k1, ← f1]
      simp (disch := omega) only [↓reduceIte, Int.reduceEq, Int.reduceNe, Int.reduceLT, Int.reduceLE, Int.reduceNeg, Int.reduceMod, Int.reduceDiv, Int.reduceAdd, Int.reduceSub, Int.reduceMul, not_true_eq_false, not_false_eq_true, Int.lt_irrefl, true_or, or_true, false_or, or_false, true_and, and_true, false_and, and_false, b2_T, b2_F, if_true, if_false, ↓mjn_b, ↓mjn0_b, ↓mjn2_b, iv_lit, iv_add, iv_sub, iv_mul, iv_neg, iv_le_t, iv_le_f, iv_lt_t, iv_lt_f, iv_eq_t, iv_eq_f, iv_div, iv_mod, mretT_p, mretT_b, e_mret, ↓e_bret, ↓m_mon, ↓m_oI0, m_pI0, ↓m_oI3, m_pI3, ↓m_oI5, m_pI5, ↓m_oI7, m_pI7, ↓m_oI11, m_pI11, ↓m_oI12, m_pI12, ↓m_oI13, m_pI13, ↓m_oI14, m_pI14, ↓m_oI15, m_pI15, ↓m_oI16, m_pI16, ↓m_oI17, m_pI17, m_pZ5, m_pZ12, ↓m_oR1, m_aI1, m_sI1, ↓m_oR2, m_aI2, m_sI2, ↓m_oR4, m_aI4, m_sI4, ↓m_oR6, m_aI6, m_sI6, ↓m_oR8, m_aI8, m_sI8, ↓m_oR9, m_aI9, m_sI9, ↓m_oR10, m_aI10, m_sI10, fX2_walk_L55, ↓gq]
    · refine ⟨S, Q, ?_, fun c hc => ⟨BI_all hB.1 hi hc, BJ_rg hB hc⟩⟩
      simp (disch := omega) only [↓reduceIte, Int.reduceEq, Int.reduceNe, Int.reduceLT, Int.reduceLE, Int.reduceNeg, Int.reduceMod, Int.reduceDiv, Int.reduceAdd, Int.reduceSub, Int.reduceMul, not_true_eq_false, not_false_eq_true, Int.lt_irrefl, true_or, or_true, false_or, or_false, true_and, and_true, false_and, and_false, b2_T, b2_F, if_true, if_false, ↓mjn_b, ↓mjn0_b, ↓mjn2_b, iv_lit, iv_add, iv_sub, iv_mul, iv_neg, iv_le_t, iv_le_f, iv_lt_t, iv_lt_f, iv_eq_t, iv_eq_f, iv_div, iv_mod, mretT_p, mretT_b, e_mret, ↓e_bret, ↓m_mon, ↓m_oI0, m_pI0, ↓m_oI3, m_pI3, ↓m_oI5, m_pI5, ↓m_oI7, m_pI7, ↓m_oI11, m_pI11, ↓m_oI12, m_pI12, ↓m_oI13, m_pI13, ↓m_oI14, m_pI14, ↓m_oI15, m_pI15, ↓m_oI16, m_pI16, ↓m_oI17, m_pI17, m_pZ5, m_pZ12, ↓m_oR1, m_aI1, m_sI1, ↓m_oR2, m_aI2, m_sI2, ↓m_oR4, m_aI4, m_sI4, ↓m_oR6, m_aI6, m_sI6, ↓m_oR8, m_aI8, m_sI8, ↓m_oR9, m_aI9, m_sI9, ↓m_oR10, m_aI10, m_sI10, fX2_walk_L55]
theorem X2_walk_L13_ev {g : Nat → Nat} {h : Nat → Option hC} {n w a p : Nat} {D : Nat → Nat} {z F : Int → Int} {K : HM Int32} {v2 v3 : Int32} (hb : WB h a D p z F) : ∀ (k nn : Nat) (S Q : Int → Int) (i : Int), k < nn → 0 ≤ i → i + k = 192 → (∀ c, 0 ≤ c → c < i → S c = -1) →
    ∃ (S' : Int → Int), fX2_walk_L13 g nn (some a) (some p) v2 v3 (iv i) K (wl h D p S Q, n, w) = K (wl h D p S' Q, n, w) ∧ ∀ c, cin c → S' c = -1 := by
  intro k
  induction k with
  | zero =>
    intro nn S Q i hn hi he hS
    obtain ⟨q, rfl⟩ : ∃ q, nn = q + 1 := ⟨nn - 1, by omega⟩
    refine ⟨S, ?_, fun c hc => hS c hc.1 (by unfold cin at hc; omega)⟩
    simp (disch := omega) only [↓reduceIte, Int.reduceEq, Int.reduceNe, Int.reduceLT, Int.reduceLE, Int.reduceNeg, Int.reduceMod, Int.reduceDiv, Int.reduceAdd, Int.reduceSub, Int.reduceMul, not_true_eq_false, not_false_eq_true, Int.lt_irrefl, true_or, or_true, false_or, or_false, true_and, and_true, false_and, and_false, b2_T, b2_F, if_true, if_false, ↓mjn_b, ↓mjn0_b, ↓mjn2_b, iv_lit, iv_add, iv_sub, iv_mul, iv_neg, iv_le_t, iv_le_f, iv_lt_t, iv_lt_f, iv_eq_t, iv_eq_f, iv_div, iv_mod, mretT_p, mretT_b, e_mret, ↓e_bret, ↓m_mon, ↓m_oI0, m_pI0, ↓m_oI3, m_pI3, ↓m_oI5, m_pI5, ↓m_oI7, m_pI7, ↓m_oI11, m_pI11, ↓m_oI12, m_pI12, ↓m_oI13, m_pI13, ↓m_oI14, m_pI14, ↓m_oI15, m_pI15, ↓m_oI16, m_pI16, ↓m_oI17, m_pI17, m_pZ5, m_pZ12, ↓m_oR1, m_aI1, m_sI1, ↓m_oR2, m_aI2, m_sI2, ↓m_oR4, m_aI4, m_sI4, ↓m_oR6, m_aI6, m_sI6, ↓m_oR8, m_aI8, m_sI8, ↓m_oR9, m_aI9, m_sI9, ↓m_oR10, m_aI10, m_sI10, fX2_walk_L13]
  | succ k ih =>
    intro nn S Q i hn hi he hS
    obtain ⟨q, rfl⟩ : ∃ q, nn = q + 1 := ⟨nn - 1, by omega⟩
    have hi2 : 0 ≤ i ∧ i < ((192 : Nat) : Int) := by omega
    obtain ⟨S', e1, e2⟩ := ih q (iu S i (-1)) Q (i + 1) (by omega) (by omega) (by omega) (fun c u v => by
      by_cases e : c = i
      · rw [iu_at e]
      · rw [iu_ne e]; exact hS c u (by omega))
    have ho := wl_O (S := S) (Q := Q) hb
    unfold SO at ho
    have s9 := fun (K : Unit → HM Int32) => c_sI (K := K) (n := n) (w := w) (i := i) (x := -1) (wl_S (S := S) (Q := Q) hb) (by decide) hi2
    rw [wl_wS hb] at s9
    refine ⟨S', ?_, e2⟩
    rw [← e1]
    simp (disch := omega) only [↓reduceIte, Int.reduceEq, Int.reduceNe, Int.reduceLT, Int.reduceLE, Int.reduceNeg, Int.reduceMod, Int.reduceDiv, Int.reduceAdd, Int.reduceSub, Int.reduceMul, not_true_eq_false, not_false_eq_true, Int.lt_irrefl, true_or, or_true, false_or, or_false, true_and, and_true, false_and, and_false, b2_T, b2_F, if_true, if_false, ↓mjn_b, ↓mjn0_b, ↓mjn2_b, iv_lit, iv_add, iv_sub, iv_mul, iv_neg, iv_le_t, iv_le_f, iv_lt_t, iv_lt_f, iv_eq_t, iv_eq_f, iv_div, iv_mod, mretT_p, mretT_b, e_mret, ↓e_bret, ↓m_mon, ↓m_oI0, m_pI0, ↓m_oI3, m_pI3, ↓m_oI5, m_pI5, ↓m_oI7, m_pI7, ↓m_oI11, m_pI11, ↓m_oI12, m_pI12, ↓m_oI13, m_pI13, ↓m_oI14, m_pI14, ↓m_oI15, m_pI15, ↓m_oI16, m_pI16, ↓m_oI17, m_pI17, m_pZ5, m_pZ12, ↓m_oR1, m_aI1, m_sI1, ↓m_oR2, m_aI2, m_sI2, ↓m_oR4, m_aI4, m_sI4, ↓m_oR6, m_aI6, m_sI6, ↓m_oR8, m_aI8, m_sI8, ↓m_oR9, m_aI9, m_sI9, ↓m_oR10, m_aI10, m_sI10, fX2_walk_L13, ↓s_o8 ho, ↓s9]
theorem X2_walk_L173_ev {g : Nat → Nat} {h : Nat → Option hC} {n w a p : Nat} {D : Nat → Nat} {z F S Q : Int → Int} (hb : WB h a D p z F) (hf : mrg F) (hS : ∀ c, cin c → -1 ≤ S c ∧ S c ≤ 193) : ∀ (k nn : Nat) (r : Prop) (i : Int), k < nn → 0 ≤ i → i + k = 192 →
    fX2_walk_L173 g nn (some a) (iv (b2 r)) (iv i) (wl h D p S Q, n, w) = some (iv (b2 (r ∧ ∀ c, i ≤ c → c < 192 → (F c < 40 ∨ S c ≠ -1))), (wl h D p S Q, n, w)) := by
  have ho := wl_O (S := S) (Q := Q) hb
  unfold SO at ho
  intro k
  induction k with
  | zero =>
    intro nn r i hn hi he
    obtain ⟨q, rfl⟩ : ∃ q, nn = q + 1 := ⟨nn - 1, by omega⟩
    rw [show b2 (r ∧ ∀ c, i ≤ c → c < 192 → (F c < 40 ∨ S c ≠ -1)) = b2 r from b2_c ⟨fun q => q.1, fun q => ⟨q, fun c u v => by omega⟩⟩]
    simp (disch := omega) only [↓reduceIte, Int.reduceEq, Int.reduceNe, Int.reduceLT, Int.reduceLE, Int.reduceNeg, Int.reduceMod, Int.reduceDiv, Int.reduceAdd, Int.reduceSub, Int.reduceMul, not_true_eq_false, not_false_eq_true, Int.lt_irrefl, true_or, or_true, false_or, or_false, true_and, and_true, false_and, and_false, b2_T, b2_F, if_true, if_false, ↓mjn_b, ↓mjn0_b, ↓mjn2_b, iv_lit, iv_add, iv_sub, iv_mul, iv_neg, iv_le_t, iv_le_f, iv_lt_t, iv_lt_f, iv_eq_t, iv_eq_f, iv_div, iv_mod, mretT_p, mretT_b, e_mret, ↓e_bret, ↓m_mon, ↓m_oI0, m_pI0, ↓m_oI3, m_pI3, ↓m_oI5, m_pI5, ↓m_oI7, m_pI7, ↓m_oI11, m_pI11, ↓m_oI12, m_pI12, ↓m_oI13, m_pI13, ↓m_oI14, m_pI14, ↓m_oI15, m_pI15, ↓m_oI16, m_pI16, ↓m_oI17, m_pI17, m_pZ5, m_pZ12, ↓m_oR1, m_aI1, m_sI1, ↓m_oR2, m_aI2, m_sI2, ↓m_oR4, m_aI4, m_sI4, ↓m_oR6, m_aI6, m_sI6, ↓m_oR8, m_aI8, m_sI8, ↓m_oR9, m_aI9, m_sI9, ↓m_oR10, m_aI10, m_sI10, fX2_walk_L173]
  | succ k ih =>
    intro nn r i hn hi he
    obtain ⟨q, rfl⟩ : ∃ q, nn = q + 1 := ⟨nn - 1, by omega⟩
    have hi2 : 0 ≤ i ∧ i < ((192 : Nat) : Int) := by omega
    have hci : cin i := by unfold cin; omega
    have r8 := hf i hci
    have r9 := hS i hci
    have g9 := fun (K : Int32 → HM Int32) => c_aI (K := K) (n := n) (w := w) (i := i) (wl_S (S := S) (Q := Q) hb) (by decide) hi2
    have g8 := fun (K : Int32 → HM Int32) => c_aI (K := K) (n := n) (w := w) (i := i) (wl_F (S := S) (Q := Q) hb) (by decide) hi2
    have hb1 : (iv 1 : Int32) = iv (b2 True) := by rw [b2_T]
    have hb0 : (iv 0 : Int32) = iv (b2 False) := by rw [b2_F]
    have hst : ∀ s : Prop, (s ↔ (F i < 40 ∨ S i ≠ -1)) → b2 ((r ∧ s) ∧ ∀ c, i + 1 ≤ c → c < 192 → (F c < 40 ∨ S c ≠ -1)) = b2 (r ∧ ∀ c, i ≤ c → c < 192 → (F c < 40 ∨ S c ≠ -1)) := fun s hs => b2_c ⟨fun q => ⟨q.1.1, fun c u v => by
      by_cases e : c = i
      · rw [e]; exact hs.1 q.1.2
      · exact q.2 c (by omega) v⟩, fun q => ⟨⟨q.1, hs.2 (q.2 i (by omega) (by omega))⟩, fun c u v => q.2 c (by omega) v⟩⟩
    by_cases h40 : F i < 40
    · rw [← hst True ⟨fun _ => Or.inl h40, fun _ => trivial⟩, ← ih q (r ∧ True) (i + 1) (by omega) (by omega) (by omega), ← iv_and2, b2_T]
      simp (disch := omega) only [↓reduceIte, Int.reduceEq, Int.reduceNe, Int.reduceLT, Int.reduceLE, Int.reduceNeg, Int.reduceMod, Int.reduceDiv, Int.reduceAdd, Int.reduceSub, Int.reduceMul, not_true_eq_false, not_false_eq_true, Int.lt_irrefl, true_or, or_true, false_or, or_false, true_and, and_true, false_and, and_false, b2_T, b2_F, if_true, if_false, ↓mjn_b, ↓mjn0_b, ↓mjn2_b, iv_lit, iv_add, iv_sub, iv_mul, iv_neg, iv_le_t, iv_le_f, iv_lt_t, iv_lt_f, iv_eq_t, iv_eq_f, iv_div, iv_mod, mretT_p, mretT_b, e_mret, ↓e_bret, ↓m_mon, ↓m_oI0, m_pI0, ↓m_oI3, m_pI3, ↓m_oI5, m_pI5, ↓m_oI7, m_pI7, ↓m_oI11, m_pI11, ↓m_oI12, m_pI12, ↓m_oI13, m_pI13, ↓m_oI14, m_pI14, ↓m_oI15, m_pI15, ↓m_oI16, m_pI16, ↓m_oI17, m_pI17, m_pZ5, m_pZ12, ↓m_oR1, m_aI1, m_sI1, ↓m_oR2, m_aI2, m_sI2, ↓m_oR4, m_aI4, m_sI4, ↓m_oR6, m_aI6, m_sI6, ↓m_oR8, m_aI8, m_sI8, ↓m_oR9, m_aI9, m_sI9, ↓m_oR10, m_aI10, m_sI10, fX2_walk_L173, ↓s_o7 ho, ↓g8]
    · by_cases h1 : S i = -1
      · rw [← hst False ⟨fun q => q.elim, fun q => q.elim h40 (fun w => w h1)⟩, ← ih q (r ∧ False) (i + 1) (by omega) (by omega) (by omega), ← iv_and2, b2_F]
        simp (disch := omega) only [↓reduceIte, Int.reduceEq, Int.reduceNe, Int.reduceLT, Int.reduceLE, Int.reduceNeg, Int.reduceMod, Int.reduceDiv, Int.reduceAdd, Int.reduceSub, Int.reduceMul, not_true_eq_false, not_false_eq_true, Int.lt_irrefl, true_or, or_true, false_or, or_false, true_and, and_true, false_and, and_false, b2_T, b2_F, if_true, if_false, ↓mjn_b, ↓mjn0_b, ↓mjn2_b, iv_lit, iv_add, iv_sub, iv_mul, iv_neg, iv_le_t, iv_le_f, iv_lt_t, iv_lt_f, iv_eq_t, iv_eq_f, iv_div, iv_mod, mretT_p, mretT_b, e_mret, ↓e_bret, ↓m_mon, ↓m_oI0, m_pI0, ↓m_oI3, m_pI3, ↓m_oI5, m_pI5, ↓m_oI7, m_pI7, ↓m_oI11, m_pI11, ↓m_oI12, m_pI12, ↓m_oI13, m_pI13, ↓m_oI14, m_pI14, ↓m_oI15, m_pI15, ↓m_oI16, m_pI16, ↓m_oI17, m_pI17, m_pZ5, m_pZ12, ↓m_oR1, m_aI1, m_sI1, ↓m_oR2, m_aI2, m_sI2, ↓m_oR4, m_aI4, m_sI4, ↓m_oR6, m_aI6, m_sI6, ↓m_oR8, m_aI8, m_sI8, ↓m_oR9, m_aI9, m_sI9, ↓m_oR10, m_aI10, m_sI10, fX2_walk_L173, ↓s_o7 ho, ↓s_o8 ho, ↓g8, ↓g9, h1]
      · rw [← hst True ⟨fun _ => Or.inr h1, fun _ => trivial⟩, ← ih q (r ∧ True) (i + 1) (by omega) (by omega) (by omega), ← iv_and2, b2_T]
        simp (disch := omega) only [↓reduceIte, Int.reduceEq, Int.reduceNe, Int.reduceLT, Int.reduceLE, Int.reduceNeg, Int.reduceMod, Int.reduceDiv, Int.reduceAdd, Int.reduceSub, Int.reduceMul, not_true_eq_false, not_false_eq_true, Int.lt_irrefl, true_or, or_true, false_or, or_false, true_and, and_true, false_and, and_false, b2_T, b2_F, if_true, if_false, ↓mjn_b, ↓mjn0_b, ↓mjn2_b, iv_lit, iv_add, iv_sub, iv_mul, iv_neg, iv_le_t, iv_le_f, iv_lt_t, iv_lt_f, iv_eq_t, iv_eq_f, iv_div, iv_mod, mretT_p, mretT_b, e_mret, ↓e_bret, ↓m_mon, ↓m_oI0, m_pI0, ↓m_oI3, m_pI3, ↓m_oI5, m_pI5, ↓m_oI7, m_pI7, ↓m_oI11, m_pI11, ↓m_oI12, m_pI12, ↓m_oI13, m_pI13, ↓m_oI14, m_pI14, ↓m_oI15, m_pI15, ↓m_oI16, m_pI16, ↓m_oI17, m_pI17, m_pZ5, m_pZ12, ↓m_oR1, m_aI1, m_sI1, ↓m_oR2, m_aI2, m_sI2, ↓m_oR4, m_aI4, m_sI4, ↓m_oR6, m_aI6, m_sI6, ↓m_oR8, m_aI8, m_sI8, ↓m_oR9, m_aI9, m_sI9, ↓m_oR10, m_aI10, m_sI10, fX2_walk_L173, ↓s_o7 ho, ↓s_o8 ho, ↓g8, ↓g9, h1]
