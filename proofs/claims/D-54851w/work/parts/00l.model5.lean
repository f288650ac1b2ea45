/-! ===== the model: guests, widths, lines ===== -/
theorem wZ_H {z : Int → Int} (h : wZ z) : wH z := h.1
theorem wZ_15 {z : Int → Int} (h : wZ z) : 0 ≤ z 15 ∧ z 15 ≤ 10 := ⟨h.1.2.2.2.2.1.1, h.2.1⟩
theorem wZ_60 {z : Int → Int} (h : wZ z) : 0 ≤ z 60 ∧ z 60 ≤ 30 := h.2.2.1
theorem wZ_g {z : Int → Int} (h : wZ z) {g : Int} (hg : 0 ≤ g ∧ g < z 60) : wG z g := h.2.2.2.1 g hg.1 hg.2
theorem wZ_t {z : Int → Int} (h : wZ z) {t : Int} (ht : 0 ≤ t ∧ t < z 15) : wT z t := wT_of h.1 ht
theorem wZ_graw {z : Int → Int} (h : wZ z) {g : Int} (hg : 0 ≤ g ∧ g < z 60) : (1 ≤ z (61 + 18 * g + 0) ∧ z (61 + 18 * g + 0) ≤ 9) ∧ (-1 ≤ z (61 + 18 * g + 1) ∧ z (61 + 18 * g + 1) ≤ 9) ∧ (-1 ≤ z (61 + 18 * g + 2) ∧ z (61 + 18 * g + 2) ≤ 7) ∧ (1 ≤ z (61 + 18 * g + 3) ∧ z (61 + 18 * g + 3) ≤ 14) := wG_raw (wZ_g h hg) h.2.1
theorem wZ_traw {z : Int → Int} (h : wZ z) {t : Int} (ht : 0 ≤ t ∧ t < z 15) : (0 ≤ z (16 + 4 * t + 0) ∧ z (16 + 4 * t + 0) ≤ 2) ∧ (0 ≤ z (16 + 4 * t + 1) ∧ z (16 + 4 * t + 1) < 192) ∧ (0 ≤ z (16 + 4 * t + 2) ∧ z (16 + 4 * t + 2) ≤ 3) ∧ (0 ≤ z (16 + 4 * t + 3) ∧ z (16 + 4 * t + 3) ≤ 9) := wT_raw (wZ_t h ht)
theorem sits_at {z : Int → Int} (h : wZ z) {g : Int} (hg : 0 ≤ g ∧ g < z 60) (hs : sits z g) : (0 ≤ ga z g ∧ ga z g < z 15) ∧ 0 ≤ gc z g ∧ gc z g < chN (zk z (ga z g)) := by
  rcases (wZ_g h hg).2.1 with q | q
  · exact absurd q.1 hs
  · exact q
theorem cgl_cin {z : Int → Int} (h : wZ z) {g : Int} (hg : 0 ≤ g ∧ g < z 60) (hs : sits z g) : cin (cgl z g) := by
  obtain ⟨h1, h2⟩ := sits_at h hg hs
  exact chT_cin ((pck_0i h.2.2.2.2.2.2).1 _ h1.1 h1.2) h2

theorem X7_sits_b {β : Type} {K : Int32 → HM β} {g : Nat → Nat} {h : Nat → Option hC} {n w m : Nat} {M : Mm} {i : Int} (hz : wZ (M 1)) (hi : 0 ≤ i ∧ i < M 1 60) : mb (mcall0 (fX7_sits g (some m) (iv i))) K (md m M h, n, w) = K (iv (b2 (sits (M 1) i))) (md m M h, n, w) := by
  have h60 := wZ_60 hz
  have hg := wZ_graw hz hi
  exact X7_sits_c (by omega) (by omega)
theorem X7_sitters_L4_ev {g : Nat → Nat} {h : Nat → Option hC} {n w : Nat} {m : Nat} {M : Mm} {t : Int} (hz : wZ (M 1)) (ht : -1 ≤ t ∧ t ≤ 10) : ∀ (k nn : Nat) (a i : Int), k < nn → 0 ≤ i → i + k = M 1 60 → fX7_sitters_L4 g nn (some m) (iv t) (iv a) (iv i) (md m M h, n, w) = some (iv (foldI (fun a j => if ga (M 1) j = t then a + 1 else a) a i k), (md m M h, n, w)) := by
  intro k
  induction k with
  | zero =>
    intro nn a i hn hi he 
    obtain ⟨q, rfl⟩ : ∃ q, nn = q + 1 := ⟨nn - 1, by omega⟩
    have h60 := wZ_60 hz
    simp (disch := omega) only [↓reduceIte, Int.reduceEq, Int.reduceNe, Int.reduceLT, Int.reduceLE, Int.reduceNeg, Int.reduceMod, Int.reduceDiv, Int.reduceAdd, Int.reduceSub, Int.reduceMul, not_true_eq_false, not_false_eq_true, true_or, or_true, false_or, or_false, true_and, and_true, false_and, and_false, b2_T, b2_F, if_true, if_false, ↓mjn_b, ↓mjn0_b, ↓mjn2_b, iv_lit, iv_add, iv_sub, iv_mul, iv_neg, iv_le_t, iv_le_f, iv_lt_t, iv_lt_f, iv_eq_t, iv_eq_f, iv_div, iv_mod, mretT_p, mretT_b, e_mret, ↓e_bret, ↓m_mon, ↓m_oI0, m_pI0, ↓m_oI3, m_pI3, ↓m_oI5, m_pI5, ↓m_oI7, m_pI7, ↓m_oI11, m_pI11, ↓m_oI12, m_pI12, ↓m_oI13, m_pI13, ↓m_oI14, m_pI14, ↓m_oI15, m_pI15, ↓m_oI16, m_pI16, ↓m_oI17, m_pI17, m_pZ5, m_pZ12, ↓m_oR1, m_aI1, m_sI1, ↓m_oR2, m_aI2, m_sI2, ↓m_oR4, m_aI4, m_sI4, ↓m_oR6, m_aI6, m_sI6, ↓m_oR8, m_aI8, m_sI8, ↓m_oR9, m_aI9, m_sI9, ↓m_oR10, m_aI10, m_sI10, fX7_sitters_L4, foldI, X7_guest_c, ga, Int.add_zero]
  | succ k ih =>
    intro nn a i hn hi he 
    obtain ⟨q, rfl⟩ : ∃ q, nn = q + 1 := ⟨nn - 1, by omega⟩
    have h60 := wZ_60 hz
    have hg := wZ_graw hz (g := i) (by omega)
    by_cases h1 : M 1 (61 + 18 * i + 1) = t
    · simp (disch := omega) only [↓reduceIte, Int.reduceEq, Int.reduceNe, Int.reduceLT, Int.reduceLE, Int.reduceNeg, Int.reduceMod, Int.reduceDiv, Int.reduceAdd, Int.reduceSub, Int.reduceMul, not_true_eq_false, not_false_eq_true, true_or, or_true, false_or, or_false, true_and, and_true, false_and, and_false, b2_T, b2_F, if_true, if_false, ↓mjn_b, ↓mjn0_b, ↓mjn2_b, iv_lit, iv_add, iv_sub, iv_mul, iv_neg, iv_le_t, iv_le_f, iv_lt_t, iv_lt_f, iv_eq_t, iv_eq_f, iv_div, iv_mod, mretT_p, mretT_b, e_mret, ↓e_bret, ↓m_mon, ↓m_oI0, m_pI0, ↓m_oI3, m_pI3, ↓m_oI5, m_pI5, ↓m_oI7, m_pI7, ↓m_oI11, m_pI11, ↓m_oI12, m_pI12, ↓m_oI13, m_pI13, ↓m_oI14, m_pI14, ↓m_oI15, m_pI15, ↓m_oI16, m_pI16, ↓m_oI17, m_pI17, m_pZ5, m_pZ12, ↓m_oR1, m_aI1, m_sI1, ↓m_oR2, m_aI2, m_sI2, ↓m_oR4, m_aI4, m_sI4, ↓m_oR6, m_aI6, m_sI6, ↓m_oR8, m_aI8, m_sI8, ↓m_oR9, m_aI9, m_sI9, ↓m_oR10, m_aI10, m_sI10, fX7_sitters_L4, foldI, ih, X7_guest_c, ga, Int.add_zero, h1]
    · simp (disch := omega) only [↓reduceIte, Int.reduceEq, Int.reduceNe, Int.reduceLT, Int.reduceLE, Int.reduceNeg, Int.reduceMod, Int.reduceDiv, Int.reduceAdd, Int.reduceSub, Int.reduceMul, not_true_eq_false, not_false_eq_true, true_or, or_true, false_or, or_false, true_and, and_true, false_and, and_false, b2_T, b2_F, if_true, if_false, ↓mjn_b, ↓mjn0_b, ↓mjn2_b, iv_lit, iv_add, iv_sub, iv_mul, iv_neg, iv_le_t, iv_le_f, iv_lt_t, iv_lt_f, iv_eq_t, iv_eq_f, iv_div, iv_mod, mretT_p, mretT_b, e_mret, ↓e_bret, ↓m_mon, ↓m_oI0, m_pI0, ↓m_oI3, m_pI3, ↓m_oI5, m_pI5, ↓m_oI7, m_pI7, ↓m_oI11, m_pI11, ↓m_oI12, m_pI12, ↓m_oI13, m_pI13, ↓m_oI14, m_pI14, ↓m_oI15, m_pI15, ↓m_oI16, m_pI16, ↓m_oI17, m_pI17, m_pZ5, m_pZ12, ↓m_oR1, m_aI1, m_sI1, ↓m_oR2, m_aI2, m_sI2, ↓m_oR4, m_aI4, m_sI4, ↓m_oR6, m_aI6, m_sI6, ↓m_oR8, m_aI8, m_sI8, ↓m_oR9, m_aI9, m_sI9, ↓m_oR10, m_aI10, m_sI10, fX7_sitters_L4, foldI, ih, X7_guest_c, ga, Int.add_zero, h1]
theorem X7_sitters_ev {g : Nat → Nat} {h : Nat → Option hC} {n w : Nat} {m : Nat} {M : Mm} {t : Int} (hz : wZ (M 1)) (ht : -1 ≤ t ∧ t ≤ 10) : fX7_sitters g (some m) (iv t) (md m M h, n, w) = some (iv (sttr (M 1) t), (md m M h, n, w)) := by
  have h60 := wZ_60 hz
  unfold fX7_sitters sttr
  simp only [iv_lit, iv_neg, Int.reduceNeg]
  exact X7_sitters_L4_ev hz ht (M 1 60).toNat 5000 0 0 (by omega) (by omega) (by omega)
theorem X7_sitters_c {β : Type} {K : Int32 → HM β} {g : Nat → Nat} {h : Nat → Option hC} {n w : Nat} {m : Nat} {M : Mm} {t : Int} (hz : wZ (M 1)) (ht : -1 ≤ t ∧ t ≤ 10) : mb (mcall0 (fX7_sitters g (some m) (iv t))) K (md m M h, n, w) = K (iv (sttr (M 1) t)) (md m M h, n, w) := e_call0 (X7_sitters_ev hz ht)
theorem X7_sitter_L5_ev {g : Nat → Nat} {h : Nat → Option hC} {n w : Nat} {m : Nat} {M : Mm} {t c : Int} (hz : wZ (M 1)) (ht : -1 ≤ t ∧ t ≤ 10) (hc : -1 ≤ c ∧ c ≤ 8) : ∀ (k nn : Nat) (a i : Int), k < nn → 0 ≤ i → i + k = M 1 60 → fX7_sitter_L5 g nn (some m) (iv t) (iv c) (iv a) (iv i) (md m M h, n, w) = some (iv (foldI (fun a j => @ite Int (ga (M 1) j = t ∧ gc (M 1) j = c) (Classical.propDecidable _) j a) a i k), (md m M h, n, w)) := by
  intro k
  induction k with
  | zero =>
    intro nn a i hn hi he 
    obtain ⟨q, rfl⟩ : ∃ q, nn = q + 1 := ⟨nn - 1, by omega⟩
    have h60 := wZ_60 hz
    simp (disch := omega) only [↓reduceIte, Int.reduceEq, Int.reduceNe, Int.reduceLT, Int.reduceLE, Int.reduceNeg, Int.reduceMod, Int.reduceDiv, Int.reduceAdd, Int.reduceSub, Int.reduceMul, not_true_eq_false, not_false_eq_true, true_or, or_true, false_or, or_false, true_and, and_true, false_and, and_false, b2_T, b2_F, if_true, if_false, ↓mjn_b, ↓mjn0_b, ↓mjn2_b, iv_lit, iv_add, iv_sub, iv_mul, iv_neg, iv_le_t, iv_le_f, iv_lt_t, iv_lt_f, iv_eq_t, iv_eq_f, iv_div, iv_mod, mretT_p, mretT_b, e_mret, ↓e_bret, ↓m_mon, ↓m_oI0, m_pI0, ↓m_oI3, m_pI3, ↓m_oI5, m_pI5, ↓m_oI7, m_pI7, ↓m_oI11, m_pI11, ↓m_oI12, m_pI12, ↓m_oI13, m_pI13, ↓m_oI14, m_pI14, ↓m_oI15, m_pI15, ↓m_oI16, m_pI16, ↓m_oI17, m_pI17, m_pZ5, m_pZ12, ↓m_oR1, m_aI1, m_sI1, ↓m_oR2, m_aI2, m_sI2, ↓m_oR4, m_aI4, m_sI4, ↓m_oR6, m_aI6, m_sI6, ↓m_oR8, m_aI8, m_sI8, ↓m_oR9, m_aI9, m_sI9, ↓m_oR10, m_aI10, m_sI10, fX7_sitter_L5, foldI, X7_guest_c, ga, gc]
  | succ k ih =>
    intro nn a i hn hi he 
    obtain ⟨q, rfl⟩ : ∃ q, nn = q + 1 := ⟨nn - 1, by omega⟩
    have h60 := wZ_60 hz
    have hg := wZ_graw hz (g := i) (by omega)
    by_cases h1 : M 1 (61 + 18 * i + 1) = t
    · by_cases h2 : M 1 (61 + 18 * i + 2) = c
      · simp (disch := omega) only [↓reduceIte, Int.reduceEq, Int.reduceNe, Int.reduceLT, Int.reduceLE, Int.reduceNeg, Int.reduceMod, Int.reduceDiv, Int.reduceAdd, Int.reduceSub, Int.reduceMul, not_true_eq_false, not_false_eq_true, true_or, or_true, false_or, or_false, true_and, and_true, false_and, and_false, b2_T, b2_F, if_true, if_false, ↓mjn_b, ↓mjn0_b, ↓mjn2_b, iv_lit, iv_add, iv_sub, iv_mul, iv_neg, iv_le_t, iv_le_f, iv_lt_t, iv_lt_f, iv_eq_t, iv_eq_f, iv_div, iv_mod, mretT_p, mretT_b, e_mret, ↓e_bret, ↓m_mon, ↓m_oI0, m_pI0, ↓m_oI3, m_pI3, ↓m_oI5, m_pI5, ↓m_oI7, m_pI7, ↓m_oI11, m_pI11, ↓m_oI12, m_pI12, ↓m_oI13, m_pI13, ↓m_oI14, m_pI14, ↓m_oI15, m_pI15, ↓m_oI16, m_pI16, ↓m_oI17, m_pI17, m_pZ5, m_pZ12, ↓m_oR1, m_aI1, m_sI1, ↓m_oR2, m_aI2, m_sI2, ↓m_oR4, m_aI4, m_sI4, ↓m_oR6, m_aI6, m_sI6, ↓m_oR8, m_aI8, m_sI8, ↓m_oR9, m_aI9, m_sI9, ↓m_oR10, m_aI10, m_sI10, fX7_sitter_L5, foldI, ih, X7_guest_c, ga, gc, h1, h2]
      · simp (disch := omega) only [↓reduceIte, Int.reduceEq, Int.reduceNe, Int.reduceLT, Int.reduceLE, Int.reduceNeg, Int.reduceMod, Int.reduceDiv, Int.reduceAdd, Int.reduceSub, Int.reduceMul, not_true_eq_false, not_false_eq_true, true_or, or_true, false_or, or_false, true_and, and_true, false_and, and_false, b2_T, b2_F, if_true, if_false, ↓mjn_b, ↓mjn0_b, ↓mjn2_b, iv_lit, iv_add, iv_sub, iv_mul, iv_neg, iv_le_t, iv_le_f, iv_lt_t, iv_lt_f, iv_eq_t, iv_eq_f, iv_div, iv_mod, mretT_p, mretT_b, e_mret, ↓e_bret, ↓m_mon, ↓m_oI0, m_pI0, ↓m_oI3, m_pI3, ↓m_oI5, m_pI5, ↓m_oI7, m_pI7, ↓m_oI11, m_pI11, ↓m_oI12, m_pI12, ↓m_oI13, m_pI13, ↓m_oI14, m_pI14, ↓m_oI15, m_pI15, ↓m_oI16, m_pI16, ↓m_oI17, m_pI17, m_pZ5, m_pZ12, ↓m_oR1, m_aI1, m_sI1, ↓m_oR2, m_aI2, m_sI2, ↓m_oR4, m_aI4, m_sI4, ↓m_oR6, m_aI6, m_sI6, ↓m_oR8, m_aI8, m_sI8, ↓m_oR9, m_aI9, m_sI9, ↓m_oR10, m_aI10, m_sI10, fX7_sitter_L5, foldI, ih, X7_guest_c, ga, gc, h1, h2]
    · by_cases h2 : M 1 (61 + 18 * i + 2) = c
      · simp (disch := omega) only [↓reduceIte, Int.reduceEq, Int.reduceNe, Int.reduceLT, Int.reduceLE, Int.reduceNeg, Int.reduceMod, Int.reduceDiv, Int.reduceAdd, Int.reduceSub, Int.reduceMul, not_true_eq_false, not_false_eq_true, true_or, or_true, false_or, or_false, true_and, and_true, false_and, and_false, b2_T, b2_F, if_true, if_false, ↓mjn_b, ↓mjn0_b, ↓mjn2_b, iv_lit, iv_add, iv_sub, iv_mul, iv_neg, iv_le_t, iv_le_f, iv_lt_t, iv_lt_f, iv_eq_t, iv_eq_f, iv_div, iv_mod, mretT_p, mretT_b, e_mret, ↓e_bret, ↓m_mon, ↓m_oI0, m_pI0, ↓m_oI3, m_pI3, ↓m_oI5, m_pI5, ↓m_oI7, m_pI7, ↓m_oI11, m_pI11, ↓m_oI12, m_pI12, ↓m_oI13, m_pI13, ↓m_oI14, m_pI14, ↓m_oI15, m_pI15, ↓m_oI16, m_pI16, ↓m_oI17, m_pI17, m_pZ5, m_pZ12, ↓m_oR1, m_aI1, m_sI1, ↓m_oR2, m_aI2, m_sI2, ↓m_oR4, m_aI4, m_sI4, ↓m_oR6, m_aI6, m_sI6, ↓m_oR8, m_aI8, m_sI8, ↓m_oR9, m_aI9, m_sI9, ↓m_oR10, m_aI10, m_sI10, fX7_sitter_L5, foldI, ih, X7_guest_c, ga, gc, h1, h2]
      · simp (disch := omega) only [↓reduceIte, Int.reduceEq, Int.reduceNe, Int.reduceLT, Int.reduceLE, Int.reduceNeg, Int.reduceMod, Int.reduceDiv, Int.reduceAdd, Int.reduceSub, Int.reduceMul, not_true_eq_false, not_false_eq_true, true_or, or_true, false_or, or_false, true_and, and_true, false_and, and_false, b2_T, b2_F, if_true, if_false, ↓mjn_b, ↓mjn0_b, ↓mjn2_b, iv_lit, iv_add, iv_sub, iv_mul, iv_neg, iv_le_t, iv_le_f, iv_lt_t, iv_lt_f, iv_eq_t, iv_eq_f, iv_div, iv_mod, mretT_p, mretT_b, e_mret, ↓e_bret, ↓m_mon, ↓m_oI0, m_pI0, ↓m_oI3, m_pI3, ↓m_oI5, m_pI5, ↓m_oI7, m_pI7, ↓m_oI11, m_pI11, ↓m_oI12, m_pI12, ↓m_oI13, m_pI13, ↓m_oI14, m_pI14, ↓m_oI15, m_pI15, ↓m_oI16, m_pI16, ↓m_oI17, m_pI17, m_pZ5, m_pZ12, ↓m_oR1, m_aI1, m_sI1, ↓m_oR2, m_aI2, m_sI2, ↓m_oR4, m_aI4, m_sI4, ↓m_oR6, m_aI6, m_sI6, ↓m_oR8, m_aI8, m_sI8, ↓m_oR9, m_aI9, m_sI9, ↓m_oR10, m_aI10, m_sI10, fX7_sitter_L5, foldI, ih, X7_guest_c, ga, gc, h1, h2]
theorem X7_sitter_ev {g : Nat → Nat} {h : Nat → Option hC} {n w : Nat} {m : Nat} {M : Mm} {t c : Int} (hz : wZ (M 1)) (ht : -1 ≤ t ∧ t ≤ 10) (hc : -1 ≤ c ∧ c ≤ 8) : fX7_sitter g (some m) (iv t) (iv c) (md m M h, n, w) = some (iv (sitr (M 1) t c), (md m M h, n, w)) := by
  have h60 := wZ_60 hz
  unfold fX7_sitter sitr
  simp only [iv_lit, iv_neg, Int.reduceNeg]
  exact X7_sitter_L5_ev hz ht hc (M 1 60).toNat 5000 (-1) 0 (by omega) (by omega) (by omega)
theorem X7_sitter_c {β : Type} {K : Int32 → HM β} {g : Nat → Nat} {h : Nat → Option hC} {n w : Nat} {m : Nat} {M : Mm} {t c : Int} (hz : wZ (M 1)) (ht : -1 ≤ t ∧ t ≤ 10) (hc : -1 ≤ c ∧ c ≤ 8) : mb (mcall0 (fX7_sitter g (some m) (iv t) (iv c))) K (md m M h, n, w) = K (iv (sitr (M 1) t c)) (md m M h, n, w) := e_call0 (X7_sitter_ev hz ht hc)
theorem X7_width_L4_ev {g : Nat → Nat} {h : Nat → Option hC} {n w : Nat} {m : Nat} {M : Mm} {x : Int} (hz : wZ (M 1)) (hx : 0 ≤ x ∧ x < M 1 60) : ∀ (k nn : Nat) (a i : Int), k < nn → 0 ≤ i → i + k = M 1 (61 + 18 * x + 3) → fX7_width_L4 g nn (some m) (iv x) (iv a) (iv i) (md m M h, n, w) = some (iv (foldI (fun a k => a + wd (gn (M 1) x k)) a i k), (md m M h, n, w)) := by
  intro k
  induction k with
  | zero =>
    intro nn a i hn hi he
    obtain ⟨q, rfl⟩ : ∃ q, nn = q + 1 := ⟨nn - 1, by omega⟩
    have h60 := wZ_60 hz
    have hg := wZ_graw hz hx
    simp only [fX7_width_L4, iv_lit, iv_add]
    rw [m_mon, X7_guest_c (by omega)]
    simp (disch := omega) only [↓reduceIte, iv_le_t, e_mret, foldI]
  | succ k ih =>
    intro nn a i hn hi he
    obtain ⟨q, rfl⟩ : ∃ q, nn = q + 1 := ⟨nn - 1, by omega⟩
    have h60 := wZ_60 hz
    have hg := wZ_graw hz hx
    have hc := wG_chr (wZ_g hz hx) (k := i) (by omega)
    unfold gn at hc
    simp only [fX7_width_L4, iv_lit, iv_add]
    rw [m_mon, X7_guest_c (by omega)]
    rw [if_neg (show ¬ iv (M 1 (61 + 18 * x + 3)) ≤ iv i by rw [iv_le (by omega) (by omega)]; omega)]
    rw [m_mon, X7_guest_c (by omega)]
    by_cases c105 : M 1 (61 + 18 * x + (4 + i)) = 105
    · have h9 : wd (gn (M 1) x i) = 2 := by
        unfold wd gn
        simp only [c105, Int.reduceEq, true_or, or_true, false_or, or_false, if_true, if_false]
      simp (disch := omega) only [↓mjn_b, ↓reduceIte, iv_eq_t, iv_eq_f, iv_add, c105]
      rw [ih q _ _ (by omega) (by omega) (by omega)]
      show _ = some (iv (foldI _ (a + wd (gn (M 1) x i)) (i + 1) k), _)
      rw [h9]
    · by_cases c106 : M 1 (61 + 18 * x + (4 + i)) = 106
      · have h9 : wd (gn (M 1) x i) = 2 := by
          unfold wd gn
          simp only [c105, c106, Int.reduceEq, true_or, or_true, false_or, or_false, if_true, if_false]
        simp (disch := omega) only [↓mjn_b, ↓reduceIte, iv_eq_t, iv_eq_f, iv_add, c105, c106]
        rw [ih q _ _ (by omega) (by omega) (by omega)]
        show _ = some (iv (foldI _ (a + wd (gn (M 1) x i)) (i + 1) k), _)
        rw [h9]
      · by_cases c108 : M 1 (61 + 18 * x + (4 + i)) = 108
        · have h9 : wd (gn (M 1) x i) = 2 := by
            unfold wd gn
            simp only [c105, c106, c108, Int.reduceEq, true_or, or_true, false_or, or_false, if_true, if_false]
          simp (disch := omega) only [↓mjn_b, ↓reduceIte, iv_eq_t, iv_eq_f, iv_add, c105, c106, c108]
          rw [ih q _ _ (by omega) (by omega) (by omega)]
          show _ = some (iv (foldI _ (a + wd (gn (M 1) x i)) (i + 1) k), _)
          rw [h9]
        · by_cases c32 : M 1 (61 + 18 * x + (4 + i)) = 32
          · have h9 : wd (gn (M 1) x i) = 2 := by
              unfold wd gn
              simp only [c105, c106, c108, c32, Int.reduceEq, true_or, or_true, false_or, or_false, if_true, if_false]
            simp (disch := omega) only [↓mjn_b, ↓reduceIte, iv_eq_t, iv_eq_f, iv_add, c105, c106, c108, c32]
            rw [ih q _ _ (by omega) (by omega) (by omega)]
            show _ = some (iv (foldI _ (a + wd (gn (M 1) x i)) (i + 1) k), _)
            rw [h9]
          · by_cases c102 : M 1 (61 + 18 * x + (4 + i)) = 102
            · have h9 : wd (gn (M 1) x i) = 3 := by
                unfold wd gn
                simp only [c105, c106, c108, c32, c102, Int.reduceEq, true_or, or_true, false_or, or_false, if_true, if_false]
              simp (disch := omega) only [↓mjn_b, ↓reduceIte, iv_eq_t, iv_eq_f, iv_add, c105, c106, c108, c32, c102]
              rw [ih q _ _ (by omega) (by omega) (by omega)]
              show _ = some (iv (foldI _ (a + wd (gn (M 1) x i)) (i + 1) k), _)
              rw [h9]
            · by_cases c114 : M 1 (61 + 18 * x + (4 + i)) = 114
              · have h9 : wd (gn (M 1) x i) = 3 := by
                  unfold wd gn
                  simp only [c105, c106, c108, c32, c102, c114, Int.reduceEq, true_or, or_true, false_or, or_false, if_true, if_false]
                simp (disch := omega) only [↓mjn_b, ↓reduceIte, iv_eq_t, iv_eq_f, iv_add, c105, c106, c108, c32, c102, c114]
                rw [ih q _ _ (by omega) (by omega) (by omega)]
                show _ = some (iv (foldI _ (a + wd (gn (M 1) x i)) (i + 1) k), _)
                rw [h9]
              · by_cases c116 : M 1 (61 + 18 * x + (4 + i)) = 116
                · have h9 : wd (gn (M 1) x i) = 3 := by
                    unfold wd gn
                    simp only [c105, c106, c108, c32, c102, c114, c116, Int.reduceEq, true_or, or_true, false_or, or_false, if_true, if_false]
                  simp (disch := omega) only [↓mjn_b, ↓reduceIte, iv_eq_t, iv_eq_f, iv_add, c105, c106, c108, c32, c102, c114, c116]
                  rw [ih q _ _ (by omega) (by omega) (by omega)]
                  show _ = some (iv (foldI _ (a + wd (gn (M 1) x i)) (i + 1) k), _)
                  rw [h9]
                · by_cases c109 : M 1 (61 + 18 * x + (4 + i)) = 109
                  · have h9 : wd (gn (M 1) x i) = 6 := by
                      unfold wd gn
                      simp only [c105, c106, c108, c32, c102, c114, c116, c109, Int.reduceEq, true_or, or_true, false_or, or_false, if_true, if_false]
                    simp (disch := omega) only [↓mjn_b, ↓reduceIte, iv_eq_t, iv_eq_f, iv_add, c105, c106, c108, c32, c102, c114, c116, c109]
                    rw [ih q _ _ (by omega) (by omega) (by omega)]
                    show _ = some (iv (foldI _ (a + wd (gn (M 1) x i)) (i + 1) k), _)
                    rw [h9]
                  · by_cases c119 : M 1 (61 + 18 * x + (4 + i)) = 119
                    · have h9 : wd (gn (M 1) x i) = 6 := by
                        unfold wd gn
                        simp only [c105, c106, c108, c32, c102, c114, c116, c109, c119, Int.reduceEq, true_or, or_true, false_or, or_false, if_true, if_false]
                      simp (disch := omega) only [↓mjn_b, ↓reduceIte, iv_eq_t, iv_eq_f, iv_add, c105, c106, c108, c32, c102, c114, c116, c109, c119]
                      rw [ih q _ _ (by omega) (by omega) (by omega)]
                      show _ = some (iv (foldI _ (a + wd (gn (M 1) x i)) (i + 1) k), _)
                      rw [h9]
                    · have h9 : wd (gn (M 1) x i) = 4 := by
                        unfold wd gn
                        simp only [c105, c106, c108, c32, c102, c114, c116, c109, c119, Int.reduceEq, true_or, or_true, false_or, or_false, if_true, if_false]
                      simp (disch := omega) only [↓mjn_b, ↓reduceIte, iv_eq_t, iv_eq_f, iv_add, c105, c106, c108, c32, c102, c114, c116, c109, c119]
                      rw [ih q _ _ (by omega) (by omega) (by omega)]
                      show _ = some (iv (foldI _ (a + wd (gn (M 1) x i)) (i + 1) k), _)
                      rw [h9]
theorem X7_width_ev {g : Nat → Nat} {h : Nat → Option hC} {n w : Nat} {m : Nat} {M : Mm} {x : Int} (hz : wZ (M 1)) (hx : 0 ≤ x ∧ x < M 1 60) : fX7_width g (some m) (iv x) (md m M h, n, w) = some (iv (wid (M 1) x), (md m M h, n, w)) := by
  have hg := wZ_graw hz hx
  unfold fX7_width wid
  simp only [iv_lit, iv_neg, Int.reduceNeg]
  exact X7_width_L4_ev hz hx (gl (M 1) x).toNat 5000 0 0 (by unfold gl; omega) (by omega) (by unfold gl; omega)
theorem X7_width_c {β : Type} {K : Int32 → HM β} {g : Nat → Nat} {h : Nat → Option hC} {n w : Nat} {m : Nat} {M : Mm} {x : Int} (hz : wZ (M 1)) (hx : 0 ≤ x ∧ x < M 1 60) : mb (mcall0 (fX7_width g (some m) (iv x))) K (md m M h, n, w) = K (iv (wid (M 1) x)) (md m M h, n, w) := e_call0 (X7_width_ev hz hx)
theorem X7_pillarAt_L4_ev {g : Nat → Nat} {h : Nat → Option hC} {n w : Nat} {m : Nat} {M : Mm} {c : Int} (hz : wH (M 1)) (hc : 0 ≤ c ∧ c < 192) : ∀ (k nn : Nat) (a i : Int), k < nn → 0 ≤ i → i + k = M 1 2 → fX7_pillarAt_L4 g nn (some m) (iv c) (iv a) (iv i) (md m M h, n, w) = some (iv (foldI (fun a k => if M 1 (3 + k) = c then k else a) a i k), (md m M h, n, w)) := by
  intro k
  induction k with
  | zero =>
    intro nn a i hn hi he 
    obtain ⟨q, rfl⟩ : ∃ q, nn = q + 1 := ⟨nn - 1, by omega⟩
    have h2 := hz.2.2.1
    simp (disch := omega) only [↓reduceIte, Int.reduceEq, Int.reduceNe, Int.reduceLT, Int.reduceLE, Int.reduceNeg, Int.reduceMod, Int.reduceDiv, Int.reduceAdd, Int.reduceSub, Int.reduceMul, not_true_eq_false, not_false_eq_true, true_or, or_true, false_or, or_false, true_and, and_true, false_and, and_false, b2_T, b2_F, if_true, if_false, ↓mjn_b, ↓mjn0_b, ↓mjn2_b, iv_lit, iv_add, iv_sub, iv_mul, iv_neg, iv_le_t, iv_le_f, iv_lt_t, iv_lt_f, iv_eq_t, iv_eq_f, iv_div, iv_mod, mretT_p, mretT_b, e_mret, ↓e_bret, ↓m_mon, ↓m_oI0, m_pI0, ↓m_oI3, m_pI3, ↓m_oI5, m_pI5, ↓m_oI7, m_pI7, ↓m_oI11, m_pI11, ↓m_oI12, m_pI12, ↓m_oI13, m_pI13, ↓m_oI14, m_pI14, ↓m_oI15, m_pI15, ↓m_oI16, m_pI16, ↓m_oI17, m_pI17, m_pZ5, m_pZ12, ↓m_oR1, m_aI1, m_sI1, ↓m_oR2, m_aI2, m_sI2, ↓m_oR4, m_aI4, m_sI4, ↓m_oR6, m_aI6, m_sI6, ↓m_oR8, m_aI8, m_sI8, ↓m_oR9, m_aI9, m_sI9, ↓m_oR10, m_aI10, m_sI10, fX7_pillarAt_L4, foldI]
  | succ k ih =>
    intro nn a i hn hi he 
    obtain ⟨q, rfl⟩ : ∃ q, nn = q + 1 := ⟨nn - 1, by omega⟩
    have h2 := hz.2.2.1
    have h3 := hz.2.2.2.1 i (by omega) (by omega)
    by_cases h1 : M 1 (3 + i) = c
    · simp (disch := omega) only [↓reduceIte, Int.reduceEq, Int.reduceNe, Int.reduceLT, Int.reduceLE, Int.reduceNeg, Int.reduceMod, Int.reduceDiv, Int.reduceAdd, Int.reduceSub, Int.reduceMul, not_true_eq_false, not_false_eq_true, true_or, or_true, false_or, or_false, true_and, and_true, false_and, and_false, b2_T, b2_F, if_true, if_false, ↓mjn_b, ↓mjn0_b, ↓mjn2_b, iv_lit, iv_add, iv_sub, iv_mul, iv_neg, iv_le_t, iv_le_f, iv_lt_t, iv_lt_f, iv_eq_t, iv_eq_f, iv_div, iv_mod, mretT_p, mretT_b, e_mret, ↓e_bret, ↓m_mon, ↓m_oI0, m_pI0, ↓m_oI3, m_pI3, ↓m_oI5, m_pI5, ↓m_oI7, m_pI7, ↓m_oI11, m_pI11, ↓m_oI12, m_pI12, ↓m_oI13, m_pI13, ↓m_oI14, m_pI14, ↓m_oI15, m_pI15, ↓m_oI16, m_pI16, ↓m_oI17, m_pI17, m_pZ5, m_pZ12, ↓m_oR1, m_aI1, m_sI1, ↓m_oR2, m_aI2, m_sI2, ↓m_oR4, m_aI4, m_sI4, ↓m_oR6, m_aI6, m_sI6, ↓m_oR8, m_aI8, m_sI8, ↓m_oR9, m_aI9, m_sI9, ↓m_oR10, m_aI10, m_sI10, fX7_pillarAt_L4, foldI, ih, h1]
    · simp (disch := omega) only [↓reduceIte, Int.reduceEq, Int.reduceNe, Int.reduceLT, Int.reduceLE, Int.reduceNeg, Int.reduceMod, Int.reduceDiv, Int.reduceAdd, Int.reduceSub, Int.reduceMul, not_true_eq_false, not_false_eq_true, true_or, or_true, false_or, or_false, true_and, and_true, false_and, and_false, b2_T, b2_F, if_true, if_false, ↓mjn_b, ↓mjn0_b, ↓mjn2_b, iv_lit, iv_add, iv_sub, iv_mul, iv_neg, iv_le_t, iv_le_f, iv_lt_t, iv_lt_f, iv_eq_t, iv_eq_f, iv_div, iv_mod, mretT_p, mretT_b, e_mret, ↓e_bret, ↓m_mon, ↓m_oI0, m_pI0, ↓m_oI3, m_pI3, ↓m_oI5, m_pI5, ↓m_oI7, m_pI7, ↓m_oI11, m_pI11, ↓m_oI12, m_pI12, ↓m_oI13, m_pI13, ↓m_oI14, m_pI14, ↓m_oI15, m_pI15, ↓m_oI16, m_pI16, ↓m_oI17, m_pI17, m_pZ5, m_pZ12, ↓m_oR1, m_aI1, m_sI1, ↓m_oR2, m_aI2, m_sI2, ↓m_oR4, m_aI4, m_sI4, ↓m_oR6, m_aI6, m_sI6, ↓m_oR8, m_aI8, m_sI8, ↓m_oR9, m_aI9, m_sI9, ↓m_oR10, m_aI10, m_sI10, fX7_pillarAt_L4, foldI, ih, h1]
theorem X7_pillarAt_ev {g : Nat → Nat} {h : Nat → Option hC} {n w : Nat} {m : Nat} {M : Mm} {c : Int} (hz : wH (M 1)) (hc : 0 ≤ c ∧ c < 192) : fX7_pillarAt g (some m) (iv c) (md m M h, n, w) = some (iv (plat (M 1) c), (md m M h, n, w)) := by
  have h2 := hz.2.2.1
  unfold fX7_pillarAt plat
  simp only [iv_lit, iv_neg, Int.reduceNeg]
  exact X7_pillarAt_L4_ev hz hc (M 1 2).toNat 5000 (-1) 0 (by omega) (by omega) (by omega)
theorem X7_pillarAt_c {β : Type} {K : Int32 → HM β} {g : Nat → Nat} {h : Nat → Option hC} {n w : Nat} {m : Nat} {M : Mm} {c : Int} (hz : wH (M 1)) (hc : 0 ≤ c ∧ c < 192) : mb (mcall0 (fX7_pillarAt g (some m) (iv c))) K (md m M h, n, w) = K (iv (plat (M 1) c)) (md m M h, n, w) := e_call0 (X7_pillarAt_ev hz hc)
theorem X7_sitting_L4_ev {g : Nat → Nat} {h : Nat → Option hC} {n w : Nat} {m : Nat} {M : Mm}  (hz : wZ (M 1)) : ∀ (k nn : Nat) (a i : Int), k < nn → 0 ≤ i → i + k = M 1 60 → fX7_sitting_L4 g nn (some m) (iv a) (iv i) (md m M h, n, w) = some (iv (foldI (fun a j => a + b2 (sits (M 1) j)) a i k), (md m M h, n, w)) := by
  intro k
  induction k with
  | zero =>
    intro nn a i hn hi he 
    obtain ⟨q, rfl⟩ : ∃ q, nn = q + 1 := ⟨nn - 1, by omega⟩
    have h60 := wZ_60 hz
    simp (disch := omega) only [↓reduceIte, Int.reduceEq, Int.reduceNe, Int.reduceLT, Int.reduceLE, Int.reduceNeg, Int.reduceMod, Int.reduceDiv, Int.reduceAdd, Int.reduceSub, Int.reduceMul, not_true_eq_false, not_false_eq_true, true_or, or_true, false_or, or_false, true_and, and_true, false_and, and_false, b2_T, b2_F, if_true, if_false, ↓mjn_b, ↓mjn0_b, ↓mjn2_b, iv_lit, iv_add, iv_sub, iv_mul, iv_neg, iv_le_t, iv_le_f, iv_lt_t, iv_lt_f, iv_eq_t, iv_eq_f, iv_div, iv_mod, mretT_p, mretT_b, e_mret, ↓e_bret, ↓m_mon, ↓m_oI0, m_pI0, ↓m_oI3, m_pI3, ↓m_oI5, m_pI5, ↓m_oI7, m_pI7, ↓m_oI11, m_pI11, ↓m_oI12, m_pI12, ↓m_oI13, m_pI13, ↓m_oI14, m_pI14, ↓m_oI15, m_pI15, ↓m_oI16, m_pI16, ↓m_oI17, m_pI17, m_pZ5, m_pZ12, ↓m_oR1, m_aI1, m_sI1, ↓m_oR2, m_aI2, m_sI2, ↓m_oR4, m_aI4, m_sI4, ↓m_oR6, m_aI6, m_sI6, ↓m_oR8, m_aI8, m_sI8, ↓m_oR9, m_aI9, m_sI9, ↓m_oR10, m_aI10, m_sI10, fX7_sitting_L4, foldI]
  | succ k ih =>
    intro nn a i hn hi he 
    obtain ⟨q, rfl⟩ : ∃ q, nn = q + 1 := ⟨nn - 1, by omega⟩
    have h60 := wZ_60 hz
    have hg : 0 ≤ i ∧ i < M 1 60 := by omega
    by_cases h1 : sits (M 1) i
    · simp (disch := omega) only [↓reduceIte, Int.reduceEq, Int.reduceNe, Int.reduceLT, Int.reduceLE, Int.reduceNeg, Int.reduceMod, Int.reduceDiv, Int.reduceAdd, Int.reduceSub, Int.reduceMul, not_true_eq_false, not_false_eq_true, true_or, or_true, false_or, or_false, true_and, and_true, false_and, and_false, b2_T, b2_F, if_true, if_false, ↓mjn_b, ↓mjn0_b, ↓mjn2_b, iv_lit, iv_add, iv_sub, iv_mul, iv_neg, iv_le_t, iv_le_f, iv_lt_t, iv_lt_f, iv_eq_t, iv_eq_f, iv_div, iv_mod, mretT_p, mretT_b, e_mret, ↓e_bret, ↓m_mon, ↓m_oI0, m_pI0, ↓m_oI3, m_pI3, ↓m_oI5, m_pI5, ↓m_oI7, m_pI7, ↓m_oI11, m_pI11, ↓m_oI12, m_pI12, ↓m_oI13, m_pI13, ↓m_oI14, m_pI14, ↓m_oI15, m_pI15, ↓m_oI16, m_pI16, ↓m_oI17, m_pI17, m_pZ5, m_pZ12, ↓m_oR1, m_aI1, m_sI1, ↓m_oR2, m_aI2, m_sI2, ↓m_oR4, m_aI4, m_sI4, ↓m_oR6, m_aI6, m_sI6, ↓m_oR8, m_aI8, m_sI8, ↓m_oR9, m_aI9, m_sI9, ↓m_oR10, m_aI10, m_sI10, fX7_sitting_L4, foldI, ih, X7_sits_b hz hg, b2_t h1]
    · simp (disch := omega) only [↓reduceIte, Int.reduceEq, Int.reduceNe, Int.reduceLT, Int.reduceLE, Int.reduceNeg, Int.reduceMod, Int.reduceDiv, Int.reduceAdd, Int.reduceSub, Int.reduceMul, not_true_eq_false, not_false_eq_true, true_or, or_true, false_or, or_false, true_and, and_true, false_and, and_false, b2_T, b2_F, if_true, if_false, ↓mjn_b, ↓mjn0_b, ↓mjn2_b, iv_lit, iv_add, iv_sub, iv_mul, iv_neg, iv_le_t, iv_le_f, iv_lt_t, iv_lt_f, iv_eq_t, iv_eq_f, iv_div, iv_mod, mretT_p, mretT_b, e_mret, ↓e_bret, ↓m_mon, ↓m_oI0, m_pI0, ↓m_oI3, m_pI3, ↓m_oI5, m_pI5, ↓m_oI7, m_pI7, ↓m_oI11, m_pI11, ↓m_oI12, m_pI12, ↓m_oI13, m_pI13, ↓m_oI14, m_pI14, ↓m_oI15, m_pI15, ↓m_oI16, m_pI16, ↓m_oI17, m_pI17, m_pZ5, m_pZ12, ↓m_oR1, m_aI1, m_sI1, ↓m_oR2, m_aI2, m_sI2, ↓m_oR4, m_aI4, m_sI4, ↓m_oR6, m_aI6, m_sI6, ↓m_oR8, m_aI8, m_sI8, ↓m_oR9, m_aI9, m_sI9, ↓m_oR10, m_aI10, m_sI10, fX7_sitting_L4, foldI, ih, X7_sits_b hz hg, b2_f h1]
theorem X7_sitting_ev {g : Nat → Nat} {h : Nat → Option hC} {n w : Nat} {m : Nat} {M : Mm} (hz : wZ (M 1)) : fX7_sitting g (some m) (md m M h, n, w) = some (iv (sitg (M 1)), (md m M h, n, w)) := by
  have h60 := wZ_60 hz
  unfold fX7_sitting sitg
  simp only [iv_lit, iv_neg, Int.reduceNeg]
  exact X7_sitting_L4_ev hz (M 1 60).toNat 5000 0 0 (by omega) (by omega) (by omega)
theorem X7_sitting_c {β : Type} {K : Int32 → HM β} {g : Nat → Nat} {h : Nat → Option hC} {n w : Nat} {m : Nat} {M : Mm} (hz : wZ (M 1)) : mb (mcall0 (fX7_sitting g (some m))) K (md m M h, n, w) = K (iv (sitg (M 1))) (md m M h, n, w) := e_call0 (X7_sitting_ev hz)
theorem X7_cellOfGuest_ev {g : Nat → Nat} {h : Nat → Option hC} {n w : Nat} {m : Nat} {M : Mm} {x : Int} (hz : wZ (M 1)) (hx : 0 ≤ x ∧ x < M 1 60) (hs : sits (M 1) x) : fX7_cellOfGuest g (some m) (iv x) (md m M h, n, w) = some (iv (cgl (M 1) x), (md m M h, n, w)) := by
  have h60 := wZ_60 hz
  have h15 := wZ_15 hz
  obtain ⟨h1, h2⟩ := sits_at hz hx hs
  have hw := wZ_t hz h1
  have hcn := chN_rg (zk (M 1) (ga (M 1) x))
  unfold fX7_cellOfGuest cgl
  unfold ga gc at *
  simp (disch := omega) only [↓reduceIte, Int.reduceEq, Int.reduceNe, Int.reduceLT, Int.reduceLE, Int.reduceNeg, Int.reduceMod, Int.reduceDiv, Int.reduceAdd, Int.reduceSub, Int.reduceMul, not_true_eq_false, not_false_eq_true, true_or, or_true, false_or, or_false, true_and, and_true, false_and, and_false, b2_T, b2_F, if_true, if_false, ↓mjn_b, ↓mjn0_b, ↓mjn2_b, iv_lit, iv_add, iv_sub, iv_mul, iv_neg, iv_le_t, iv_le_f, iv_lt_t, iv_lt_f, iv_eq_t, iv_eq_f, iv_div, iv_mod, mretT_p, mretT_b, e_mret, ↓e_bret, ↓m_mon, ↓m_oI0, m_pI0, ↓m_oI3, m_pI3, ↓m_oI5, m_pI5, ↓m_oI7, m_pI7, ↓m_oI11, m_pI11, ↓m_oI12, m_pI12, ↓m_oI13, m_pI13, ↓m_oI14, m_pI14, ↓m_oI15, m_pI15, ↓m_oI16, m_pI16, ↓m_oI17, m_pI17, m_pZ5, m_pZ12, ↓m_oR1, m_aI1, m_sI1, ↓m_oR2, m_aI2, m_sI2, ↓m_oR4, m_aI4, m_sI4, ↓m_oR6, m_aI6, m_sI6, ↓m_oR8, m_aI8, m_sI8, ↓m_oR9, m_aI9, m_sI9, ↓m_oR10, m_aI10, m_sI10, X7_guest_c, X7_cellOfChair_c, hw]
theorem X7_cellOfGuest_c {β : Type} {K : Int32 → HM β} {g : Nat → Nat} {h : Nat → Option hC} {n w : Nat} {m : Nat} {M : Mm} {x : Int} (hz : wZ (M 1)) (hx : 0 ≤ x ∧ x < M 1 60) (hs : sits (M 1) x) : mb (mcall0 (fX7_cellOfGuest g (some m) (iv x))) K (md m M h, n, w) = K (iv (cgl (M 1) x)) (md m M h, n, w) := e_call0 (X7_cellOfGuest_ev hz hx hs)
theorem div_neg {T B : Int} (hB : 0 < B) : -((B - 1 - T) / B) = T / B := by
  have h1 := Int.mul_ediv_add_emod T B
  have h2 := Int.emod_nonneg T (show B ≠ 0 by omega)
  have h3 := Int.emod_lt_of_pos T hB
  have e : B - 1 - T = (B - 1 - T % B) + B * (-(T / B)) := by
    rw [Int.mul_neg]
    omega
  rw [e, Int.add_mul_ediv_left _ _ (show B ≠ 0 by omega), Int.ediv_eq_zero_of_lt (by omega) (by omega)]
  omega
theorem mul_rg {a b : Int} (ha : 0 ≤ a ∧ a ≤ 12) (hb : -15 ≤ b ∧ b ≤ 15) : -360 ≤ 2 * a * b ∧ 2 * a * b ≤ 360 := by
  have h1 : a * b ≤ a * 15 := Int.mul_le_mul_of_nonneg_left hb.2 ha.1
  have h2 : a * (-15) ≤ a * b := Int.mul_le_mul_of_nonneg_left hb.1 ha.1
  rw [Int.mul_assoc]
  omega
theorem X7_column_ev {g : Nat → Nat} {h : Nat → Option hC} {n w : Nat} {m : Nat} {M : Mm} {c r : Int} (h0 : 0 ≤ M 1 0 ∧ M 1 0 ≤ 15) (hc : 0 ≤ c ∧ c < 192) (hr : 0 ≤ r ∧ r < c / 16) : fX7_column g (some m) (iv c) (iv r) (md m M h, n, w) = some (iv (lcol (M 1) c r), (md m M h, n, w)) := by
  have hT := mul_rg (a := c / 16 - r) (b := M 1 0 - c % 16) (by omega) (by omega)
  unfold fX7_column lcol
  by_cases h1 : 2 * (c / 16 - r) * (M 1 0 - c % 16) + c / 16 + 1 < 0
  · rw [← div_neg (T := 2 * (c / 16 - r) * (M 1 0 - c % 16) + c / 16 + 1) (B := 2 * (c / 16 + 1)) (by omega)]
    simp (disch := omega) only [↓reduceIte, Int.reduceEq, Int.reduceNe, Int.reduceLT, Int.reduceLE, Int.reduceNeg, Int.reduceMod, Int.reduceDiv, Int.reduceAdd, Int.reduceSub, Int.reduceMul, not_true_eq_false, not_false_eq_true, true_or, or_true, false_or, or_false, true_and, and_true, false_and, and_false, b2_T, b2_F, if_true, if_false, ↓mjn_b, ↓mjn0_b, ↓mjn2_b, iv_lit, iv_add, iv_sub, iv_mul, iv_neg, iv_le_t, iv_le_f, iv_lt_t, iv_lt_f, iv_eq_t, iv_eq_f, iv_div, iv_mod, mretT_p, mretT_b, e_mret, ↓e_bret, ↓m_mon, ↓m_oI0, m_pI0, ↓m_oI3, m_pI3, ↓m_oI5, m_pI5, ↓m_oI7, m_pI7, ↓m_oI11, m_pI11, ↓m_oI12, m_pI12, ↓m_oI13, m_pI13, ↓m_oI14, m_pI14, ↓m_oI15, m_pI15, ↓m_oI16, m_pI16, ↓m_oI17, m_pI17, m_pZ5, m_pZ12, ↓m_oR1, m_aI1, m_sI1, ↓m_oR2, m_aI2, m_sI2, ↓m_oR4, m_aI4, m_sI4, ↓m_oR6, m_aI6, m_sI6, ↓m_oR8, m_aI8, m_sI8, ↓m_oR9, m_aI9, m_sI9, ↓m_oR10, m_aI10, m_sI10, e_mnzv]
  · simp (disch := omega) only [↓reduceIte, Int.reduceEq, Int.reduceNe, Int.reduceLT, Int.reduceLE, Int.reduceNeg, Int.reduceMod, Int.reduceDiv, Int.reduceAdd, Int.reduceSub, Int.reduceMul, not_true_eq_false, not_false_eq_true, true_or, or_true, false_or, or_false, true_and, and_true, false_and, and_false, b2_T, b2_F, if_true, if_false, ↓mjn_b, ↓mjn0_b, ↓mjn2_b, iv_lit, iv_add, iv_sub, iv_mul, iv_neg, iv_le_t, iv_le_f, iv_lt_t, iv_lt_f, iv_eq_t, iv_eq_f, iv_div, iv_mod, mretT_p, mretT_b, e_mret, ↓e_bret, ↓m_mon, ↓m_oI0, m_pI0, ↓m_oI3, m_pI3, ↓m_oI5, m_pI5, ↓m_oI7, m_pI7, ↓m_oI11, m_pI11, ↓m_oI12, m_pI12, ↓m_oI13, m_pI13, ↓m_oI14, m_pI14, ↓m_oI15, m_pI15, ↓m_oI16, m_pI16, ↓m_oI17, m_pI17, m_pZ5, m_pZ12, ↓m_oR1, m_aI1, m_sI1, ↓m_oR2, m_aI2, m_sI2, ↓m_oR4, m_aI4, m_sI4, ↓m_oR6, m_aI6, m_sI6, ↓m_oR8, m_aI8, m_sI8, ↓m_oR9, m_aI9, m_sI9, ↓m_oR10, m_aI10, m_sI10, e_mnzv]
theorem X7_column_c {β : Type} {K : Int32 → HM β} {g : Nat → Nat} {h : Nat → Option hC} {n w : Nat} {m : Nat} {M : Mm} {c r : Int} (h0 : 0 ≤ M 1 0 ∧ M 1 0 ≤ 15) (hc : 0 ≤ c ∧ c < 192) (hr : 0 ≤ r ∧ r < c / 16) : mb (mcall0 (fX7_column g (some m) (iv c) (iv r))) K (md m M h, n, w) = K (iv (lcol (M 1) c r)) (md m M h, n, w) := e_call0 (X7_column_ev h0 hc hr)
theorem lay8_w {M : Mm} (h : lay8 M) {c : Int} (hc : cin c) : M 8 c = mpz (M 1) c := h.1 c hc
theorem X7_stands_L64_ev {g : Nat → Nat} {h : Nat → Option hC} {n w : Nat} {m : Nat} {M : Mm} {x c : Int} (hz : wZ (M 1)) (hx : 0 ≤ x ∧ x < M 1 60) (hc : 0 ≤ c ∧ c < 192) : ∀ (k nn : Nat) (a i : Int), k < nn → 0 ≤ i → i + k = M 1 60 → a = 0 ∨ a = 1 → fX7_stands_L64 g nn (some m) (iv x) (iv c) (iv a) (iv i) (md m M h, n, w) = some (iv (foldI (fun a j => if a = 0 then b2 (j ≠ x ∧ sits (M 1) j ∧ cgl (M 1) j = c ∧ gh (M 1) x < gh (M 1) j) else 1) a i k), (md m M h, n, w)) := by
  intro k
  induction k with
  | zero =>
    intro nn a i hn hi he ha
    obtain ⟨q, rfl⟩ : ∃ q, nn = q + 1 := ⟨nn - 1, by omega⟩
    have h60 := wZ_60 hz
    simp (disch := omega) only [↓reduceIte, Int.reduceEq, Int.reduceNe, Int.reduceLT, Int.reduceLE, Int.reduceNeg, Int.reduceMod, Int.reduceDiv, Int.reduceAdd, Int.reduceSub, Int.reduceMul, not_true_eq_false, not_false_eq_true, true_or, or_true, false_or, or_false, true_and, and_true, false_and, and_false, b2_T, b2_F, if_true, if_false, ↓mjn_b, ↓mjn0_b, ↓mjn2_b, iv_lit, iv_add, iv_sub, iv_mul, iv_neg, iv_le_t, iv_le_f, iv_lt_t, iv_lt_f, iv_eq_t, iv_eq_f, iv_div, iv_mod, mretT_p, mretT_b, e_mret, ↓e_bret, ↓m_mon, ↓m_oI0, m_pI0, ↓m_oI3, m_pI3, ↓m_oI5, m_pI5, ↓m_oI7, m_pI7, ↓m_oI11, m_pI11, ↓m_oI12, m_pI12, ↓m_oI13, m_pI13, ↓m_oI14, m_pI14, ↓m_oI15, m_pI15, ↓m_oI16, m_pI16, ↓m_oI17, m_pI17, m_pZ5, m_pZ12, ↓m_oR1, m_aI1, m_sI1, ↓m_oR2, m_aI2, m_sI2, ↓m_oR4, m_aI4, m_sI4, ↓m_oR6, m_aI6, m_sI6, ↓m_oR8, m_aI8, m_sI8, ↓m_oR9, m_aI9, m_sI9, ↓m_oR10, m_aI10, m_sI10, fX7_stands_L64, foldI]
  | succ k ih =>
    intro nn a i hn hi he ha
    obtain ⟨q, rfl⟩ : ∃ q, nn = q + 1 := ⟨nn - 1, by omega⟩
    have h60 := wZ_60 hz
    have hg : 0 ≤ i ∧ i < M 1 60 := by omega
    have r1 := wZ_graw hz hx
    have r2 := wZ_graw hz hg
    by_cases h1 : a = 0
    · by_cases h2 : i = x
      · subst h1 h2
        simp (disch := omega) only [↓reduceIte, Int.reduceEq, Int.reduceNe, Int.reduceLT, Int.reduceLE, Int.reduceNeg, Int.reduceMod, Int.reduceDiv, Int.reduceAdd, Int.reduceSub, Int.reduceMul, not_true_eq_false, not_false_eq_true, true_or, or_true, false_or, or_false, true_and, and_true, false_and, and_false, b2_T, b2_F, if_true, if_false, ↓mjn_b, ↓mjn0_b, ↓mjn2_b, iv_lit, iv_add, iv_sub, iv_mul, iv_neg, iv_le_t, iv_le_f, iv_lt_t, iv_lt_f, iv_eq_t, iv_eq_f, iv_div, iv_mod, mretT_p, mretT_b, e_mret, ↓e_bret, ↓m_mon, ↓m_oI0, m_pI0, ↓m_oI3, m_pI3, ↓m_oI5, m_pI5, ↓m_oI7, m_pI7, ↓m_oI11, m_pI11, ↓m_oI12, m_pI12, ↓m_oI13, m_pI13, ↓m_oI14, m_pI14, ↓m_oI15, m_pI15, ↓m_oI16, m_pI16, ↓m_oI17, m_pI17, m_pZ5, m_pZ12, ↓m_oR1, m_aI1, m_sI1, ↓m_oR2, m_aI2, m_sI2, ↓m_oR4, m_aI4, m_sI4, ↓m_oR6, m_aI6, m_sI6, ↓m_oR8, m_aI8, m_sI8, ↓m_oR9, m_aI9, m_sI9, ↓m_oR10, m_aI10, m_sI10, fX7_stands_L64, foldI, ih, ne_eq]
      · by_cases h3 : sits (M 1) i
        · have q1 := X7_cellOfGuest_ev (g := g) (h := h) (n := n) (w := 0) (m := m) hz hg h3
          have q2 := cgl_cin hz hg h3
          unfold cin at q2
          subst h1
          by_cases h4 : cgl (M 1) i = c
          · by_cases h5 : M 1 (61 + 18 * x + 0) < M 1 (61 + 18 * i + 0)
            · simp (disch := omega) only [↓reduceIte, Int.reduceEq, Int.reduceNe, Int.reduceLT, Int.reduceLE, Int.reduceNeg, Int.reduceMod, Int.reduceDiv, Int.reduceAdd, Int.reduceSub, Int.reduceMul, not_true_eq_false, not_false_eq_true, true_or, or_true, false_or, or_false, true_and, and_true, false_and, and_false, b2_T, b2_F, if_true, if_false, ↓mjn_b, ↓mjn0_b, ↓mjn2_b, iv_lit, iv_add, iv_sub, iv_mul, iv_neg, iv_le_t, iv_le_f, iv_lt_t, iv_lt_f, iv_eq_t, iv_eq_f, iv_div, iv_mod, mretT_p, mretT_b, e_mret, ↓e_bret, ↓m_mon, ↓m_oI0, m_pI0, ↓m_oI3, m_pI3, ↓m_oI5, m_pI5, ↓m_oI7, m_pI7, ↓m_oI11, m_pI11, ↓m_oI12, m_pI12, ↓m_oI13, m_pI13, ↓m_oI14, m_pI14, ↓m_oI15, m_pI15, ↓m_oI16, m_pI16, ↓m_oI17, m_pI17, m_pZ5, m_pZ12, ↓m_oR1, m_aI1, m_sI1, ↓m_oR2, m_aI2, m_sI2, ↓m_oR4, m_aI4, m_sI4, ↓m_oR6, m_aI6, m_sI6, ↓m_oR8, m_aI8, m_sI8, ↓m_oR9, m_aI9, m_sI9, ↓m_oR10, m_aI10, m_sI10, fX7_stands_L64, foldI, ih, h2, X7_sits_b hz hg, X7_guest_c, b2_t h3, e_call0 q1, gh, h3, ne_eq, h4, h5]
            · simp (disch := omega) only [↓reduceIte, Int.reduceEq, Int.reduceNe, Int.reduceLT, Int.reduceLE, Int.reduceNeg, Int.reduceMod, Int.reduceDiv, Int.reduceAdd, Int.reduceSub, Int.reduceMul, not_true_eq_false, not_false_eq_true, true_or, or_true, false_or, or_false, true_and, and_true, false_and, and_false, b2_T, b2_F, if_true, if_false, ↓mjn_b, ↓mjn0_b, ↓mjn2_b, iv_lit, iv_add, iv_sub, iv_mul, iv_neg, iv_le_t, iv_le_f, iv_lt_t, iv_lt_f, iv_eq_t, iv_eq_f, iv_div, iv_mod, mretT_p, mretT_b, e_mret, ↓e_bret, ↓m_mon, ↓m_oI0, m_pI0, ↓m_oI3, m_pI3, ↓m_oI5, m_pI5, ↓m_oI7, m_pI7, ↓m_oI11, m_pI11, ↓m_oI12, m_pI12, ↓m_oI13, m_pI13, ↓m_oI14, m_pI14, ↓m_oI15, m_pI15, ↓m_oI16, m_pI16, ↓m_oI17, m_pI17, m_pZ5, m_pZ12, ↓m_oR1, m_aI1, m_sI1, ↓m_oR2, m_aI2, m_sI2, ↓m_oR4, m_aI4, m_sI4, ↓m_oR6, m_aI6, m_sI6, ↓m_oR8, m_aI8, m_sI8, ↓m_oR9, m_aI9, m_sI9, ↓m_oR10, m_aI10, m_sI10, fX7_stands_L64, foldI, ih, h2, X7_sits_b hz hg, X7_guest_c, b2_t h3, e_call0 q1, gh, h3, ne_eq, h4, h5]
          · simp (disch := omega) only [↓reduceIte, Int.reduceEq, Int.reduceNe, Int.reduceLT, Int.reduceLE, Int.reduceNeg, Int.reduceMod, Int.reduceDiv, Int.reduceAdd, Int.reduceSub, Int.reduceMul, not_true_eq_false, not_false_eq_true, true_or, or_true, false_or, or_false, true_and, and_true, false_and, and_false, b2_T, b2_F, if_true, if_false, ↓mjn_b, ↓mjn0_b, ↓mjn2_b, iv_lit, iv_add, iv_sub, iv_mul, iv_neg, iv_le_t, iv_le_f, iv_lt_t, iv_lt_f, iv_eq_t, iv_eq_f, iv_div, iv_mod, mretT_p, mretT_b, e_mret, ↓e_bret, ↓m_mon, ↓m_oI0, m_pI0, ↓m_oI3, m_pI3, ↓m_oI5, m_pI5, ↓m_oI7, m_pI7, ↓m_oI11, m_pI11, ↓m_oI12, m_pI12, ↓m_oI13, m_pI13, ↓m_oI14, m_pI14, ↓m_oI15, m_pI15, ↓m_oI16, m_pI16, ↓m_oI17, m_pI17, m_pZ5, m_pZ12, ↓m_oR1, m_aI1, m_sI1, ↓m_oR2, m_aI2, m_sI2, ↓m_oR4, m_aI4, m_sI4, ↓m_oR6, m_aI6, m_sI6, ↓m_oR8, m_aI8, m_sI8, ↓m_oR9, m_aI9, m_sI9, ↓m_oR10, m_aI10, m_sI10, fX7_stands_L64, foldI, ih, h2, X7_sits_b hz hg, X7_guest_c, b2_t h3, e_call0 q1, gh, h3, ne_eq, h4]
        · subst h1
          simp (disch := omega) only [↓reduceIte, Int.reduceEq, Int.reduceNe, Int.reduceLT, Int.reduceLE, Int.reduceNeg, Int.reduceMod, Int.reduceDiv, Int.reduceAdd, Int.reduceSub, Int.reduceMul, not_true_eq_false, not_false_eq_true, true_or, or_true, false_or, or_false, true_and, and_true, false_and, and_false, b2_T, b2_F, if_true, if_false, ↓mjn_b, ↓mjn0_b, ↓mjn2_b, iv_lit, iv_add, iv_sub, iv_mul, iv_neg, iv_le_t, iv_le_f, iv_lt_t, iv_lt_f, iv_eq_t, iv_eq_f, iv_div, iv_mod, mretT_p, mretT_b, e_mret, ↓e_bret, ↓m_mon, ↓m_oI0, m_pI0, ↓m_oI3, m_pI3, ↓m_oI5, m_pI5, ↓m_oI7, m_pI7, ↓m_oI11, m_pI11, ↓m_oI12, m_pI12, ↓m_oI13, m_pI13, ↓m_oI14, m_pI14, ↓m_oI15, m_pI15, ↓m_oI16, m_pI16, ↓m_oI17, m_pI17, m_pZ5, m_pZ12, ↓m_oR1, m_aI1, m_sI1, ↓m_oR2, m_aI2, m_sI2, ↓m_oR4, m_aI4, m_sI4, ↓m_oR6, m_aI6, m_sI6, ↓m_oR8, m_aI8, m_sI8, ↓m_oR9, m_aI9, m_sI9, ↓m_oR10, m_aI10, m_sI10, fX7_stands_L64, foldI, ih, h2, X7_sits_b hz hg, b2_f h3, h3, ne_eq]
    · simp (disch := omega) only [↓reduceIte, Int.reduceEq, Int.reduceNe, Int.reduceLT, Int.reduceLE, Int.reduceNeg, Int.reduceMod, Int.reduceDiv, Int.reduceAdd, Int.reduceSub, Int.reduceMul, not_true_eq_false, not_false_eq_true, true_or, or_true, false_or, or_false, true_and, and_true, false_and, and_false, b2_T, b2_F, if_true, if_false, ↓mjn_b, ↓mjn0_b, ↓mjn2_b, iv_lit, iv_add, iv_sub, iv_mul, iv_neg, iv_le_t, iv_le_f, iv_lt_t, iv_lt_f, iv_eq_t, iv_eq_f, iv_div, iv_mod, mretT_p, mretT_b, e_mret, ↓e_bret, ↓m_mon, ↓m_oI0, m_pI0, ↓m_oI3, m_pI3, ↓m_oI5, m_pI5, ↓m_oI7, m_pI7, ↓m_oI11, m_pI11, ↓m_oI12, m_pI12, ↓m_oI13, m_pI13, ↓m_oI14, m_pI14, ↓m_oI15, m_pI15, ↓m_oI16, m_pI16, ↓m_oI17, m_pI17, m_pZ5, m_pZ12, ↓m_oR1, m_aI1, m_sI1, ↓m_oR2, m_aI2, m_sI2, ↓m_oR4, m_aI4, m_sI4, ↓m_oR6, m_aI6, m_sI6, ↓m_oR8, m_aI8, m_sI8, ↓m_oR9, m_aI9, m_sI9, ↓m_oR10, m_aI10, m_sI10, fX7_stands_L64, foldI, ih, h1]
