/-! ===== sight in a state ===== -/
theorem X2_standsInTheWay_c {β : Type} {K : Int32 → HM β} {g : Nat → Nat} {h : Nat → Option hC} {n w a : Nat} {D : Nat → Nat} {tb gb : Int → Nat} {z : Int → Int} {i c : Int} (hz : wZ z) (hs : ST g h a D tb gb z) (hi : 0 ≤ i ∧ i < z 60) (hc : cin c) : mb (mon 1 (some a) (mcall0 (fX2_standsInTheWay g (some a) (iv c) (some (gb i))))) K (h, n, w) = K (iv (b2 (stn z i c))) (h, n, w) := by
  obtain ⟨hd, hgs, hne, ⟨F, hF, hF2⟩, -, ⟨W, hW, hW2⟩⟩ := hs
  have ho := hd.1
  unfold SO at ho
  have hc2 := hc
  unfold cin at hc2
  have h60 := wZ_60 hz
  have h15 := wZ_15 hz
  have hm := mpz_rg2 (z := z) (by omega) c
  have hv : F c = if 30 ≤ mpz z c then mpz z c + 10 else mpz z c := hF2 c hc
  have hgr := wZ_graw hz hi
  obtain ⟨nm, hga, -⟩ := hgs.2 i hi.1 hi.2
  have eF := fun (K : Int32 → HM Int32) => c_aI (K := K) (n := n) (w := 0) (i := c) hF (by decide) hc2
  have eW := fun (K : Int32 → HM Int32) => c_aI (K := K) (n := n) (w := 0) (i := c) hW (by decide) hc2
  have hWr := sitC_rg hz hc
  rw [← hW2 c hc] at hWr
  rw [c_mon ho]
  refine e_call0 (u' := 0) ?_
  unfold fX2_standsInTheWay
  by_cases h1 : mpz z c = 1
  · rw [b2_t (show stn z i c from Or.inl h1)]
    have h1c : F c = 1 := by rw [hv, if_neg (by omega), h1]
    simp (disch := omega) only [↓reduceIte, Int.reduceEq, Int.reduceNe, Int.reduceLT, Int.reduceLE, Int.reduceNeg, Int.reduceMod, Int.reduceDiv, Int.reduceAdd, Int.reduceSub, Int.reduceMul, not_true_eq_false, not_false_eq_true, Int.lt_irrefl, true_or, or_true, false_or, or_false, true_and, and_true, false_and, and_false, b2_T, b2_F, if_true, if_false, ↓mjn_b, ↓mjn0_b, ↓mjn2_b, iv_lit, iv_add, iv_sub, iv_mul, iv_neg, iv_le_t, iv_le_f, iv_lt_t, iv_lt_f, iv_eq_t, iv_eq_f, iv_div, iv_mod, mretT_p, mretT_b, e_mret, ↓e_bret, ↓m_mon, ↓m_oI0, m_pI0, ↓m_oI3, m_pI3, ↓m_oI5, m_pI5, ↓m_oI7, m_pI7, ↓m_oI11, m_pI11, ↓m_oI12, m_pI12, ↓m_oI13, m_pI13, ↓m_oI14, m_pI14, ↓m_oI15, m_pI15, ↓m_oI16, m_pI16, ↓m_oI17, m_pI17, m_pZ5, m_pZ12, ↓m_oR1, m_aI1, m_sI1, ↓m_oR2, m_aI2, m_sI2, ↓m_oR4, m_aI4, m_sI4, ↓m_oR6, m_aI6, m_sI6, ↓m_oR8, m_aI8, m_sI8, ↓m_oR9, m_aI9, m_sI9, ↓m_oR10, m_aI10, m_sI10, ↓s_o7 ho, ↓eF, h1c]
  · by_cases h2 : 10 ≤ mpz z c ∧ mpz z c ≤ 29
    · have h2c : F c = mpz z c := by rw [hv, if_neg (by omega)]
      have ht := mpz_tab h2
      obtain ⟨s, hts, -⟩ := hd.2.2.2 _ ht.1 ht.2
      have hwt := (wZ_t hz ht).2.2.2
      have eg := fun (K : Option Nat → HM Int32) => J2_get_c (K := K) (n := n) (w := 0) (i := mpz z c - 10) hd.2.2.1 ht
      have ec := fun (K : Unit → HM Int32) => c_mcst (K := K) (n := n) (w := 0) (cs := [2]) hts (List.mem_cons_self ..)
      rw [b2_c (stn_tab hz hc h2)]
      unfold gh at *
      by_cases h3 : z (61 + 18 * i + 0) ≤ zf z (mpz z c - 10)
      · rw [b2_t h3]
        simp (disch := omega) only [↓reduceIte, Int.reduceEq, Int.reduceNe, Int.reduceLT, Int.reduceLE, Int.reduceNeg, Int.reduceMod, Int.reduceDiv, Int.reduceAdd, Int.reduceSub, Int.reduceMul, not_true_eq_false, not_false_eq_true, Int.lt_irrefl, true_or, or_true, false_or, or_false, true_and, and_true, false_and, and_false, b2_T, b2_F, if_true, if_false, ↓mjn_b, ↓mjn0_b, ↓mjn2_b, iv_lit, iv_add, iv_sub, iv_mul, iv_neg, iv_le_t, iv_le_f, iv_lt_t, iv_lt_f, iv_eq_t, iv_eq_f, iv_div, iv_mod, mretT_p, mretT_b, e_mret, ↓e_bret, ↓m_mon, ↓m_oI0, m_pI0, ↓m_oI3, m_pI3, ↓m_oI5, m_pI5, ↓m_oI7, m_pI7, ↓m_oI11, m_pI11, ↓m_oI12, m_pI12, ↓m_oI13, m_pI13, ↓m_oI14, m_pI14, ↓m_oI15, m_pI15, ↓m_oI16, m_pI16, ↓m_oI17, m_pI17, m_pZ5, m_pZ12, ↓m_oR1, m_aI1, m_sI1, ↓m_oR2, m_aI2, m_sI2, ↓m_oR4, m_aI4, m_sI4, ↓m_oR6, m_aI6, m_sI6, ↓m_oR8, m_aI8, m_sI8, ↓m_oR9, m_aI9, m_sI9, ↓m_oR10, m_aI10, m_sI10, ↓s_o7 ho, ↓eF, h2c, ↓s_o4 ho, ↓eg, ↓ec, ↓t_o4 hts, ↓g_o2 hga]
      · rw [b2_f h3]
        simp (disch := omega) only [↓reduceIte, Int.reduceEq, Int.reduceNe, Int.reduceLT, Int.reduceLE, Int.reduceNeg, Int.reduceMod, Int.reduceDiv, Int.reduceAdd, Int.reduceSub, Int.reduceMul, not_true_eq_false, not_false_eq_true, Int.lt_irrefl, true_or, or_true, false_or, or_false, true_and, and_true, false_and, and_false, b2_T, b2_F, if_true, if_false, ↓mjn_b, ↓mjn0_b, ↓mjn2_b, iv_lit, iv_add, iv_sub, iv_mul, iv_neg, iv_le_t, iv_le_f, iv_lt_t, iv_lt_f, iv_eq_t, iv_eq_f, iv_div, iv_mod, mretT_p, mretT_b, e_mret, ↓e_bret, ↓m_mon, ↓m_oI0, m_pI0, ↓m_oI3, m_pI3, ↓m_oI5, m_pI5, ↓m_oI7, m_pI7, ↓m_oI11, m_pI11, ↓m_oI12, m_pI12, ↓m_oI13, m_pI13, ↓m_oI14, m_pI14, ↓m_oI15, m_pI15, ↓m_oI16, m_pI16, ↓m_oI17, m_pI17, m_pZ5, m_pZ12, ↓m_oR1, m_aI1, m_sI1, ↓m_oR2, m_aI2, m_sI2, ↓m_oR4, m_aI4, m_sI4, ↓m_oR6, m_aI6, m_sI6, ↓m_oR8, m_aI8, m_sI8, ↓m_oR9, m_aI9, m_sI9, ↓m_oR10, m_aI10, m_sI10, ↓s_o7 ho, ↓eF, h2c, ↓s_o4 ho, ↓eg, ↓ec, ↓t_o4 hts, ↓g_o2 hga]
    · have h2c : F c < 10 ∨ 40 ≤ F c := by rw [hv]; split <;> omega
      have h1c : F c ≠ 1 := by rw [hv]; split <;> omega
      have hFr : 0 ≤ F c ∧ F c ≤ 70 := by rw [hv]; split <;> omega
      rw [b2_c (stn_sit hz hc h1 h2), ← hW2 c hc]
      by_cases h4 : W c = -1
      · rw [b2_f (fun q => q.1 h4)]
        rcases h2c with h2c | h2c
        · simp (disch := omega) only [↓reduceIte, Int.reduceEq, Int.reduceNe, Int.reduceLT, Int.reduceLE, Int.reduceNeg, Int.reduceMod, Int.reduceDiv, Int.reduceAdd, Int.reduceSub, Int.reduceMul, not_true_eq_false, not_false_eq_true, Int.lt_irrefl, true_or, or_true, false_or, or_false, true_and, and_true, false_and, and_false, b2_T, b2_F, if_true, if_false, ↓mjn_b, ↓mjn0_b, ↓mjn2_b, iv_lit, iv_add, iv_sub, iv_mul, iv_neg, iv_le_t, iv_le_f, iv_lt_t, iv_lt_f, iv_eq_t, iv_eq_f, iv_div, iv_mod, mretT_p, mretT_b, e_mret, ↓e_bret, ↓m_mon, ↓m_oI0, m_pI0, ↓m_oI3, m_pI3, ↓m_oI5, m_pI5, ↓m_oI7, m_pI7, ↓m_oI11, m_pI11, ↓m_oI12, m_pI12, ↓m_oI13, m_pI13, ↓m_oI14, m_pI14, ↓m_oI15, m_pI15, ↓m_oI16, m_pI16, ↓m_oI17, m_pI17, m_pZ5, m_pZ12, ↓m_oR1, m_aI1, m_sI1, ↓m_oR2, m_aI2, m_sI2, ↓m_oR4, m_aI4, m_sI4, ↓m_oR6, m_aI6, m_sI6, ↓m_oR8, m_aI8, m_sI8, ↓m_oR9, m_aI9, m_sI9, ↓m_oR10, m_aI10, m_sI10, ↓s_o7 ho, ↓eF, ↓s_o9 ho, ↓eW, h4]
        · simp (disch := omega) only [↓reduceIte, Int.reduceEq, Int.reduceNe, Int.reduceLT, Int.reduceLE, Int.reduceNeg, Int.reduceMod, Int.reduceDiv, Int.reduceAdd, Int.reduceSub, Int.reduceMul, not_true_eq_false, not_false_eq_true, Int.lt_irrefl, true_or, or_true, false_or, or_false, true_and, and_true, false_and, and_false, b2_T, b2_F, if_true, if_false, ↓mjn_b, ↓mjn0_b, ↓mjn2_b, iv_lit, iv_add, iv_sub, iv_mul, iv_neg, iv_le_t, iv_le_f, iv_lt_t, iv_lt_f, iv_eq_t, iv_eq_f, iv_div, iv_mod, mretT_p, mretT_b, e_mret, ↓e_bret, ↓m_mon, ↓m_oI0, m_pI0, ↓m_oI3, m_pI3, ↓m_oI5, m_pI5, ↓m_oI7, m_pI7, ↓m_oI11, m_pI11, ↓m_oI12, m_pI12, ↓m_oI13, m_pI13, ↓m_oI14, m_pI14, ↓m_oI15, m_pI15, ↓m_oI16, m_pI16, ↓m_oI17, m_pI17, m_pZ5, m_pZ12, ↓m_oR1, m_aI1, m_sI1, ↓m_oR2, m_aI2, m_sI2, ↓m_oR4, m_aI4, m_sI4, ↓m_oR6, m_aI6, m_sI6, ↓m_oR8, m_aI8, m_sI8, ↓m_oR9, m_aI9, m_sI9, ↓m_oR10, m_aI10, m_sI10, ↓s_o7 ho, ↓eF, ↓s_o9 ho, ↓eW, h4]
      · by_cases h5 : W c = i
        · rw [b2_f (fun q => q.2.1 h5)]
          rcases h2c with h2c | h2c
          · simp (disch := omega) only [↓reduceIte, Int.reduceEq, Int.reduceNe, Int.reduceLT, Int.reduceLE, Int.reduceNeg, Int.reduceMod, Int.reduceDiv, Int.reduceAdd, Int.reduceSub, Int.reduceMul, not_true_eq_false, not_false_eq_true, Int.lt_irrefl, true_or, or_true, false_or, or_false, true_and, and_true, false_and, and_false, b2_T, b2_F, if_true, if_false, ↓mjn_b, ↓mjn0_b, ↓mjn2_b, iv_lit, iv_add, iv_sub, iv_mul, iv_neg, iv_le_t, iv_le_f, iv_lt_t, iv_lt_f, iv_eq_t, iv_eq_f, iv_div, iv_mod, mretT_p, mretT_b, e_mret, ↓e_bret, ↓m_mon, ↓m_oI0, m_pI0, ↓m_oI3, m_pI3, ↓m_oI5, m_pI5, ↓m_oI7, m_pI7, ↓m_oI11, m_pI11, ↓m_oI12, m_pI12, ↓m_oI13, m_pI13, ↓m_oI14, m_pI14, ↓m_oI15, m_pI15, ↓m_oI16, m_pI16, ↓m_oI17, m_pI17, m_pZ5, m_pZ12, ↓m_oR1, m_aI1, m_sI1, ↓m_oR2, m_aI2, m_sI2, ↓m_oR4, m_aI4, m_sI4, ↓m_oR6, m_aI6, m_sI6, ↓m_oR8, m_aI8, m_sI8, ↓m_oR9, m_aI9, m_sI9, ↓m_oR10, m_aI10, m_sI10, ↓s_o7 ho, ↓eF, ↓s_o9 ho, ↓eW, h5, ↓g_o0 hga]
          · simp (disch := omega) only [↓reduceIte, Int.reduceEq, Int.reduceNe, Int.reduceLT, Int.reduceLE, Int.reduceNeg, Int.reduceMod, Int.reduceDiv, Int.reduceAdd, Int.reduceSub, Int.reduceMul, not_true_eq_false, not_false_eq_true, Int.lt_irrefl, true_or, or_true, false_or, or_false, true_and, and_true, false_and, and_false, b2_T, b2_F, if_true, if_false, ↓mjn_b, ↓mjn0_b, ↓mjn2_b, iv_lit, iv_add, iv_sub, iv_mul, iv_neg, iv_le_t, iv_le_f, iv_lt_t, iv_lt_f, iv_eq_t, iv_eq_f, iv_div, iv_mod, mretT_p, mretT_b, e_mret, ↓e_bret, ↓m_mon, ↓m_oI0, m_pI0, ↓m_oI3, m_pI3, ↓m_oI5, m_pI5, ↓m_oI7, m_pI7, ↓m_oI11, m_pI11, ↓m_oI12, m_pI12, ↓m_oI13, m_pI13, ↓m_oI14, m_pI14, ↓m_oI15, m_pI15, ↓m_oI16, m_pI16, ↓m_oI17, m_pI17, m_pZ5, m_pZ12, ↓m_oR1, m_aI1, m_sI1, ↓m_oR2, m_aI2, m_sI2, ↓m_oR4, m_aI4, m_sI4, ↓m_oR6, m_aI6, m_sI6, ↓m_oR8, m_aI8, m_sI8, ↓m_oR9, m_aI9, m_sI9, ↓m_oR10, m_aI10, m_sI10, ↓s_o7 ho, ↓eF, ↓s_o9 ho, ↓eW, h5, ↓g_o0 hga]
        · have hk : 0 ≤ W c ∧ W c < z 60 := by omega
          obtain ⟨nm2, hgb, -⟩ := hgs.2 _ hk.1 hk.2
          have hgr2 := wZ_graw hz hk
          have eg := fun (K : Option Nat → HM Int32) => J2_get_c (K := K) (n := n) (w := 0) (i := W c) hgs.1 hk
          have ec := fun (K : Unit → HM Int32) => c_mcst (K := K) (n := n) (w := 0) (cs := [3]) hgb (List.mem_cons_self ..)
          unfold gh at *
          by_cases h6 : z (61 + 18 * i + 0) < z (61 + 18 * W c + 0)
          · rw [b2_t ⟨h4, h5, h6⟩]
            rcases h2c with h2c | h2c
            · simp (disch := omega) only [↓reduceIte, Int.reduceEq, Int.reduceNe, Int.reduceLT, Int.reduceLE, Int.reduceNeg, Int.reduceMod, Int.reduceDiv, Int.reduceAdd, Int.reduceSub, Int.reduceMul, not_true_eq_false, not_false_eq_true, Int.lt_irrefl, true_or, or_true, false_or, or_false, true_and, and_true, false_and, and_false, b2_T, b2_F, if_true, if_false, ↓mjn_b, ↓mjn0_b, ↓mjn2_b, iv_lit, iv_add, iv_sub, iv_mul, iv_neg, iv_le_t, iv_le_f, iv_lt_t, iv_lt_f, iv_eq_t, iv_eq_f, iv_div, iv_mod, mretT_p, mretT_b, e_mret, ↓e_bret, ↓m_mon, ↓m_oI0, m_pI0, ↓m_oI3, m_pI3, ↓m_oI5, m_pI5, ↓m_oI7, m_pI7, ↓m_oI11, m_pI11, ↓m_oI12, m_pI12, ↓m_oI13, m_pI13, ↓m_oI14, m_pI14, ↓m_oI15, m_pI15, ↓m_oI16, m_pI16, ↓m_oI17, m_pI17, m_pZ5, m_pZ12, ↓m_oR1, m_aI1, m_sI1, ↓m_oR2, m_aI2, m_sI2, ↓m_oR4, m_aI4, m_sI4, ↓m_oR6, m_aI6, m_sI6, ↓m_oR8, m_aI8, m_sI8, ↓m_oR9, m_aI9, m_sI9, ↓m_oR10, m_aI10, m_sI10, ↓s_o7 ho, ↓eF, ↓s_o9 ho, ↓eW, ↓g_o0 hga, ↓s_o5 ho, ↓eg, ↓ec, ↓g_o2 hga, ↓g_o2 hgb]
            · simp (disch := omega) only [↓reduceIte, Int.reduceEq, Int.reduceNe, Int.reduceLT, Int.reduceLE, Int.reduceNeg, Int.reduceMod, Int.reduceDiv, Int.reduceAdd, Int.reduceSub, Int.reduceMul, not_true_eq_false, not_false_eq_true, Int.lt_irrefl, true_or, or_true, false_or, or_false, true_and, and_true, false_and, and_false, b2_T, b2_F, if_true, if_false, ↓mjn_b, ↓mjn0_b, ↓mjn2_b, iv_lit, iv_add, iv_sub, iv_mul, iv_neg, iv_le_t, iv_le_f, iv_lt_t, iv_lt_f, iv_eq_t, iv_eq_f, iv_div, iv_mod, mretT_p, mretT_b, e_mret, ↓e_bret, ↓m_mon, ↓m_oI0, m_pI0, ↓m_oI3, m_pI3, ↓m_oI5, m_pI5, ↓m_oI7, m_pI7, ↓m_oI11, m_pI11, ↓m_oI12, m_pI12, ↓m_oI13, m_pI13, ↓m_oI14, m_pI14, ↓m_oI15, m_pI15, ↓m_oI16, m_pI16, ↓m_oI17, m_pI17, m_pZ5, m_pZ12, ↓m_oR1, m_aI1, m_sI1, ↓m_oR2, m_aI2, m_sI2, ↓m_oR4, m_aI4, m_sI4, ↓m_oR6, m_aI6, m_sI6, ↓m_oR8, m_aI8, m_sI8, ↓m_oR9, m_aI9, m_sI9, ↓m_oR10, m_aI10, m_sI10, ↓s_o7 ho, ↓eF, ↓s_o9 ho, ↓eW, ↓g_o0 hga, ↓s_o5 ho, ↓eg, ↓ec, ↓g_o2 hga, ↓g_o2 hgb]
          · rw [b2_f (fun q => h6 q.2.2)]
            rcases h2c with h2c | h2c
            · simp (disch := omega) only [↓reduceIte, Int.reduceEq, Int.reduceNe, Int.reduceLT, Int.reduceLE, Int.reduceNeg, Int.reduceMod, Int.reduceDiv, Int.reduceAdd, Int.reduceSub, Int.reduceMul, not_true_eq_false, not_false_eq_true, Int.lt_irrefl, true_or, or_true, false_or, or_false, true_and, and_true, false_and, and_false, b2_T, b2_F, if_true, if_false, ↓mjn_b, ↓mjn0_b, ↓mjn2_b, iv_lit, iv_add, iv_sub, iv_mul, iv_neg, iv_le_t, iv_le_f, iv_lt_t, iv_lt_f, iv_eq_t, iv_eq_f, iv_div, iv_mod, mretT_p, mretT_b, e_mret, ↓e_bret, ↓m_mon, ↓m_oI0, m_pI0, ↓m_oI3, m_pI3, ↓m_oI5, m_pI5, ↓m_oI7, m_pI7, ↓m_oI11, m_pI11, ↓m_oI12, m_pI12, ↓m_oI13, m_pI13, ↓m_oI14, m_pI14, ↓m_oI15, m_pI15, ↓m_oI16, m_pI16, ↓m_oI17, m_pI17, m_pZ5, m_pZ12, ↓m_oR1, m_aI1, m_sI1, ↓m_oR2, m_aI2, m_sI2, ↓m_oR4, m_aI4, m_sI4, ↓m_oR6, m_aI6, m_sI6, ↓m_oR8, m_aI8, m_sI8, ↓m_oR9, m_aI9, m_sI9, ↓m_oR10, m_aI10, m_sI10, ↓s_o7 ho, ↓eF, ↓s_o9 ho, ↓eW, ↓g_o0 hga, ↓s_o5 ho, ↓eg, ↓ec, ↓g_o2 hga, ↓g_o2 hgb]
            · simp (disch := omega) only [↓reduceIte, Int.reduceEq, Int.reduceNe, Int.reduceLT, Int.reduceLE, Int.reduceNeg, Int.reduceMod, Int.reduceDiv, Int.reduceAdd, Int.reduceSub, Int.reduceMul, not_true_eq_false, not_false_eq_true, Int.lt_irrefl, true_or, or_true, false_or, or_false, true_and, and_true, false_and, and_false, b2_T, b2_F, if_true, if_false, ↓mjn_b, ↓mjn0_b, ↓mjn2_b, iv_lit, iv_add, iv_sub, iv_mul, iv_neg, iv_le_t, iv_le_f, iv_lt_t, iv_lt_f, iv_eq_t, iv_eq_f, iv_div, iv_mod, mretT_p, mretT_b, e_mret, ↓e_bret, ↓m_mon, ↓m_oI0, m_pI0, ↓m_oI3, m_pI3, ↓m_oI5, m_pI5, ↓m_oI7, m_pI7, ↓m_oI11, m_pI11, ↓m_oI12, m_pI12, ↓m_oI13, m_pI13, ↓m_oI14, m_pI14, ↓m_oI15, m_pI15, ↓m_oI16, m_pI16, ↓m_oI17, m_pI17, m_pZ5, m_pZ12, ↓m_oR1, m_aI1, m_sI1, ↓m_oR2, m_aI2, m_sI2, ↓m_oR4, m_aI4, m_sI4, ↓m_oR6, m_aI6, m_sI6, ↓m_oR8, m_aI8, m_sI8, ↓m_oR9, m_aI9, m_sI9, ↓m_oR10, m_aI10, m_sI10, ↓s_o7 ho, ↓eF, ↓s_o9 ho, ↓eW, ↓g_o0 hga, ↓s_o5 ho, ↓eg, ↓ec, ↓g_o2 hga, ↓g_o2 hgb]
theorem X2_blockedFrom_L7_ev {g : Nat → Nat} {h : Nat → Option hC} {n w a : Nat} {D : Nat → Nat} {tb gb : Int → Nat} {z : Int → Int} {i c : Int} (hz : wZ z) (hs : ST g h a D tb gb z) (hi : 0 ≤ i ∧ i < z 60) (hc : cin c) : ∀ (k nn : Nat), k < nn → (k : Int) ≤ c / 16 → fX2_blockedFrom_L7 g nn (some a) (iv c) (some (gb i)) (iv ((k : Int) - 1)) (h, n, w) = some (iv (blk z i c k), (h, n, w)) := by
  have h0 := hz.1.1
  have hc2 := hc
  unfold cin at hc2
  intro k
  induction k with
  | zero =>
    intro nn hn he
    obtain ⟨q, rfl⟩ : ∃ q, nn = q + 1 := ⟨nn - 1, by omega⟩
    show _ = some (iv (-1), (h, n, w))
    simp (disch := omega) only [↓reduceIte, Int.reduceEq, Int.reduceNe, Int.reduceLT, Int.reduceLE, Int.reduceNeg, Int.reduceMod, Int.reduceDiv, Int.reduceAdd, Int.reduceSub, Int.reduceMul, not_true_eq_false, not_false_eq_true, Int.lt_irrefl, true_or, or_true, false_or, or_false, true_and, and_true, false_and, and_false, b2_T, b2_F, if_true, if_false, ↓mjn_b, ↓mjn0_b, ↓mjn2_b, iv_lit, iv_add, iv_sub, iv_mul, iv_neg, iv_le_t, iv_le_f, iv_lt_t, iv_lt_f, iv_eq_t, iv_eq_f, iv_div, iv_mod, mretT_p, mretT_b, e_mret, ↓e_bret, ↓m_mon, ↓m_oI0, m_pI0, ↓m_oI3, m_pI3, ↓m_oI5, m_pI5, ↓m_oI7, m_pI7, ↓m_oI11, m_pI11, ↓m_oI12, m_pI12, ↓m_oI13, m_pI13, ↓m_oI14, m_pI14, ↓m_oI15, m_pI15, ↓m_oI16, m_pI16, ↓m_oI17, m_pI17, m_pZ5, m_pZ12, ↓m_oR1, m_aI1, m_sI1, ↓m_oR2, m_aI2, m_sI2, ↓m_oR4, m_aI4, m_sI4, ↓m_oR6, m_aI6, m_sI6, ↓m_oR8, m_aI8, m_sI8, ↓m_oR9, m_aI9, m_sI9, ↓m_oR10, m_aI10, m_sI10, fX2_blockedFrom_L7, Int.natCast_zero, Int.zero_sub]
  | succ k ih =>
    intro nn hn he
    obtain ⟨q, rfl⟩ : ∃ q, nn = q + 1 := ⟨nn - 1, by omega⟩
    have hk : ((k + 1 : Nat) : Int) - 1 = k := by omega
    rw [hk]
    have hr := lcol_rg h0 hc2 (r := k) (by omega)
    have el := fun (K : Int32 → HM Int32) => X2_line_c (g := g) (K := K) (n := n) (w := w) (r := k) hs.1.1 h0 hc (by omega)
    have es := fun (K : Int32 → HM Int32) => X2_standsInTheWay_c (K := K) (n := n) (w := w) (c := 16 * (k : Int) + lcol z c k) hz hs hi (by unfold cin; omega)
    have e2 := ih q (by omega) (by omega)
    rw [show blk z i c (k + 1) = @ite Int (stn z i (16 * (k : Int) + lcol z c k)) (Classical.propDecidable _) (16 * (k : Int) + lcol z c k) (blk z i c k) from rfl]
    by_cases e : stn z i (16 * (k : Int) + lcol z c k)
    · rw [if_pos e]
      rw [b2_t e] at es
      simp (disch := omega) only [↓reduceIte, Int.reduceEq, Int.reduceNe, Int.reduceLT, Int.reduceLE, Int.reduceNeg, Int.reduceMod, Int.reduceDiv, Int.reduceAdd, Int.reduceSub, Int.reduceMul, not_true_eq_false, not_false_eq_true, Int.lt_irrefl, true_or, or_true, false_or, or_false, true_and, and_true, false_and, and_false, b2_T, b2_F, if_true, if_false, ↓mjn_b, ↓mjn0_b, ↓mjn2_b, iv_lit, iv_add, iv_sub, iv_mul, iv_neg, iv_le_t, iv_le_f, iv_lt_t, iv_lt_f, iv_eq_t, iv_eq_f, iv_div, iv_mod, mretT_p, mretT_b, e_mret, ↓e_bret, ↓m_mon, ↓m_oI0, m_pI0, ↓m_oI3, m_pI3, ↓m_oI5, m_pI5, ↓m_oI7, m_pI7, ↓m_oI11, m_pI11, ↓m_oI12, m_pI12, ↓m_oI13, m_pI13, ↓m_oI14, m_pI14, ↓m_oI15, m_pI15, ↓m_oI16, m_pI16, ↓m_oI17, m_pI17, m_pZ5, m_pZ12, ↓m_oR1, m_aI1, m_sI1, ↓m_oR2, m_aI2, m_sI2, ↓m_oR4, m_aI4, m_sI4, ↓m_oR6, m_aI6, m_sI6, ↓m_oR8, m_aI8, m_sI8, ↓m_oR9, m_aI9, m_sI9, ↓m_oR10, m_aI10, m_sI10, fX2_blockedFrom_L7, ↓el, ↓es]
    · rw [if_neg e]
      rw [b2_f e] at es
      rw [← e2, show (k : Int) - 1 = k + (-1) by omega]
      simp (disch := omega) only [↓reduceIte, Int.reduceEq, Int.reduceNe, Int.reduceLT, Int.reduceLE, Int.reduceNeg, Int.reduceMod, Int.reduceDiv, Int.reduceAdd, Int.reduceSub, Int.reduceMul, not_true_eq_false, not_false_eq_true, Int.lt_irrefl, true_or, or_true, false_or, or_false, true_and, and_true, false_and, and_false, b2_T, b2_F, if_true, if_false, ↓mjn_b, ↓mjn0_b, ↓mjn2_b, iv_lit, iv_add, iv_sub, iv_mul, iv_neg, iv_le_t, iv_le_f, iv_lt_t, iv_lt_f, iv_eq_t, iv_eq_f, iv_div, iv_mod, mretT_p, mretT_b, e_mret, ↓e_bret, ↓m_mon, ↓m_oI0, m_pI0, ↓m_oI3, m_pI3, ↓m_oI5, m_pI5, ↓m_oI7, m_pI7, ↓m_oI11, m_pI11, ↓m_oI12, m_pI12, ↓m_oI13, m_pI13, ↓m_oI14, m_pI14, ↓m_oI15, m_pI15, ↓m_oI16, m_pI16, ↓m_oI17, m_pI17, m_pZ5, m_pZ12, ↓m_oR1, m_aI1, m_sI1, ↓m_oR2, m_aI2, m_sI2, ↓m_oR4, m_aI4, m_sI4, ↓m_oR6, m_aI6, m_sI6, ↓m_oR8, m_aI8, m_sI8, ↓m_oR9, m_aI9, m_sI9, ↓m_oR10, m_aI10, m_sI10, fX2_blockedFrom_L7, ↓el, ↓es]
theorem X2_blockedFrom_c {β : Type} {K : Int32 → HM β} {g : Nat → Nat} {h : Nat → Option hC} {n w a : Nat} {D : Nat → Nat} {tb gb : Int → Nat} {z : Int → Int} {i c : Int} (hz : wZ z) (hs : ST g h a D tb gb z) (hi : 0 ≤ i ∧ i < z 60) (hc : cin c) : mb (mon 1 (some a) (mcall0 (fX2_blockedFrom g (some a) (iv c) (some (gb i))))) K (h, n, w) = K (iv (blkd z i c)) (h, n, w) := by
  have hc2 := hc
  unfold cin at hc2
  have ho := hs.1.1
  unfold SO at ho
  rw [c_mon ho]
  refine e_call0 (u' := 0) ?_
  have e := X2_blockedFrom_L7_ev (n := n) (w := 0) hz hs hi hc (c / 16).toNat 5000 (by omega) (by omega)
  rw [show (((c / 16).toNat : Nat) : Int) = c / 16 by omega] at e
  unfold fX2_blockedFrom blkd
  rw [← e]
  simp (disch := omega) only [↓reduceIte, Int.reduceEq, Int.reduceNe, Int.reduceLT, Int.reduceLE, Int.reduceNeg, Int.reduceMod, Int.reduceDiv, Int.reduceAdd, Int.reduceSub, Int.reduceMul, not_true_eq_false, not_false_eq_true, Int.lt_irrefl, true_or, or_true, false_or, or_false, true_and, and_true, false_and, and_false, b2_T, b2_F, if_true, if_false, ↓mjn_b, ↓mjn0_b, ↓mjn2_b, iv_lit, iv_add, iv_sub, iv_mul, iv_neg, iv_le_t, iv_le_f, iv_lt_t, iv_lt_f, iv_eq_t, iv_eq_f, iv_div, iv_mod, mretT_p, mretT_b, e_mret, ↓e_bret, ↓m_mon, ↓m_oI0, m_pI0, ↓m_oI3, m_pI3, ↓m_oI5, m_pI5, ↓m_oI7, m_pI7, ↓m_oI11, m_pI11, ↓m_oI12, m_pI12, ↓m_oI13, m_pI13, ↓m_oI14, m_pI14, ↓m_oI15, m_pI15, ↓m_oI16, m_pI16, ↓m_oI17, m_pI17, m_pZ5, m_pZ12, ↓m_oR1, m_aI1, m_sI1, ↓m_oR2, m_aI2, m_sI2, ↓m_oR4, m_aI4, m_sI4, ↓m_oR6, m_aI6, m_sI6, ↓m_oR8, m_aI8, m_sI8, ↓m_oR9, m_aI9, m_sI9, ↓m_oR10, m_aI10, m_sI10]
theorem X2_sees_c {β : Type} {K : Int32 → HM β} {g : Nat → Nat} {h : Nat → Option hC} {n w a : Nat} {D : Nat → Nat} {tb gb : Int → Nat} {z : Int → Int} {i : Int} (hg : gD g) (hz : wZ z) (hs : ST g h a D tb gb z) (hi : 0 ≤ i ∧ i < z 60) : mb (mon 1 (some a) (mcall0 (fX2_sees g (some a) (iv i)))) K (h, n, w) = K (iv (b2 (sees z i))) (h, n, w) := by
  have ho := hs.1.1
  unfold SO at ho
  have hgu := hs.2.1.2 i hi.1 hi.2
  obtain ⟨nm, hga, -⟩ := id hgu
  have eg := fun (K : Option Nat → HM Int32) => J2_get_c (K := K) (n := n) (w := 0) (i := i) hs.2.1.1 hi
  have ec := fun (K : Unit → HM Int32) => c_mcst (K := K) (n := n) (w := 0) (cs := [3]) hga (List.mem_cons_self ..)
  have es := fun (K : Int32 → HM Int32) => X8_sits_c (K := K) (g := g) (n := n) (w := 0) hz hi hgu
  rw [c_mon ho]
  refine e_call0 (u' := 0) ?_
  unfold fX2_sees sees
  by_cases e : sits z i
  · rw [b2_t e] at es
    have hcc := cgl_cin hz hi e
    have eo := fun (K : Int32 → HM Int32) => X2_cellOf_c (K := K) (n := n) (w := 0) hg hz hs.1 hs.2.1 hi e
    have ebl := fun (K : Int32 → HM Int32) => X2_blockedFrom_c (K := K) (n := n) (w := 0) hz hs hi hcc
    have hbr := blk_rg (g := i) (c := cgl z i) hz.1.1 (by unfold cin at hcc; exact hcc) (cgl z i / 16).toNat (by unfold cin at hcc; omega)
    change -1 ≤ blkd z i (cgl z i) ∧ blkd z i (cgl z i) < 192 at hbr
    by_cases f : blkd z i (cgl z i) = -1
    · rw [b2_t ⟨e, f⟩]
      simp (disch := omega) only [↓reduceIte, Int.reduceEq, Int.reduceNe, Int.reduceLT, Int.reduceLE, Int.reduceNeg, Int.reduceMod, Int.reduceDiv, Int.reduceAdd, Int.reduceSub, Int.reduceMul, not_true_eq_false, not_false_eq_true, Int.lt_irrefl, true_or, or_true, false_or, or_false, true_and, and_true, false_and, and_false, b2_T, b2_F, if_true, if_false, ↓mjn_b, ↓mjn0_b, ↓mjn2_b, iv_lit, iv_add, iv_sub, iv_mul, iv_neg, iv_le_t, iv_le_f, iv_lt_t, iv_lt_f, iv_eq_t, iv_eq_f, iv_div, iv_mod, mretT_p, mretT_b, e_mret, ↓e_bret, ↓m_mon, ↓m_oI0, m_pI0, ↓m_oI3, m_pI3, ↓m_oI5, m_pI5, ↓m_oI7, m_pI7, ↓m_oI11, m_pI11, ↓m_oI12, m_pI12, ↓m_oI13, m_pI13, ↓m_oI14, m_pI14, ↓m_oI15, m_pI15, ↓m_oI16, m_pI16, ↓m_oI17, m_pI17, m_pZ5, m_pZ12, ↓m_oR1, m_aI1, m_sI1, ↓m_oR2, m_aI2, m_sI2, ↓m_oR4, m_aI4, m_sI4, ↓m_oR6, m_aI6, m_sI6, ↓m_oR8, m_aI8, m_sI8, ↓m_oR9, m_aI9, m_sI9, ↓m_oR10, m_aI10, m_sI10, ↓s_o5 ho, ↓eg, ↓ec, ↓es, ↓eo, ↓ebl, f]
    · rw [b2_f (fun q => f q.2)]
      simp (disch := omega) only [↓reduceIte, Int.reduceEq, Int.reduceNe, Int.reduceLT, Int.reduceLE, Int.reduceNeg, Int.reduceMod, Int.reduceDiv, Int.reduceAdd, Int.reduceSub, Int.reduceMul, not_true_eq_false, not_false_eq_true, Int.lt_irrefl, true_or, or_true, false_or, or_false, true_and, and_true, false_and, and_false, b2_T, b2_F, if_true, if_false, ↓mjn_b, ↓mjn0_b, ↓mjn2_b, iv_lit, iv_add, iv_sub, iv_mul, iv_neg, iv_le_t, iv_le_f, iv_lt_t, iv_lt_f, iv_eq_t, iv_eq_f, iv_div, iv_mod, mretT_p, mretT_b, e_mret, ↓e_bret, ↓m_mon, ↓m_oI0, m_pI0, ↓m_oI3, m_pI3, ↓m_oI5, m_pI5, ↓m_oI7, m_pI7, ↓m_oI11, m_pI11, ↓m_oI12, m_pI12, ↓m_oI13, m_pI13, ↓m_oI14, m_pI14, ↓m_oI15, m_pI15, ↓m_oI16, m_pI16, ↓m_oI17, m_pI17, m_pZ5, m_pZ12, ↓m_oR1, m_aI1, m_sI1, ↓m_oR2, m_aI2, m_sI2, ↓m_oR4, m_aI4, m_sI4, ↓m_oR6, m_aI6, m_sI6, ↓m_oR8, m_aI8, m_sI8, ↓m_oR9, m_aI9, m_sI9, ↓m_oR10, m_aI10, m_sI10, ↓s_o5 ho, ↓eg, ↓ec, ↓es, ↓eo, ↓ebl, f]
  · rw [b2_f e] at es
    rw [b2_f (fun q => e q.1)]
    simp (disch := omega) only [↓reduceIte, Int.reduceEq, Int.reduceNe, Int.reduceLT, Int.reduceLE, Int.reduceNeg, Int.reduceMod, Int.reduceDiv, Int.reduceAdd, Int.reduceSub, Int.reduceMul, not_true_eq_false, not_false_eq_true, Int.lt_irrefl, true_or, or_true, false_or, or_false, true_and, and_true, false_and, and_false, b2_T, b2_F, if_true, if_false, ↓mjn_b, ↓mjn0_b, ↓mjn2_b, iv_lit, iv_add, iv_sub, iv_mul, iv_neg, iv_le_t, iv_le_f, iv_lt_t, iv_lt_f, iv_eq_t, iv_eq_f, iv_div, iv_mod, mretT_p, mretT_b, e_mret, ↓e_bret, ↓m_mon, ↓m_oI0, m_pI0, ↓m_oI3, m_pI3, ↓m_oI5, m_pI5, ↓m_oI7, m_pI7, ↓m_oI11, m_pI11, ↓m_oI12, m_pI12, ↓m_oI13, m_pI13, ↓m_oI14, m_pI14, ↓m_oI15, m_pI15, ↓m_oI16, m_pI16, ↓m_oI17, m_pI17, m_pZ5, m_pZ12, ↓m_oR1, m_aI1, m_sI1, ↓m_oR2, m_aI2, m_sI2, ↓m_oR4, m_aI4, m_sI4, ↓m_oR6, m_aI6, m_sI6, ↓m_oR8, m_aI8, m_sI8, ↓m_oR9, m_aI9, m_sI9, ↓m_oR10, m_aI10, m_sI10, ↓s_o5 ho, ↓eg, ↓ec, ↓es]
theorem X2_seeing_L14_ev {g : Nat → Nat} {h : Nat → Option hC} {n w a : Nat} {D : Nat → Nat} {tb gb : Int → Nat} {z : Int → Int} (hg : gD g) (hz : wZ z) (hs : ST g h a D tb gb z) : ∀ (k nn : Nat) (s i : Int), k < nn → 0 ≤ i → i + k = z 60 → fX2_seeing_L14 g nn (some a) (iv (z 60)) (iv s) (iv i) (h, n, w) = some (iv (foldI (fun a j => a + b2 (sees z j)) s i k), (h, n, w)) := by
  have h60 := wZ_60 hz
  have ho := hs.1.1
  unfold SO at ho
  intro k
  induction k with
  | zero =>
    intro nn s i hn hi he
    obtain ⟨q, rfl⟩ : ∃ q, nn = q + 1 := ⟨nn - 1, by omega⟩
    show _ = some (iv s, (h, n, w))
    simp (disch := omega) only [↓reduceIte, Int.reduceEq, Int.reduceNe, Int.reduceLT, Int.reduceLE, Int.reduceNeg, Int.reduceMod, Int.reduceDiv, Int.reduceAdd, Int.reduceSub, Int.reduceMul, not_true_eq_false, not_false_eq_true, Int.lt_irrefl, true_or, or_true, false_or, or_false, true_and, and_true, false_and, and_false, b2_T, b2_F, if_true, if_false, ↓mjn_b, ↓mjn0_b, ↓mjn2_b, iv_lit, iv_add, iv_sub, iv_mul, iv_neg, iv_le_t, iv_le_f, iv_lt_t, iv_lt_f, iv_eq_t, iv_eq_f, iv_div, iv_mod, mretT_p, mretT_b, e_mret, ↓e_bret, ↓m_mon, ↓m_oI0, m_pI0, ↓m_oI3, m_pI3, ↓m_oI5, m_pI5, ↓m_oI7, m_pI7, ↓m_oI11, m_pI11, ↓m_oI12, m_pI12, ↓m_oI13, m_pI13, ↓m_oI14, m_pI14, ↓m_oI15, m_pI15, ↓m_oI16, m_pI16, ↓m_oI17, m_pI17, m_pZ5, m_pZ12, ↓m_oR1, m_aI1, m_sI1, ↓m_oR2, m_aI2, m_sI2, ↓m_oR4, m_aI4, m_sI4, ↓m_oR6, m_aI6, m_sI6, ↓m_oR8, m_aI8, m_sI8, ↓m_oR9, m_aI9, m_sI9, ↓m_oR10, m_aI10, m_sI10, fX2_seeing_L14]
  | succ k ih =>
    intro nn s i hn hi he
    obtain ⟨q, rfl⟩ : ∃ q, nn = q + 1 := ⟨nn - 1, by omega⟩
    have hii : 0 ≤ i ∧ i < z 60 := ⟨hi, by omega⟩
    have es := fun (K : Int32 → HM Int32) => X2_sees_c (K := K) (n := n) (w := w) hg hz hs hii
    show _ = some (iv (foldI (fun a j => a + b2 (sees z j)) (s + b2 (sees z i)) (i + 1) k), (h, n, w))
    rw [← ih q _ (i + 1) (by omega) (by omega) (by omega)]
    by_cases e : sees z i
    · rw [b2_t e] at es ⊢
      simp (disch := omega) only [↓reduceIte, Int.reduceEq, Int.reduceNe, Int.reduceLT, Int.reduceLE, Int.reduceNeg, Int.reduceMod, Int.reduceDiv, Int.reduceAdd, Int.reduceSub, Int.reduceMul, not_true_eq_false, not_false_eq_true, Int.lt_irrefl, true_or, or_true, false_or, or_false, true_and, and_true, false_and, and_false, b2_T, b2_F, if_true, if_false, ↓mjn_b, ↓mjn0_b, ↓mjn2_b, iv_lit, iv_add, iv_sub, iv_mul, iv_neg, iv_le_t, iv_le_f, iv_lt_t, iv_lt_f, iv_eq_t, iv_eq_f, iv_div, iv_mod, mretT_p, mretT_b, e_mret, ↓e_bret, ↓m_mon, ↓m_oI0, m_pI0, ↓m_oI3, m_pI3, ↓m_oI5, m_pI5, ↓m_oI7, m_pI7, ↓m_oI11, m_pI11, ↓m_oI12, m_pI12, ↓m_oI13, m_pI13, ↓m_oI14, m_pI14, ↓m_oI15, m_pI15, ↓m_oI16, m_pI16, ↓m_oI17, m_pI17, m_pZ5, m_pZ12, ↓m_oR1, m_aI1, m_sI1, ↓m_oR2, m_aI2, m_sI2, ↓m_oR4, m_aI4, m_sI4, ↓m_oR6, m_aI6, m_sI6, ↓m_oR8, m_aI8, m_sI8, ↓m_oR9, m_aI9, m_sI9, ↓m_oR10, m_aI10, m_sI10, fX2_seeing_L14, ↓es]
    · rw [b2_f e] at es ⊢
      simp (disch := omega) only [↓reduceIte, Int.reduceEq, Int.reduceNe, Int.reduceLT, Int.reduceLE, Int.reduceNeg, Int.reduceMod, Int.reduceDiv, Int.reduceAdd, Int.reduceSub, Int.reduceMul, not_true_eq_false, not_false_eq_true, Int.lt_irrefl, true_or, or_true, false_or, or_false, true_and, and_true, false_and, and_false, b2_T, b2_F, if_true, if_false, ↓mjn_b, ↓mjn0_b, ↓mjn2_b, iv_lit, iv_add, iv_sub, iv_mul, iv_neg, iv_le_t, iv_le_f, iv_lt_t, iv_lt_f, iv_eq_t, iv_eq_f, iv_div, iv_mod, mretT_p, mretT_b, e_mret, ↓e_bret, ↓m_mon, ↓m_oI0, m_pI0, ↓m_oI3, m_pI3, ↓m_oI5, m_pI5, ↓m_oI7, m_pI7, ↓m_oI11, m_pI11, ↓m_oI12, m_pI12, ↓m_oI13, m_pI13, ↓m_oI14, m_pI14, ↓m_oI15, m_pI15, ↓m_oI16, m_pI16, ↓m_oI17, m_pI17, m_pZ5, m_pZ12, ↓m_oR1, m_aI1, m_sI1, ↓m_oR2, m_aI2, m_sI2, ↓m_oR4, m_aI4, m_sI4, ↓m_oR6, m_aI6, m_sI6, ↓m_oR8, m_aI8, m_sI8, ↓m_oR9, m_aI9, m_sI9, ↓m_oR10, m_aI10, m_sI10, fX2_seeing_L14, ↓es]
theorem X2_seeing_c {β : Type} {K : Int32 → HM β} {g : Nat → Nat} {h : Nat → Option hC} {n w a : Nat} {D : Nat → Nat} {tb gb : Int → Nat} {z : Int → Int} (hg : gD g) (hz : wZ z) (hs : ST g h a D tb gb z) : mb (mon 1 (some a) (mcall0 (fX2_seeing g (some a)))) K (h, n, w) = K (iv (seez z)) (h, n, w) := by
  have h60 := wZ_60 hz
  have ho := hs.1.1
  unfold SO at ho
  rw [c_mon ho]
  refine e_call0 (u' := 0) ?_
  have e := X2_seeing_L14_ev (n := n) (w := 0) hg hz hs (z 60).toNat 5000 0 0 (by omega) (by omega) (by omega)
  unfold fX2_seeing seez
  rw [← e, s_o5 ho, J2_size_c hs.2.1.1]
  simp only [iv_lit]
theorem X2_seated_L14_ev {g : Nat → Nat} {h : Nat → Option hC} {n w a : Nat} {D : Nat → Nat} {tb gb : Int → Nat} {z : Int → Int} (hg : gD g) (hz : wZ z) (hs : ST g h a D tb gb z) : ∀ (k nn : Nat) (s i : Int), k < nn → 0 ≤ i → i + k = z 60 → fX2_seated_L14 g nn (some a) (iv (z 60)) (iv s) (iv i) (h, n, w) = some (iv (foldI (fun a j => a + b2 (sits z j)) s i k), (h, n, w)) := by
  have h60 := wZ_60 hz
  have ho := hs.1.1
  unfold SO at ho
  intro k
  induction k with
  | zero =>
    intro nn s i hn hi he
    obtain ⟨q, rfl⟩ : ∃ q, nn = q + 1 := ⟨nn - 1, by omega⟩
    show _ = some (iv s, (h, n, w))
    simp (disch := omega) only [↓reduceIte, Int.reduceEq, Int.reduceNe, Int.reduceLT, Int.reduceLE, Int.reduceNeg, Int.reduceMod, Int.reduceDiv, Int.reduceAdd, Int.reduceSub, Int.reduceMul, not_true_eq_false, not_false_eq_true, Int.lt_irrefl, true_or, or_true, false_or, or_false, true_and, and_true, false_and, and_false, b2_T, b2_F, if_true, if_false, ↓mjn_b, ↓mjn0_b, ↓mjn2_b, iv_lit, iv_add, iv_sub, iv_mul, iv_neg, iv_le_t, iv_le_f, iv_lt_t, iv_lt_f, iv_eq_t, iv_eq_f, iv_div, iv_mod, mretT_p, mretT_b, e_mret, ↓e_bret, ↓m_mon, ↓m_oI0, m_pI0, ↓m_oI3, m_pI3, ↓m_oI5, m_pI5, ↓m_oI7, m_pI7, ↓m_oI11, m_pI11, ↓m_oI12, m_pI12, ↓m_oI13, m_pI13, ↓m_oI14, m_pI14, ↓m_oI15, m_pI15, ↓m_oI16, m_pI16, ↓m_oI17, m_pI17, m_pZ5, m_pZ12, ↓m_oR1, m_aI1, m_sI1, ↓m_oR2, m_aI2, m_sI2, ↓m_oR4, m_aI4, m_sI4, ↓m_oR6, m_aI6, m_sI6, ↓m_oR8, m_aI8, m_sI8, ↓m_oR9, m_aI9, m_sI9, ↓m_oR10, m_aI10, m_sI10, fX2_seated_L14]
  | succ k ih =>
    intro nn s i hn hi he
    obtain ⟨q, rfl⟩ : ∃ q, nn = q + 1 := ⟨nn - 1, by omega⟩
    have hii : 0 ≤ i ∧ i < z 60 := ⟨hi, by omega⟩
    have hgu := hs.2.1.2 i hii.1 hii.2
    obtain ⟨nm, hga, -⟩ := id hgu
    have eg := fun (K : Option Nat → HM Int32) => J2_get_c (K := K) (n := n) (w := w) (i := i) hs.2.1.1 hii
    have ec := fun (K : Unit → HM Int32) => c_mcst (K := K) (n := n) (w := w) (cs := [3]) hga (List.mem_cons_self ..)
    have es := fun (K : Int32 → HM Int32) => X8_sits_c (K := K) (g := g) (n := n) (w := w) hz hii hgu
    show _ = some (iv (foldI (fun a j => a + b2 (sits z j)) (s + b2 (sits z i)) (i + 1) k), (h, n, w))
    rw [← ih q _ (i + 1) (by omega) (by omega) (by omega)]
    by_cases e : sits z i
    · rw [b2_t e] at es ⊢
      simp (disch := omega) only [↓reduceIte, Int.reduceEq, Int.reduceNe, Int.reduceLT, Int.reduceLE, Int.reduceNeg, Int.reduceMod, Int.reduceDiv, Int.reduceAdd, Int.reduceSub, Int.reduceMul, not_true_eq_false, not_false_eq_true, Int.lt_irrefl, true_or, or_true, false_or, or_false, true_and, and_true, false_and, and_false, b2_T, b2_F, if_true, if_false, ↓mjn_b, ↓mjn0_b, ↓mjn2_b, iv_lit, iv_add, iv_sub, iv_mul, iv_neg, iv_le_t, iv_le_f, iv_lt_t, iv_lt_f, iv_eq_t, iv_eq_f, iv_div, iv_mod, mretT_p, mretT_b, e_mret, ↓e_bret, ↓m_mon, ↓m_oI0, m_pI0, ↓m_oI3, m_pI3, ↓m_oI5, m_pI5, ↓m_oI7, m_pI7, ↓m_oI11, m_pI11, ↓m_oI12, m_pI12, ↓m_oI13, m_pI13, ↓m_oI14, m_pI14, ↓m_oI15, m_pI15, ↓m_oI16, m_pI16, ↓m_oI17, m_pI17, m_pZ5, m_pZ12, ↓m_oR1, m_aI1, m_sI1, ↓m_oR2, m_aI2, m_sI2, ↓m_oR4, m_aI4, m_sI4, ↓m_oR6, m_aI6, m_sI6, ↓m_oR8, m_aI8, m_sI8, ↓m_oR9, m_aI9, m_sI9, ↓m_oR10, m_aI10, m_sI10, fX2_seated_L14, ↓s_o5 ho, ↓eg, ↓ec, ↓es]
    · rw [b2_f e] at es ⊢
      simp (disch := omega) only [↓reduceIte, Int.reduceEq, Int.reduceNe, Int.reduceLT, Int.reduceLE, Int.reduceNeg, Int.reduceMod, Int.reduceDiv, Int.reduceAdd, Int.reduceSub, Int.reduceMul, not_true_eq_false, not_false_eq_true, Int.lt_irrefl, true_or, or_true, false_or, or_false, true_and, and_true, false_and, and_false, b2_T, b2_F, if_true, if_false, ↓mjn_b, ↓mjn0_b, ↓mjn2_b, iv_lit, iv_add, iv_sub, iv_mul, iv_neg, iv_le_t, iv_le_f, iv_lt_t, iv_lt_f, iv_eq_t, iv_eq_f, iv_div, iv_mod, mretT_p, mretT_b, e_mret, ↓e_bret, ↓m_mon, ↓m_oI0, m_pI0, ↓m_oI3, m_pI3, ↓m_oI5, m_pI5, ↓m_oI7, m_pI7, ↓m_oI11, m_pI11, ↓m_oI12, m_pI12, ↓m_oI13, m_pI13, ↓m_oI14, m_pI14, ↓m_oI15, m_pI15, ↓m_oI16, m_pI16, ↓m_oI17, m_pI17, m_pZ5, m_pZ12, ↓m_oR1, m_aI1, m_sI1, ↓m_oR2, m_aI2, m_sI2, ↓m_oR4, m_aI4, m_sI4, ↓m_oR6, m_aI6, m_sI6, ↓m_oR8, m_aI8, m_sI8, ↓m_oR9, m_aI9, m_sI9, ↓m_oR10, m_aI10, m_sI10, fX2_seated_L14, ↓s_o5 ho, ↓eg, ↓ec, ↓es]
theorem X2_seated_c {β : Type} {K : Int32 → HM β} {g : Nat → Nat} {h : Nat → Option hC} {n w a : Nat} {D : Nat → Nat} {tb gb : Int → Nat} {z : Int → Int} (hg : gD g) (hz : wZ z) (hs : ST g h a D tb gb z) : mb (mon 1 (some a) (mcall0 (fX2_seated g (some a)))) K (h, n, w) = K (iv (sitg z)) (h, n, w) := by
  have h60 := wZ_60 hz
  have ho := hs.1.1
  unfold SO at ho
  rw [c_mon ho]
  refine e_call0 (u' := 0) ?_
  have e := X2_seated_L14_ev (n := n) (w := 0) hg hz hs (z 60).toNat 5000 0 0 (by omega) (by omega) (by omega)
  unfold fX2_seated sitg
  rw [← e, s_o5 ho, J2_size_c hs.2.1.1]
  simp only [iv_lit]
