/-! ===== what a state is asked ===== -/
theorem c_mins1 {β : Type} {K : Int32 → HM β} {h : Nat → Option hC} {n w s ci : Nat} {fs : List Value} {yes no : List Nat} (hc : h s = some (.inr (ci, fs))) (hy : ci ∈ yes) : mb (mins yes no (some s)) K (h, n, w) = K 1 (h, n, w) := by
  unfold mb mins oC
  simp only [hc, hy, if_true]
theorem c_mins0 {β : Type} {K : Int32 → HM β} {h : Nat → Option hC} {n w s ci : Nat} {fs : List Value} {yes no : List Nat} (hc : h s = some (.inr (ci, fs))) (hy : ci ∉ yes) (hn : ci ∈ no) : mb (mins yes no (some s)) K (h, n, w) = K 0 (h, n, w) := by
  unfold mb mins oC
  simp only [hc, hy, hn, if_true, if_false]
theorem X1_cardWidth_c {β : Type} {K : Int32 → HM β} {g : Nat → Nat} {h : Nat → Option hC} {n w s : Nat} {k : Int} (hs : SH h s k) : mb (mcall0 (fX1_cardWidth g (some s))) K (h, n, w) = K (iv (caN k)) (h, n, w) := by
  refine e_call0 (u' := 0) ?_
  unfold fX1_cardWidth
  rcases hs with ⟨rfl, b⟩ | ⟨rfl, b⟩ | ⟨rfl, b⟩
  · rw [c_mins1 b (by decide)]
    rfl
  · rw [c_mins0 b (by decide) (by decide)]
    simp only [if_true]
    rw [c_mins1 b (by decide)]
    rfl
  · rw [c_mins0 b (by decide) (by decide)]
    simp only [if_true]
    rw [c_mins0 b (by decide) (by decide)]
    rfl
theorem X2_fits_c {β : Type} {K : Int32 → HM β} {g : Nat → Nat} {h : Nat → Option hC} {n w a : Nat} {D : Nat → Nat} {tb gb : Int → Nat} {z : Int → Int} {i t : Int} (hz : wZ z) (hs : ST g h a D tb gb z) (hi : 0 ≤ i ∧ i < z 60) (ht : 0 ≤ t ∧ t < z 15) : mb (mon 1 (some a) (mcall0 (fX2_fits g (some a) (iv i) (iv t)))) K (h, n, w) = K (iv (b2 (wid z i ≤ caN (zk z t)))) (h, n, w) := by
  have ho := hs.1.1
  unfold SO at ho
  have hi_gu := hs.2.1.2 i hi.1 hi.2
  obtain ⟨nm_i, hg_i, -⟩ := id hi_gu
  have eg_i := fun (K : Option Nat → HM Int32) => J2_get_c (K := K) (n := n) (w := 0) (i := i) hs.2.1.1 hi
  have ec_i := fun (K : Unit → HM Int32) => c_mcst (K := K) (n := n) (w := 0) (cs := [3]) hg_i (List.mem_cons_self ..)
  have es_i := fun (K : Int32 → HM Int32) => X8_sits_c (K := K) (g := g) (n := n) (w := 0) hz hi hi_gu
  have hb_t := hs.1.2.2.2 t ht.1 ht.2
  obtain ⟨s_t, ht_t, hh_t⟩ := id hb_t
  have eT_t := fun (K : Option Nat → HM Int32) => J2_get_c (K := K) (n := n) (w := 0) (i := t) hs.1.2.2.1 ht
  have eC_t := fun (K : Unit → HM Int32) => c_mcst (K := K) (n := n) (w := 0) (cs := [2]) ht_t (List.mem_cons_self ..)
  have ew := fun (K : Int32 → HM Int32) => X8_nameWidth_c (g := g) (K := K) (n := n) (w := 0) hz hi hi_gu
  have ek := fun (K : Int32 → HM Int32) => X1_cardWidth_c (g := g) (K := K) (n := n) (w := 0) hh_t
  have r1 := caN_rg (zk z t)
  have r2 := wid_rg (wZ_g hz hi).2.2.1
  rw [c_mon ho]
  refine e_call0 (u' := 0) ?_
  unfold fX2_fits
  by_cases e : wid z i ≤ caN (zk z t)
  · rw [b2_t e]
    simp (disch := omega) only [↓reduceIte, Int.reduceEq, Int.reduceNe, Int.reduceLT, Int.reduceLE, Int.reduceNeg, Int.reduceMod, Int.reduceDiv, Int.reduceAdd, Int.reduceSub, Int.reduceMul, not_true_eq_false, not_false_eq_true, Int.lt_irrefl, true_or, or_true, false_or, or_false, true_and, and_true, false_and, and_false, b2_T, b2_F, if_true, if_false, ↓mjn_b, ↓mjn0_b, ↓mjn2_b, iv_lit, iv_add, iv_sub, iv_mul, iv_neg, iv_le_t, iv_le_f, iv_lt_t, iv_lt_f, iv_eq_t, iv_eq_f, iv_div, iv_mod, mretT_p, mretT_b, e_mret, ↓e_bret, ↓m_mon, ↓m_oI0, m_pI0, ↓m_oI3, m_pI3, ↓m_oI5, m_pI5, ↓m_oI7, m_pI7, ↓m_oI11, m_pI11, ↓m_oI12, m_pI12, ↓m_oI13, m_pI13, ↓m_oI14, m_pI14, ↓m_oI15, m_pI15, ↓m_oI16, m_pI16, ↓m_oI17, m_pI17, m_pZ5, m_pZ12, ↓m_oR1, m_aI1, m_sI1, ↓m_oR2, m_aI2, m_sI2, ↓m_oR4, m_aI4, m_sI4, ↓m_oR6, m_aI6, m_sI6, ↓m_oR8, m_aI8, m_sI8, ↓m_oR9, m_aI9, m_sI9, ↓m_oR10, m_aI10, m_sI10, ↓s_o5 ho, ↓s_o4 ho, ↓eg_i, ↓ec_i, ↓ew, ↓eT_t, ↓eC_t, ↓t_o0 ht_t, ↓ek]
  · rw [b2_f e]
    simp (disch := omega) only [↓reduceIte, Int.reduceEq, Int.reduceNe, Int.reduceLT, Int.reduceLE, Int.reduceNeg, Int.reduceMod, Int.reduceDiv, Int.reduceAdd, Int.reduceSub, Int.reduceMul, not_true_eq_false, not_false_eq_true, Int.lt_irrefl, true_or, or_true, false_or, or_false, true_and, and_true, false_and, and_false, b2_T, b2_F, if_true, if_false, ↓mjn_b, ↓mjn0_b, ↓mjn2_b, iv_lit, iv_add, iv_sub, iv_mul, iv_neg, iv_le_t, iv_le_f, iv_lt_t, iv_lt_f, iv_eq_t, iv_eq_f, iv_div, iv_mod, mretT_p, mretT_b, e_mret, ↓e_bret, ↓m_mon, ↓m_oI0, m_pI0, ↓m_oI3, m_pI3, ↓m_oI5, m_pI5, ↓m_oI7, m_pI7, ↓m_oI11, m_pI11, ↓m_oI12, m_pI12, ↓m_oI13, m_pI13, ↓m_oI14, m_pI14, ↓m_oI15, m_pI15, ↓m_oI16, m_pI16, ↓m_oI17, m_pI17, m_pZ5, m_pZ12, ↓m_oR1, m_aI1, m_sI1, ↓m_oR2, m_aI2, m_sI2, ↓m_oR4, m_aI4, m_sI4, ↓m_oR6, m_aI6, m_sI6, ↓m_oR8, m_aI8, m_sI8, ↓m_oR9, m_aI9, m_sI9, ↓m_oR10, m_aI10, m_sI10, ↓s_o5 ho, ↓s_o4 ho, ↓eg_i, ↓ec_i, ↓ew, ↓eT_t, ↓eC_t, ↓t_o0 ht_t, ↓ek]
theorem X2_guestOn_c {β : Type} {K : Int32 → HM β} {g : Nat → Nat} {h : Nat → Option hC} {n w a : Nat} {D : Nat → Nat} {tb gb : Int → Nat} {z : Int → Int} {t c : Int} (hg : gD g) (hz : wZ z) (hs : ST g h a D tb gb z) (hc : isCh z t c) : mb (mon 1 (some a) (mcall0 (fX2_guestOn g (some a) (iv t) (iv c)))) K (h, n, w) = K (iv (sitr z t c)) (h, n, w) := by
  have ht := hc.1
  have ho := hs.1.1
  unfold SO at ho
  have hb_t := hs.1.2.2.2 t ht.1 ht.2
  obtain ⟨s_t, ht_t, hh_t⟩ := id hb_t
  have eT_t := fun (K : Option Nat → HM Int32) => J2_get_c (K := K) (n := n) (w := 0) (i := t) hs.1.2.2.1 ht
  have eC_t := fun (K : Unit → HM Int32) => c_mcst (K := K) (n := n) (w := 0) (cs := [2]) ht_t (List.mem_cons_self ..)
  have hwt := wZ_t hz ht
  have hci := chT_cin ((pck_0i hz.2.2.2.2.2.2).1 t ht.1 ht.2) hc.2
  have ev : 16 * (zp z t / 16 + chD (zk z t) (zt z t) c) + zp z t % 16 + chR (zk z t) (zt z t) c = chT z t c := by unfold chT; omega
  have ex := fun (K : Int32 → HM Int32) => X3_chair_c (g := g) (K := K) (n := n) (w := 0) hg hb_t hwt.2.2.1 hc.2
  rw [ev] at ex
  obtain ⟨W, hW, hW2⟩ := hs.2.2.2.2.2
  have eW := fun (K : Int32 → HM Int32) => c_aI (K := K) (n := n) (w := 0) (i := chT z t c) hW (by decide) hci
  rw [hW2 _ hci, sitC_sitr hz hc hci] at eW
  rw [c_mon ho]
  refine e_call0 (u' := 0) ?_
  unfold fX2_guestOn
  simp (disch := omega) only [↓reduceIte, Int.reduceEq, Int.reduceNe, Int.reduceLT, Int.reduceLE, Int.reduceNeg, Int.reduceMod, Int.reduceDiv, Int.reduceAdd, Int.reduceSub, Int.reduceMul, not_true_eq_false, not_false_eq_true, Int.lt_irrefl, true_or, or_true, false_or, or_false, true_and, and_true, false_and, and_false, b2_T, b2_F, if_true, if_false, ↓mjn_b, ↓mjn0_b, ↓mjn2_b, iv_lit, iv_add, iv_sub, iv_mul, iv_neg, iv_le_t, iv_le_f, iv_lt_t, iv_lt_f, iv_eq_t, iv_eq_f, iv_div, iv_mod, mretT_p, mretT_b, e_mret, ↓e_bret, ↓m_mon, ↓m_oI0, m_pI0, ↓m_oI3, m_pI3, ↓m_oI5, m_pI5, ↓m_oI7, m_pI7, ↓m_oI11, m_pI11, ↓m_oI12, m_pI12, ↓m_oI13, m_pI13, ↓m_oI14, m_pI14, ↓m_oI15, m_pI15, ↓m_oI16, m_pI16, ↓m_oI17, m_pI17, m_pZ5, m_pZ12, ↓m_oR1, m_aI1, m_sI1, ↓m_oR2, m_aI2, m_sI2, ↓m_oR4, m_aI4, m_sI4, ↓m_oR6, m_aI6, m_sI6, ↓m_oR8, m_aI8, m_sI8, ↓m_oR9, m_aI9, m_sI9, ↓m_oR10, m_aI10, m_sI10, ↓s_o9 ho, ↓s_o4 ho, ↓eT_t, ↓eC_t, ↓ex, ↓eW]
theorem X2_whyNotSeated_c {β : Type} {K : Int32 → HM β} {g : Nat → Nat} {h : Nat → Option hC} {n w a : Nat} {D : Nat → Nat} {tb gb : Int → Nat} {z : Int → Int} {i t c : Int} (hg : gD g) (hz : wZ z) (hs : ST g h a D tb gb z) (hi : 0 ≤ i ∧ i < z 60) (hc : isCh z t c) : mb (mon 1 (some a) (mcall0 (fX2_whyNotSeated g (some a) (iv i) (iv t) (iv c)))) K (h, n, w) = K (iv (nse z i t c)) (h, n, w) := by
  have ho := hs.1.1
  unfold SO at ho
  have hi_gu := hs.2.1.2 i hi.1 hi.2
  obtain ⟨nm_i, hg_i, -⟩ := id hi_gu
  have eg_i := fun (K : Option Nat → HM Int32) => J2_get_c (K := K) (n := n) (w := 0) (i := i) hs.2.1.1 hi
  have ec_i := fun (K : Unit → HM Int32) => c_mcst (K := K) (n := n) (w := 0) (cs := [3]) hg_i (List.mem_cons_self ..)
  have es_i := fun (K : Int32 → HM Int32) => X8_sits_c (K := K) (g := g) (n := n) (w := 0) hz hi hi_gu
  have eo := fun (K : Int32 → HM Int32) => X2_guestOn_c (K := K) (n := n) (w := 0) hg hz hs hc
  have ef := fun (K : Int32 → HM Int32) => X2_fits_c (K := K) (n := n) (w := 0) hz hs hi hc.1
  have h60 := wZ_60 hz
  have hsr := sitr_rg h60.1 t c
  rw [c_mon ho]
  refine e_call0 (u' := 0) ?_
  unfold fX2_whyNotSeated nse
  by_cases e : sits z i
  · rw [b2_t e] at es_i
    rw [if_pos e]
    simp (disch := omega) only [↓reduceIte, Int.reduceEq, Int.reduceNe, Int.reduceLT, Int.reduceLE, Int.reduceNeg, Int.reduceMod, Int.reduceDiv, Int.reduceAdd, Int.reduceSub, Int.reduceMul, not_true_eq_false, not_false_eq_true, Int.lt_irrefl, true_or, or_true, false_or, or_false, true_and, and_true, false_and, and_false, b2_T, b2_F, if_true, if_false, ↓mjn_b, ↓mjn0_b, ↓mjn2_b, iv_lit, iv_add, iv_sub, iv_mul, iv_neg, iv_le_t, iv_le_f, iv_lt_t, iv_lt_f, iv_eq_t, iv_eq_f, iv_div, iv_mod, mretT_p, mretT_b, e_mret, ↓e_bret, ↓m_mon, ↓m_oI0, m_pI0, ↓m_oI3, m_pI3, ↓m_oI5, m_pI5, ↓m_oI7, m_pI7, ↓m_oI11, m_pI11, ↓m_oI12, m_pI12, ↓m_oI13, m_pI13, ↓m_oI14, m_pI14, ↓m_oI15, m_pI15, ↓m_oI16, m_pI16, ↓m_oI17, m_pI17, m_pZ5, m_pZ12, ↓m_oR1, m_aI1, m_sI1, ↓m_oR2, m_aI2, m_sI2, ↓m_oR4, m_aI4, m_sI4, ↓m_oR6, m_aI6, m_sI6, ↓m_oR8, m_aI8, m_sI8, ↓m_oR9, m_aI9, m_sI9, ↓m_oR10, m_aI10, m_sI10, ↓s_o5 ho, ↓eg_i, ↓ec_i, ↓es_i]
  · rw [b2_f e] at es_i
    rw [if_neg e]
    by_cases f : sitr z t c = -1
    · rw [if_pos f]
      by_cases q : wid z i ≤ caN (zk z t)
      · rw [b2_t q] at ef
        rw [if_pos q]
        simp (disch := omega) only [↓reduceIte, Int.reduceEq, Int.reduceNe, Int.reduceLT, Int.reduceLE, Int.reduceNeg, Int.reduceMod, Int.reduceDiv, Int.reduceAdd, Int.reduceSub, Int.reduceMul, not_true_eq_false, not_false_eq_true, Int.lt_irrefl, true_or, or_true, false_or, or_false, true_and, and_true, false_and, and_false, b2_T, b2_F, if_true, if_false, ↓mjn_b, ↓mjn0_b, ↓mjn2_b, iv_lit, iv_add, iv_sub, iv_mul, iv_neg, iv_le_t, iv_le_f, iv_lt_t, iv_lt_f, iv_eq_t, iv_eq_f, iv_div, iv_mod, mretT_p, mretT_b, e_mret, ↓e_bret, ↓m_mon, ↓m_oI0, m_pI0, ↓m_oI3, m_pI3, ↓m_oI5, m_pI5, ↓m_oI7, m_pI7, ↓m_oI11, m_pI11, ↓m_oI12, m_pI12, ↓m_oI13, m_pI13, ↓m_oI14, m_pI14, ↓m_oI15, m_pI15, ↓m_oI16, m_pI16, ↓m_oI17, m_pI17, m_pZ5, m_pZ12, ↓m_oR1, m_aI1, m_sI1, ↓m_oR2, m_aI2, m_sI2, ↓m_oR4, m_aI4, m_sI4, ↓m_oR6, m_aI6, m_sI6, ↓m_oR8, m_aI8, m_sI8, ↓m_oR9, m_aI9, m_sI9, ↓m_oR10, m_aI10, m_sI10, ↓s_o5 ho, ↓eg_i, ↓ec_i, ↓es_i, ↓eo, ↓ef, f]
      · rw [b2_f q] at ef
        rw [if_neg q]
        simp (disch := omega) only [↓reduceIte, Int.reduceEq, Int.reduceNe, Int.reduceLT, Int.reduceLE, Int.reduceNeg, Int.reduceMod, Int.reduceDiv, Int.reduceAdd, Int.reduceSub, Int.reduceMul, not_true_eq_false, not_false_eq_true, Int.lt_irrefl, true_or, or_true, false_or, or_false, true_and, and_true, false_and, and_false, b2_T, b2_F, if_true, if_false, ↓mjn_b, ↓mjn0_b, ↓mjn2_b, iv_lit, iv_add, iv_sub, iv_mul, iv_neg, iv_le_t, iv_le_f, iv_lt_t, iv_lt_f, iv_eq_t, iv_eq_f, iv_div, iv_mod, mretT_p, mretT_b, e_mret, ↓e_bret, ↓m_mon, ↓m_oI0, m_pI0, ↓m_oI3, m_pI3, ↓m_oI5, m_pI5, ↓m_oI7, m_pI7, ↓m_oI11, m_pI11, ↓m_oI12, m_pI12, ↓m_oI13, m_pI13, ↓m_oI14, m_pI14, ↓m_oI15, m_pI15, ↓m_oI16, m_pI16, ↓m_oI17, m_pI17, m_pZ5, m_pZ12, ↓m_oR1, m_aI1, m_sI1, ↓m_oR2, m_aI2, m_sI2, ↓m_oR4, m_aI4, m_sI4, ↓m_oR6, m_aI6, m_sI6, ↓m_oR8, m_aI8, m_sI8, ↓m_oR9, m_aI9, m_sI9, ↓m_oR10, m_aI10, m_sI10, ↓s_o5 ho, ↓eg_i, ↓ec_i, ↓es_i, ↓eo, ↓ef, f]
    · rw [if_neg f]
      simp (disch := omega) only [↓reduceIte, Int.reduceEq, Int.reduceNe, Int.reduceLT, Int.reduceLE, Int.reduceNeg, Int.reduceMod, Int.reduceDiv, Int.reduceAdd, Int.reduceSub, Int.reduceMul, not_true_eq_false, not_false_eq_true, Int.lt_irrefl, true_or, or_true, false_or, or_false, true_and, and_true, false_and, and_false, b2_T, b2_F, if_true, if_false, ↓mjn_b, ↓mjn0_b, ↓mjn2_b, iv_lit, iv_add, iv_sub, iv_mul, iv_neg, iv_le_t, iv_le_f, iv_lt_t, iv_lt_f, iv_eq_t, iv_eq_f, iv_div, iv_mod, mretT_p, mretT_b, e_mret, ↓e_bret, ↓m_mon, ↓m_oI0, m_pI0, ↓m_oI3, m_pI3, ↓m_oI5, m_pI5, ↓m_oI7, m_pI7, ↓m_oI11, m_pI11, ↓m_oI12, m_pI12, ↓m_oI13, m_pI13, ↓m_oI14, m_pI14, ↓m_oI15, m_pI15, ↓m_oI16, m_pI16, ↓m_oI17, m_pI17, m_pZ5, m_pZ12, ↓m_oR1, m_aI1, m_sI1, ↓m_oR2, m_aI2, m_sI2, ↓m_oR4, m_aI4, m_sI4, ↓m_oR6, m_aI6, m_sI6, ↓m_oR8, m_aI8, m_sI8, ↓m_oR9, m_aI9, m_sI9, ↓m_oR10, m_aI10, m_sI10, ↓s_o5 ho, ↓eg_i, ↓ec_i, ↓es_i, ↓eo]
theorem X2_whyNotSwapped_c {β : Type} {K : Int32 → HM β} {g : Nat → Nat} {h : Nat → Option hC} {n w a : Nat} {D : Nat → Nat} {tb gb : Int → Nat} {z : Int → Int} {i k : Int} (hz : wZ z) (hs : ST g h a D tb gb z) (hi : 0 ≤ i ∧ i < z 60) (hk : 0 ≤ k ∧ k < z 60) : mb (mon 1 (some a) (mcall0 (fX2_whyNotSwapped g (some a) (iv i) (iv k)))) K (h, n, w) = K (iv (nsw z i k)) (h, n, w) := by
  have ho := hs.1.1
  unfold SO at ho
  have hi_gu := hs.2.1.2 i hi.1 hi.2
  obtain ⟨nm_i, hg_i, -⟩ := id hi_gu
  have eg_i := fun (K : Option Nat → HM Int32) => J2_get_c (K := K) (n := n) (w := 0) (i := i) hs.2.1.1 hi
  have ec_i := fun (K : Unit → HM Int32) => c_mcst (K := K) (n := n) (w := 0) (cs := [3]) hg_i (List.mem_cons_self ..)
  have es_i := fun (K : Int32 → HM Int32) => X8_sits_c (K := K) (g := g) (n := n) (w := 0) hz hi hi_gu
  have hk_gu := hs.2.1.2 k hk.1 hk.2
  obtain ⟨nm_k, hg_k, -⟩ := id hk_gu
  have eg_k := fun (K : Option Nat → HM Int32) => J2_get_c (K := K) (n := n) (w := 0) (i := k) hs.2.1.1 hk
  have ec_k := fun (K : Unit → HM Int32) => c_mcst (K := K) (n := n) (w := 0) (cs := [3]) hg_k (List.mem_cons_self ..)
  have es_k := fun (K : Int32 → HM Int32) => X8_sits_c (K := K) (g := g) (n := n) (w := 0) hz hk hk_gu
  have h60 := wZ_60 hz
  rw [c_mon ho]
  refine e_call0 (u' := 0) ?_
  unfold fX2_whyNotSwapped nsw
  by_cases e : sits z i
  · rw [b2_t e] at es_i
    by_cases f : sits z k
    · rw [b2_t f] at es_k
      rw [if_pos ⟨e, f⟩]
      have si := (sits_ch hz hi e).1
      have sk := (sits_ch hz hk f).1
      have f1 := fun (K : Int32 → HM Int32) => X2_fits_c (K := K) (n := n) (w := 0) hz hs hi sk
      have f2 := fun (K : Int32 → HM Int32) => X2_fits_c (K := K) (n := n) (w := 0) hz hs hk si
      by_cases q : i = k
      · rw [if_pos q]
        simp (disch := omega) only [↓reduceIte, Int.reduceEq, Int.reduceNe, Int.reduceLT, Int.reduceLE, Int.reduceNeg, Int.reduceMod, Int.reduceDiv, Int.reduceAdd, Int.reduceSub, Int.reduceMul, not_true_eq_false, not_false_eq_true, Int.lt_irrefl, true_or, or_true, false_or, or_false, true_and, and_true, false_and, and_false, b2_T, b2_F, if_true, if_false, ↓mjn_b, ↓mjn0_b, ↓mjn2_b, iv_lit, iv_add, iv_sub, iv_mul, iv_neg, iv_le_t, iv_le_f, iv_lt_t, iv_lt_f, iv_eq_t, iv_eq_f, iv_div, iv_mod, mretT_p, mretT_b, e_mret, ↓e_bret, ↓m_mon, ↓m_oI0, m_pI0, ↓m_oI3, m_pI3, ↓m_oI5, m_pI5, ↓m_oI7, m_pI7, ↓m_oI11, m_pI11, ↓m_oI12, m_pI12, ↓m_oI13, m_pI13, ↓m_oI14, m_pI14, ↓m_oI15, m_pI15, ↓m_oI16, m_pI16, ↓m_oI17, m_pI17, m_pZ5, m_pZ12, ↓m_oR1, m_aI1, m_sI1, ↓m_oR2, m_aI2, m_sI2, ↓m_oR4, m_aI4, m_sI4, ↓m_oR6, m_aI6, m_sI6, ↓m_oR8, m_aI8, m_sI8, ↓m_oR9, m_aI9, m_sI9, ↓m_oR10, m_aI10, m_sI10, ↓s_o5 ho, ↓eg_i, ↓ec_i, ↓eg_k, ↓ec_k, ↓es_i, ↓es_k, q]
      · rw [if_neg q]
        by_cases u : wid z i ≤ caN (zk z (ga z k))
        · rw [b2_t u] at f1
          by_cases v : wid z k ≤ caN (zk z (ga z i))
          · rw [b2_t v] at f2
            rw [if_pos ⟨u, v⟩]
            simp (disch := omega) only [↓reduceIte, Int.reduceEq, Int.reduceNe, Int.reduceLT, Int.reduceLE, Int.reduceNeg, Int.reduceMod, Int.reduceDiv, Int.reduceAdd, Int.reduceSub, Int.reduceMul, not_true_eq_false, not_false_eq_true, Int.lt_irrefl, true_or, or_true, false_or, or_false, true_and, and_true, false_and, and_false, b2_T, b2_F, if_true, if_false, ↓mjn_b, ↓mjn0_b, ↓mjn2_b, iv_lit, iv_add, iv_sub, iv_mul, iv_neg, iv_le_t, iv_le_f, iv_lt_t, iv_lt_f, iv_eq_t, iv_eq_f, iv_div, iv_mod, mretT_p, mretT_b, e_mret, ↓e_bret, ↓m_mon, ↓m_oI0, m_pI0, ↓m_oI3, m_pI3, ↓m_oI5, m_pI5, ↓m_oI7, m_pI7, ↓m_oI11, m_pI11, ↓m_oI12, m_pI12, ↓m_oI13, m_pI13, ↓m_oI14, m_pI14, ↓m_oI15, m_pI15, ↓m_oI16, m_pI16, ↓m_oI17, m_pI17, m_pZ5, m_pZ12, ↓m_oR1, m_aI1, m_sI1, ↓m_oR2, m_aI2, m_sI2, ↓m_oR4, m_aI4, m_sI4, ↓m_oR6, m_aI6, m_sI6, ↓m_oR8, m_aI8, m_sI8, ↓m_oR9, m_aI9, m_sI9, ↓m_oR10, m_aI10, m_sI10, ↓s_o5 ho, ↓eg_i, ↓ec_i, ↓eg_k, ↓ec_k, ↓es_i, ↓es_k, ↓g_o3 hg_i, ↓g_o3 hg_k, ↓f1, ↓f2]
          · rw [b2_f v] at f2
            rw [if_neg (fun w => v w.2)]
            simp (disch := omega) only [↓reduceIte, Int.reduceEq, Int.reduceNe, Int.reduceLT, Int.reduceLE, Int.reduceNeg, Int.reduceMod, Int.reduceDiv, Int.reduceAdd, Int.reduceSub, Int.reduceMul, not_true_eq_false, not_false_eq_true, Int.lt_irrefl, true_or, or_true, false_or, or_false, true_and, and_true, false_and, and_false, b2_T, b2_F, if_true, if_false, ↓mjn_b, ↓mjn0_b, ↓mjn2_b, iv_lit, iv_add, iv_sub, iv_mul, iv_neg, iv_le_t, iv_le_f, iv_lt_t, iv_lt_f, iv_eq_t, iv_eq_f, iv_div, iv_mod, mretT_p, mretT_b, e_mret, ↓e_bret, ↓m_mon, ↓m_oI0, m_pI0, ↓m_oI3, m_pI3, ↓m_oI5, m_pI5, ↓m_oI7, m_pI7, ↓m_oI11, m_pI11, ↓m_oI12, m_pI12, ↓m_oI13, m_pI13, ↓m_oI14, m_pI14, ↓m_oI15, m_pI15, ↓m_oI16, m_pI16, ↓m_oI17, m_pI17, m_pZ5, m_pZ12, ↓m_oR1, m_aI1, m_sI1, ↓m_oR2, m_aI2, m_sI2, ↓m_oR4, m_aI4, m_sI4, ↓m_oR6, m_aI6, m_sI6, ↓m_oR8, m_aI8, m_sI8, ↓m_oR9, m_aI9, m_sI9, ↓m_oR10, m_aI10, m_sI10, ↓s_o5 ho, ↓eg_i, ↓ec_i, ↓eg_k, ↓ec_k, ↓es_i, ↓es_k, ↓g_o3 hg_i, ↓g_o3 hg_k, ↓f1, ↓f2]
        · rw [b2_f u] at f1
          rw [if_neg (fun w => u w.1)]
          simp (disch := omega) only [↓reduceIte, Int.reduceEq, Int.reduceNe, Int.reduceLT, Int.reduceLE, Int.reduceNeg, Int.reduceMod, Int.reduceDiv, Int.reduceAdd, Int.reduceSub, Int.reduceMul, not_true_eq_false, not_false_eq_true, Int.lt_irrefl, true_or, or_true, false_or, or_false, true_and, and_true, false_and, and_false, b2_T, b2_F, if_true, if_false, ↓mjn_b, ↓mjn0_b, ↓mjn2_b, iv_lit, iv_add, iv_sub, iv_mul, iv_neg, iv_le_t, iv_le_f, iv_lt_t, iv_lt_f, iv_eq_t, iv_eq_f, iv_div, iv_mod, mretT_p, mretT_b, e_mret, ↓e_bret, ↓m_mon, ↓m_oI0, m_pI0, ↓m_oI3, m_pI3, ↓m_oI5, m_pI5, ↓m_oI7, m_pI7, ↓m_oI11, m_pI11, ↓m_oI12, m_pI12, ↓m_oI13, m_pI13, ↓m_oI14, m_pI14, ↓m_oI15, m_pI15, ↓m_oI16, m_pI16, ↓m_oI17, m_pI17, m_pZ5, m_pZ12, ↓m_oR1, m_aI1, m_sI1, ↓m_oR2, m_aI2, m_sI2, ↓m_oR4, m_aI4, m_sI4, ↓m_oR6, m_aI6, m_sI6, ↓m_oR8, m_aI8, m_sI8, ↓m_oR9, m_aI9, m_sI9, ↓m_oR10, m_aI10, m_sI10, ↓s_o5 ho, ↓eg_i, ↓ec_i, ↓eg_k, ↓ec_k, ↓es_i, ↓es_k, ↓g_o3 hg_k, ↓f1]
    · rw [b2_f f] at es_k
      rw [if_neg (fun w => f w.2)]
      simp (disch := omega) only [↓reduceIte, Int.reduceEq, Int.reduceNe, Int.reduceLT, Int.reduceLE, Int.reduceNeg, Int.reduceMod, Int.reduceDiv, Int.reduceAdd, Int.reduceSub, Int.reduceMul, not_true_eq_false, not_false_eq_true, Int.lt_irrefl, true_or, or_true, false_or, or_false, true_and, and_true, false_and, and_false, b2_T, b2_F, if_true, if_false, ↓mjn_b, ↓mjn0_b, ↓mjn2_b, iv_lit, iv_add, iv_sub, iv_mul, iv_neg, iv_le_t, iv_le_f, iv_lt_t, iv_lt_f, iv_eq_t, iv_eq_f, iv_div, iv_mod, mretT_p, mretT_b, e_mret, ↓e_bret, ↓m_mon, ↓m_oI0, m_pI0, ↓m_oI3, m_pI3, ↓m_oI5, m_pI5, ↓m_oI7, m_pI7, ↓m_oI11, m_pI11, ↓m_oI12, m_pI12, ↓m_oI13, m_pI13, ↓m_oI14, m_pI14, ↓m_oI15, m_pI15, ↓m_oI16, m_pI16, ↓m_oI17, m_pI17, m_pZ5, m_pZ12, ↓m_oR1, m_aI1, m_sI1, ↓m_oR2, m_aI2, m_sI2, ↓m_oR4, m_aI4, m_sI4, ↓m_oR6, m_aI6, m_sI6, ↓m_oR8, m_aI8, m_sI8, ↓m_oR9, m_aI9, m_sI9, ↓m_oR10, m_aI10, m_sI10, ↓s_o5 ho, ↓eg_i, ↓ec_i, ↓eg_k, ↓ec_k, ↓es_i, ↓es_k]
  · rw [b2_f e] at es_i
    rw [if_neg (fun w => e w.1)]
    simp (disch := omega) only [↓reduceIte, Int.reduceEq, Int.reduceNe, Int.reduceLT, Int.reduceLE, Int.reduceNeg, Int.reduceMod, Int.reduceDiv, Int.reduceAdd, Int.reduceSub, Int.reduceMul, not_true_eq_false, not_false_eq_true, Int.lt_irrefl, true_or, or_true, false_or, or_false, true_and, and_true, false_and, and_false, b2_T, b2_F, if_true, if_false, ↓mjn_b, ↓mjn0_b, ↓mjn2_b, iv_lit, iv_add, iv_sub, iv_mul, iv_neg, iv_le_t, iv_le_f, iv_lt_t, iv_lt_f, iv_eq_t, iv_eq_f, iv_div, iv_mod, mretT_p, mretT_b, e_mret, ↓e_bret, ↓m_mon, ↓m_oI0, m_pI0, ↓m_oI3, m_pI3, ↓m_oI5, m_pI5, ↓m_oI7, m_pI7, ↓m_oI11, m_pI11, ↓m_oI12, m_pI12, ↓m_oI13, m_pI13, ↓m_oI14, m_pI14, ↓m_oI15, m_pI15, ↓m_oI16, m_pI16, ↓m_oI17, m_pI17, m_pZ5, m_pZ12, ↓m_oR1, m_aI1, m_sI1, ↓m_oR2, m_aI2, m_sI2, ↓m_oR4, m_aI4, m_sI4, ↓m_oR6, m_aI6, m_sI6, ↓m_oR8, m_aI8, m_sI8, ↓m_oR9, m_aI9, m_sI9, ↓m_oR10, m_aI10, m_sI10, ↓s_o5 ho, ↓eg_i, ↓ec_i, ↓eg_k, ↓ec_k, ↓es_i]
