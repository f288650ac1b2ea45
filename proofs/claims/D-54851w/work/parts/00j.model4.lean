/-! ===== the model: check() ===== -/
noncomputable def wk_all (B : Int) (f : Int → Int) (d : Int) : Prop := ∀ c, cin c → B ≤ f c → ∃ n, wlk (entD f B) (expD f d) d n c
/-- the first rule that is not kept -/
noncomputable def pck (z : Int → Int) : Int :=
  @ite Int (∃ t, (0 ≤ t ∧ t < z 15) ∧ ¬ inT z t) (Classical.propDecidable _) 1 (@ite Int (nd (laid 30 z)) (Classical.propDecidable _) (@ite Int (wk_all 30 (mapOf (laid 30 z)) (z 1)) (Classical.propDecidable _) 0 3) 2)
theorem pck_rg (z : Int → Int) : 0 ≤ pck z ∧ pck z ≤ 3 := by
  unfold pck
  split
  · omega
  · split
    · split <;> omega
    · omega
theorem pck_1 {z : Int → Int} (h : ∃ t, (0 ≤ t ∧ t < z 15) ∧ ¬ inT z t) : pck z = 1 := by unfold pck; exact if_pos h
theorem pck_2 {z : Int → Int} (h : ¬ ∃ t, (0 ≤ t ∧ t < z 15) ∧ ¬ inT z t) (h2 : ¬ nd (laid 30 z)) : pck z = 2 := by unfold pck; rw [if_neg h, if_neg h2]
theorem pck_3 {z : Int → Int} (h : ¬ ∃ t, (0 ≤ t ∧ t < z 15) ∧ ¬ inT z t) (h2 : nd (laid 30 z)) (h3 : ¬ wk_all 30 (mapOf (laid 30 z)) (z 1)) : pck z = 3 := by unfold pck; rw [if_neg h, if_pos h2, if_neg h3]
theorem pck_0 {z : Int → Int} (h : ¬ ∃ t, (0 ≤ t ∧ t < z 15) ∧ ¬ inT z t) (h2 : nd (laid 30 z)) (h3 : wk_all 30 (mapOf (laid 30 z)) (z 1)) : pck z = 0 := by unfold pck; rw [if_neg h, if_pos h2, if_pos h3]
theorem pck_0i {z : Int → Int} (h : pck z = 0) : (∀ t, 0 ≤ t → t < z 15 → inT z t) ∧ nd (laid 30 z) ∧ wk_all 30 (mapOf (laid 30 z)) (z 1) := by
  by_cases h1 : ∃ t, (0 ≤ t ∧ t < z 15) ∧ ¬ inT z t
  · rw [pck_1 h1] at h; omega
  · by_cases h2 : nd (laid 30 z)
    · by_cases h3 : wk_all 30 (mapOf (laid 30 z)) (z 1)
      · exact ⟨fun t a b => Classical.byContradiction (fun q => h1 ⟨t, ⟨a, b⟩, q⟩), h2, h3⟩
      · rw [pck_3 h1 h2 h3] at h; omega
    · rw [pck_2 h1 h2] at h; omega
theorem wT_of {z : Int → Int} (h : wH z) {t : Int} (ht : 0 ≤ t ∧ t < z 15) : wT z t := h.2.2.2.2.2 t ht.1 ht.2
theorem lp_mu {M : Mm} {P : List (Int × Int)} {c w : Int} (h : lp_is (M 8) P) (hw : 1 ≤ w ∧ w ≤ 60) : lp_is ((mu M 8 c w) 8) (P ++ [(c, w)]) := by
  rw [mu_iu]; exact lp_snoc h hw

theorem X7_check_L170_ev {g : Nat → Nat} {h : Nat → Option hC} {n w m : Nat} {K : Int32 → HM Int32} {z : Int → Int} {t : Int} (ht : 0 ≤ t ∧ t ≤ 10) (hw : wT z t) (hin : inT z t) : ∀ (k nn : Nat) (M : Mm) (P : List (Int × Int)) (a c : Int), k < nn → 0 ≤ c → c + k = chN (zk z t) → M 1 = z → lp_is (M 8) P → a = b2 (nd P) →
    ∃ (M' : Mm), fX7_check_L170 g nn (some m) (iv a) (iv t) (iv c) K (md m M h, n, w) = K (iv (b2 (nd (P ++ runL (fun c => (chT z t c, 30 + t)) c k)))) (md m M' h, n, w) ∧ lp_is (M' 8) (P ++ runL (fun c => (chT z t c, 30 + t)) c k) ∧ ∀ b, b ≠ 8 → M' b = M b := by
  intro k
  induction k with
  | zero =>
    intro nn M P a c hn hc he hM hP ha
    obtain ⟨q, rfl⟩ : ∃ q, nn = q + 1 := ⟨nn - 1, by omega⟩
    subst hM
    have hcn := chN_rg (zk (M 1) t)
    have hw2 := hw
    unfold wT zk zp zt zf at hw2
    unfold zk at hcn he
    refine ⟨M, ?_, ?_, fun b _ => rfl⟩
    · show _ = K (iv (b2 (nd (P ++ [])))) _
      rw [List.append_nil, ← ha]
      simp (disch := omega) only [↓reduceIte, Int.reduceEq, Int.reduceNe, Int.reduceLT, Int.reduceLE, Int.reduceNeg, Int.reduceMod, Int.reduceDiv, Int.reduceAdd, Int.reduceSub, Int.reduceMul, not_true_eq_false, not_false_eq_true, true_or, or_true, false_or, or_false, true_and, and_true, false_and, and_false, b2_T, b2_F, if_true, if_false, ↓mjn_b, ↓mjn0_b, ↓mjn2_b, iv_lit, iv_add, iv_sub, iv_mul, iv_neg, iv_le_t, iv_le_f, iv_lt_t, iv_lt_f, iv_eq_t, iv_eq_f, iv_div, iv_mod, mretT_p, mretT_b, e_mret, ↓e_bret, ↓m_mon, ↓m_oI0, m_pI0, ↓m_oI3, m_pI3, ↓m_oI5, m_pI5, ↓m_oI7, m_pI7, ↓m_oI11, m_pI11, ↓m_oI12, m_pI12, ↓m_oI13, m_pI13, ↓m_oI14, m_pI14, ↓m_oI15, m_pI15, ↓m_oI16, m_pI16, ↓m_oI17, m_pI17, m_pZ5, m_pZ12, ↓m_oR1, m_aI1, m_sI1, ↓m_oR2, m_aI2, m_sI2, ↓m_oR4, m_aI4, m_sI4, ↓m_oR6, m_aI6, m_sI6, ↓m_oR8, m_aI8, m_sI8, ↓m_oR9, m_aI9, m_sI9, ↓m_oR10, m_aI10, m_sI10, fX7_check_L170, X7_table_c, X7_chairs_c]
    · show lp_is (M 8) (P ++ [])
      rw [List.append_nil]; exact hP
  | succ k ih =>
    intro nn M P a c hn hc he hM hP ha
    obtain ⟨q, rfl⟩ : ∃ q, nn = q + 1 := ⟨nn - 1, by omega⟩
    subst hM
    have hcn := chN_rg (zk (M 1) t)
    have hw2 := hw
    unfold wT zk zp zt zf at hw2
    unfold zk at hcn he
    have hx : 0 ≤ chT (M 1) t c ∧ chT (M 1) t c < 192 := chT_cin hin ⟨hc, by unfold zk; omega⟩
    have hrg := lp_rg hP hx
    have hnd := lp_nd (w := 30 + t) hP hx
    obtain ⟨M', e1, e2, e3⟩ := ih q (mu M 8 (chT (M 1) t c) (30 + t)) (P ++ [(chT (M 1) t c, 30 + t)]) (b2 (nd (P ++ [(chT (M 1) t c, 30 + t)]))) (c + 1) (by omega) (by omega) (by unfold zk; omega) (mu_ob (by decide)) (lp_mu hP (by omega)) rfl
    rw [List.append_assoc] at e1 e2
    refine ⟨M', ?_, e2, fun b hb => by rw [e3 b hb, mu_ob hb]⟩
    rw [show runL (fun c => (chT (M 1) t c, 30 + t)) c (k + 1) = [(chT (M 1) t c, 30 + t)] ++ runL (fun c => (chT (M 1) t c, 30 + t)) (c + 1) k from rfl]
    rw [← e1]
    by_cases h1 : M 8 (chT (M 1) t c) = 0
    · by_cases h2 : nd P
      · rw [b2_t (hnd.mpr ⟨h2, h1⟩)]
        rw [b2_t h2] at ha
        subst ha
        simp (disch := omega) only [↓reduceIte, Int.reduceEq, Int.reduceNe, Int.reduceLT, Int.reduceLE, Int.reduceNeg, Int.reduceMod, Int.reduceDiv, Int.reduceAdd, Int.reduceSub, Int.reduceMul, not_true_eq_false, not_false_eq_true, true_or, or_true, false_or, or_false, true_and, and_true, false_and, and_false, b2_T, b2_F, if_true, if_false, ↓mjn_b, ↓mjn0_b, ↓mjn2_b, iv_lit, iv_add, iv_sub, iv_mul, iv_neg, iv_le_t, iv_le_f, iv_lt_t, iv_lt_f, iv_eq_t, iv_eq_f, iv_div, iv_mod, mretT_p, mretT_b, e_mret, ↓e_bret, ↓m_mon, ↓m_oI0, m_pI0, ↓m_oI3, m_pI3, ↓m_oI5, m_pI5, ↓m_oI7, m_pI7, ↓m_oI11, m_pI11, ↓m_oI12, m_pI12, ↓m_oI13, m_pI13, ↓m_oI14, m_pI14, ↓m_oI15, m_pI15, ↓m_oI16, m_pI16, ↓m_oI17, m_pI17, m_pZ5, m_pZ12, ↓m_oR1, m_aI1, m_sI1, ↓m_oR2, m_aI2, m_sI2, ↓m_oR4, m_aI4, m_sI4, ↓m_oR6, m_aI6, m_sI6, ↓m_oR8, m_aI8, m_sI8, ↓m_oR9, m_aI9, m_sI9, ↓m_oR10, m_aI10, m_sI10, fX7_check_L170, X7_table_c, X7_chairs_c, X7_cellOfChair_c, X7_lays_c, b2_t h1]
      · rw [b2_f (fun q => h2 (hnd.mp q).1)]
        rw [b2_f h2] at ha
        subst ha
        simp (disch := omega) only [↓reduceIte, Int.reduceEq, Int.reduceNe, Int.reduceLT, Int.reduceLE, Int.reduceNeg, Int.reduceMod, Int.reduceDiv, Int.reduceAdd, Int.reduceSub, Int.reduceMul, not_true_eq_false, not_false_eq_true, true_or, or_true, false_or, or_false, true_and, and_true, false_and, and_false, b2_T, b2_F, if_true, if_false, ↓mjn_b, ↓mjn0_b, ↓mjn2_b, iv_lit, iv_add, iv_sub, iv_mul, iv_neg, iv_le_t, iv_le_f, iv_lt_t, iv_lt_f, iv_eq_t, iv_eq_f, iv_div, iv_mod, mretT_p, mretT_b, e_mret, ↓e_bret, ↓m_mon, ↓m_oI0, m_pI0, ↓m_oI3, m_pI3, ↓m_oI5, m_pI5, ↓m_oI7, m_pI7, ↓m_oI11, m_pI11, ↓m_oI12, m_pI12, ↓m_oI13, m_pI13, ↓m_oI14, m_pI14, ↓m_oI15, m_pI15, ↓m_oI16, m_pI16, ↓m_oI17, m_pI17, m_pZ5, m_pZ12, ↓m_oR1, m_aI1, m_sI1, ↓m_oR2, m_aI2, m_sI2, ↓m_oR4, m_aI4, m_sI4, ↓m_oR6, m_aI6, m_sI6, ↓m_oR8, m_aI8, m_sI8, ↓m_oR9, m_aI9, m_sI9, ↓m_oR10, m_aI10, m_sI10, fX7_check_L170, X7_table_c, X7_chairs_c, X7_cellOfChair_c, X7_lays_c, b2_t h1]
    · rw [b2_f (fun q => h1 (hnd.mp q).2)]
      simp (disch := omega) only [↓reduceIte, Int.reduceEq, Int.reduceNe, Int.reduceLT, Int.reduceLE, Int.reduceNeg, Int.reduceMod, Int.reduceDiv, Int.reduceAdd, Int.reduceSub, Int.reduceMul, not_true_eq_false, not_false_eq_true, true_or, or_true, false_or, or_false, true_and, and_true, false_and, and_false, b2_T, b2_F, if_true, if_false, ↓mjn_b, ↓mjn0_b, ↓mjn2_b, iv_lit, iv_add, iv_sub, iv_mul, iv_neg, iv_le_t, iv_le_f, iv_lt_t, iv_lt_f, iv_eq_t, iv_eq_f, iv_div, iv_mod, mretT_p, mretT_b, e_mret, ↓e_bret, ↓m_mon, ↓m_oI0, m_pI0, ↓m_oI3, m_pI3, ↓m_oI5, m_pI5, ↓m_oI7, m_pI7, ↓m_oI11, m_pI11, ↓m_oI12, m_pI12, ↓m_oI13, m_pI13, ↓m_oI14, m_pI14, ↓m_oI15, m_pI15, ↓m_oI16, m_pI16, ↓m_oI17, m_pI17, m_pZ5, m_pZ12, ↓m_oR1, m_aI1, m_sI1, ↓m_oR2, m_aI2, m_sI2, ↓m_oR4, m_aI4, m_sI4, ↓m_oR6, m_aI6, m_sI6, ↓m_oR8, m_aI8, m_sI8, ↓m_oR9, m_aI9, m_sI9, ↓m_oR10, m_aI10, m_sI10, fX7_check_L170, X7_table_c, X7_chairs_c, X7_cellOfChair_c, X7_lays_c, b2_f h1]
theorem X7_check_L122_ev {g : Nat → Nat} {h : Nat → Option hC} {n w m : Nat} {K : Int32 → HM Int32} {z : Int → Int} {t : Int} (ht : 0 ≤ t ∧ t ≤ 10) (hw : wT z t) (hin : inT z t) : ∀ (k nn : Nat) (M : Mm) (P : List (Int × Int)) (a c : Int), k < nn → 0 ≤ c → c + k = ceN (zk z t) → M 1 = z → lp_is (M 8) P → a = b2 (nd P) →
    ∃ (M' : Mm), fX7_check_L122 g nn (some m) (iv a) (iv t) (iv c) K (md m M h, n, w) = K (iv (b2 (nd (P ++ runL (fun c => (ceT z t c, 10 + t)) c k)))) (md m M' h, n, w) ∧ lp_is (M' 8) (P ++ runL (fun c => (ceT z t c, 10 + t)) c k) ∧ ∀ b, b ≠ 8 → M' b = M b := by
  intro k
  induction k with
  | zero =>
    intro nn M P a c hn hc he hM hP ha
    obtain ⟨q, rfl⟩ : ∃ q, nn = q + 1 := ⟨nn - 1, by omega⟩
    subst hM
    have hcn := ceN_rg (zk (M 1) t)
    have hw2 := hw
    unfold wT zk zp zt zf at hw2
    unfold zk at hcn he
    refine ⟨M, ?_, ?_, fun b _ => rfl⟩
    · show _ = K (iv (b2 (nd (P ++ [])))) _
      rw [List.append_nil, ← ha]
      simp (disch := omega) only [↓reduceIte, Int.reduceEq, Int.reduceNe, Int.reduceLT, Int.reduceLE, Int.reduceNeg, Int.reduceMod, Int.reduceDiv, Int.reduceAdd, Int.reduceSub, Int.reduceMul, not_true_eq_false, not_false_eq_true, true_or, or_true, false_or, or_false, true_and, and_true, false_and, and_false, b2_T, b2_F, if_true, if_false, ↓mjn_b, ↓mjn0_b, ↓mjn2_b, iv_lit, iv_add, iv_sub, iv_mul, iv_neg, iv_le_t, iv_le_f, iv_lt_t, iv_lt_f, iv_eq_t, iv_eq_f, iv_div, iv_mod, mretT_p, mretT_b, e_mret, ↓e_bret, ↓m_mon, ↓m_oI0, m_pI0, ↓m_oI3, m_pI3, ↓m_oI5, m_pI5, ↓m_oI7, m_pI7, ↓m_oI11, m_pI11, ↓m_oI12, m_pI12, ↓m_oI13, m_pI13, ↓m_oI14, m_pI14, ↓m_oI15, m_pI15, ↓m_oI16, m_pI16, ↓m_oI17, m_pI17, m_pZ5, m_pZ12, ↓m_oR1, m_aI1, m_sI1, ↓m_oR2, m_aI2, m_sI2, ↓m_oR4, m_aI4, m_sI4, ↓m_oR6, m_aI6, m_sI6, ↓m_oR8, m_aI8, m_sI8, ↓m_oR9, m_aI9, m_sI9, ↓m_oR10, m_aI10, m_sI10, fX7_check_L122, X7_table_c, X7_cells_c]
    · show lp_is (M 8) (P ++ [])
      rw [List.append_nil]; exact hP
  | succ k ih =>
    intro nn M P a c hn hc he hM hP ha
    obtain ⟨q, rfl⟩ : ∃ q, nn = q + 1 := ⟨nn - 1, by omega⟩
    subst hM
    have hcn := ceN_rg (zk (M 1) t)
    have hw2 := hw
    unfold wT zk zp zt zf at hw2
    unfold zk at hcn he
    have hx : 0 ≤ ceT (M 1) t c ∧ ceT (M 1) t c < 192 := ceT_cin hin ⟨hc, by unfold zk; omega⟩
    have hrg := lp_rg hP hx
    have hnd := lp_nd (w := 10 + t) hP hx
    obtain ⟨M', e1, e2, e3⟩ := ih q (mu M 8 (ceT (M 1) t c) (10 + t)) (P ++ [(ceT (M 1) t c, 10 + t)]) (b2 (nd (P ++ [(ceT (M 1) t c, 10 + t)]))) (c + 1) (by omega) (by omega) (by unfold zk; omega) (mu_ob (by decide)) (lp_mu hP (by omega)) rfl
    rw [List.append_assoc] at e1 e2
    refine ⟨M', ?_, e2, fun b hb => by rw [e3 b hb, mu_ob hb]⟩
    rw [show runL (fun c => (ceT (M 1) t c, 10 + t)) c (k + 1) = [(ceT (M 1) t c, 10 + t)] ++ runL (fun c => (ceT (M 1) t c, 10 + t)) (c + 1) k from rfl]
    rw [← e1]
    by_cases h1 : M 8 (ceT (M 1) t c) = 0
    · by_cases h2 : nd P
      · rw [b2_t (hnd.mpr ⟨h2, h1⟩)]
        rw [b2_t h2] at ha
        subst ha
        simp (disch := omega) only [↓reduceIte, Int.reduceEq, Int.reduceNe, Int.reduceLT, Int.reduceLE, Int.reduceNeg, Int.reduceMod, Int.reduceDiv, Int.reduceAdd, Int.reduceSub, Int.reduceMul, not_true_eq_false, not_false_eq_true, true_or, or_true, false_or, or_false, true_and, and_true, false_and, and_false, b2_T, b2_F, if_true, if_false, ↓mjn_b, ↓mjn0_b, ↓mjn2_b, iv_lit, iv_add, iv_sub, iv_mul, iv_neg, iv_le_t, iv_le_f, iv_lt_t, iv_lt_f, iv_eq_t, iv_eq_f, iv_div, iv_mod, mretT_p, mretT_b, e_mret, ↓e_bret, ↓m_mon, ↓m_oI0, m_pI0, ↓m_oI3, m_pI3, ↓m_oI5, m_pI5, ↓m_oI7, m_pI7, ↓m_oI11, m_pI11, ↓m_oI12, m_pI12, ↓m_oI13, m_pI13, ↓m_oI14, m_pI14, ↓m_oI15, m_pI15, ↓m_oI16, m_pI16, ↓m_oI17, m_pI17, m_pZ5, m_pZ12, ↓m_oR1, m_aI1, m_sI1, ↓m_oR2, m_aI2, m_sI2, ↓m_oR4, m_aI4, m_sI4, ↓m_oR6, m_aI6, m_sI6, ↓m_oR8, m_aI8, m_sI8, ↓m_oR9, m_aI9, m_sI9, ↓m_oR10, m_aI10, m_sI10, fX7_check_L122, X7_table_c, X7_cells_c, X7_cellOfTable_c, X7_lays_c, b2_t h1]
      · rw [b2_f (fun q => h2 (hnd.mp q).1)]
        rw [b2_f h2] at ha
        subst ha
        simp (disch := omega) only [↓reduceIte, Int.reduceEq, Int.reduceNe, Int.reduceLT, Int.reduceLE, Int.reduceNeg, Int.reduceMod, Int.reduceDiv, Int.reduceAdd, Int.reduceSub, Int.reduceMul, not_true_eq_false, not_false_eq_true, true_or, or_true, false_or, or_false, true_and, and_true, false_and, and_false, b2_T, b2_F, if_true, if_false, ↓mjn_b, ↓mjn0_b, ↓mjn2_b, iv_lit, iv_add, iv_sub, iv_mul, iv_neg, iv_le_t, iv_le_f, iv_lt_t, iv_lt_f, iv_eq_t, iv_eq_f, iv_div, iv_mod, mretT_p, mretT_b, e_mret, ↓e_bret, ↓m_mon, ↓m_oI0, m_pI0, ↓m_oI3, m_pI3, ↓m_oI5, m_pI5, ↓m_oI7, m_pI7, ↓m_oI11, m_pI11, ↓m_oI12, m_pI12, ↓m_oI13, m_pI13, ↓m_oI14, m_pI14, ↓m_oI15, m_pI15, ↓m_oI16, m_pI16, ↓m_oI17, m_pI17, m_pZ5, m_pZ12, ↓m_oR1, m_aI1, m_sI1, ↓m_oR2, m_aI2, m_sI2, ↓m_oR4, m_aI4, m_sI4, ↓m_oR6, m_aI6, m_sI6, ↓m_oR8, m_aI8, m_sI8, ↓m_oR9, m_aI9, m_sI9, ↓m_oR10, m_aI10, m_sI10, fX7_check_L122, X7_table_c, X7_cells_c, X7_cellOfTable_c, X7_lays_c, b2_t h1]
    · rw [b2_f (fun q => h1 (hnd.mp q).2)]
      simp (disch := omega) only [↓reduceIte, Int.reduceEq, Int.reduceNe, Int.reduceLT, Int.reduceLE, Int.reduceNeg, Int.reduceMod, Int.reduceDiv, Int.reduceAdd, Int.reduceSub, Int.reduceMul, not_true_eq_false, not_false_eq_true, true_or, or_true, false_or, or_false, true_and, and_true, false_and, and_false, b2_T, b2_F, if_true, if_false, ↓mjn_b, ↓mjn0_b, ↓mjn2_b, iv_lit, iv_add, iv_sub, iv_mul, iv_neg, iv_le_t, iv_le_f, iv_lt_t, iv_lt_f, iv_eq_t, iv_eq_f, iv_div, iv_mod, mretT_p, mretT_b, e_mret, ↓e_bret, ↓m_mon, ↓m_oI0, m_pI0, ↓m_oI3, m_pI3, ↓m_oI5, m_pI5, ↓m_oI7, m_pI7, ↓m_oI11, m_pI11, ↓m_oI12, m_pI12, ↓m_oI13, m_pI13, ↓m_oI14, m_pI14, ↓m_oI15, m_pI15, ↓m_oI16, m_pI16, ↓m_oI17, m_pI17, m_pZ5, m_pZ12, ↓m_oR1, m_aI1, m_sI1, ↓m_oR2, m_aI2, m_sI2, ↓m_oR4, m_aI4, m_sI4, ↓m_oR6, m_aI6, m_sI6, ↓m_oR8, m_aI8, m_sI8, ↓m_oR9, m_aI9, m_sI9, ↓m_oR10, m_aI10, m_sI10, fX7_check_L122, X7_table_c, X7_cells_c, X7_cellOfTable_c, X7_lays_c, b2_f h1]
theorem X7_check_L65_ev {g : Nat → Nat} {h : Nat → Option hC} {n w m : Nat} {K : Int32 → HM Int32} {z : Int → Int} {t : Int} (hw : wH z) : ∀ (k nn : Nat) (M : Mm) (P : List (Int × Int)) (a c : Int), k < nn → 0 ≤ c → c + k = z 2 → M 1 = z → lp_is (M 8) P → a = b2 (nd P) →
    ∃ (M' : Mm), fX7_check_L65 g nn (some m) (iv a) (iv c) K (md m M h, n, w) = K (iv (b2 (nd (P ++ runL (fun c => (z (3 + c), (1 : Int))) c k)))) (md m M' h, n, w) ∧ lp_is (M' 8) (P ++ runL (fun c => (z (3 + c), (1 : Int))) c k) ∧ ∀ b, b ≠ 8 → M' b = M b := by
  intro k
  induction k with
  | zero =>
    intro nn M P a c hn hc he hM hP ha
    obtain ⟨q, rfl⟩ : ∃ q, nn = q + 1 := ⟨nn - 1, by omega⟩
    subst hM
    have h2 := hw.2.2.1
    have h3 := hw.2.2.2.1 c
    refine ⟨M, ?_, ?_, fun b _ => rfl⟩
    · show _ = K (iv (b2 (nd (P ++ [])))) _
      rw [List.append_nil, ← ha]
      simp (disch := omega) only [↓reduceIte, Int.reduceEq, Int.reduceNe, Int.reduceLT, Int.reduceLE, Int.reduceNeg, Int.reduceMod, Int.reduceDiv, Int.reduceAdd, Int.reduceSub, Int.reduceMul, not_true_eq_false, not_false_eq_true, true_or, or_true, false_or, or_false, true_and, and_true, false_and, and_false, b2_T, b2_F, if_true, if_false, ↓mjn_b, ↓mjn0_b, ↓mjn2_b, iv_lit, iv_add, iv_sub, iv_mul, iv_neg, iv_le_t, iv_le_f, iv_lt_t, iv_lt_f, iv_eq_t, iv_eq_f, iv_div, iv_mod, mretT_p, mretT_b, e_mret, ↓e_bret, ↓m_mon, ↓m_oI0, m_pI0, ↓m_oI3, m_pI3, ↓m_oI5, m_pI5, ↓m_oI7, m_pI7, ↓m_oI11, m_pI11, ↓m_oI12, m_pI12, ↓m_oI13, m_pI13, ↓m_oI14, m_pI14, ↓m_oI15, m_pI15, ↓m_oI16, m_pI16, ↓m_oI17, m_pI17, m_pZ5, m_pZ12, ↓m_oR1, m_aI1, m_sI1, ↓m_oR2, m_aI2, m_sI2, ↓m_oR4, m_aI4, m_sI4, ↓m_oR6, m_aI6, m_sI6, ↓m_oR8, m_aI8, m_sI8, ↓m_oR9, m_aI9, m_sI9, ↓m_oR10, m_aI10, m_sI10, fX7_check_L65]
    · show lp_is (M 8) (P ++ [])
      rw [List.append_nil]; exact hP
  | succ k ih =>
    intro nn M P a c hn hc he hM hP ha
    obtain ⟨q, rfl⟩ : ∃ q, nn = q + 1 := ⟨nn - 1, by omega⟩
    subst hM
    have h2 := hw.2.2.1
    have h3 := hw.2.2.2.1 c
    have hx : 0 ≤ M 1 (3 + c) ∧ M 1 (3 + c) < 192 := hw.2.2.2.1 c hc (by omega)
    have hrg := lp_rg hP hx
    have hnd := lp_nd (w := (1 : Int)) hP hx
    obtain ⟨M', e1, e2, e3⟩ := ih q (mu M 8 (M 1 (3 + c)) ((1 : Int))) (P ++ [(M 1 (3 + c), (1 : Int))]) (b2 (nd (P ++ [(M 1 (3 + c), (1 : Int))]))) (c + 1) (by omega) (by omega) (by skip; omega) (mu_ob (by decide)) (lp_mu hP (by omega)) rfl
    rw [List.append_assoc] at e1 e2
    refine ⟨M', ?_, e2, fun b hb => by rw [e3 b hb, mu_ob hb]⟩
    rw [show runL (fun c => (M 1 (3 + c), (1 : Int))) c (k + 1) = [(M 1 (3 + c), (1 : Int))] ++ runL (fun c => (M 1 (3 + c), (1 : Int))) (c + 1) k from rfl]
    rw [← e1]
    by_cases h1 : M 8 (M 1 (3 + c)) = 0
    · by_cases h2 : nd P
      · rw [b2_t (hnd.mpr ⟨h2, h1⟩)]
        rw [b2_t h2] at ha
        subst ha
        simp (disch := omega) only [↓reduceIte, Int.reduceEq, Int.reduceNe, Int.reduceLT, Int.reduceLE, Int.reduceNeg, Int.reduceMod, Int.reduceDiv, Int.reduceAdd, Int.reduceSub, Int.reduceMul, not_true_eq_false, not_false_eq_true, true_or, or_true, false_or, or_false, true_and, and_true, false_and, and_false, b2_T, b2_F, if_true, if_false, ↓mjn_b, ↓mjn0_b, ↓mjn2_b, iv_lit, iv_add, iv_sub, iv_mul, iv_neg, iv_le_t, iv_le_f, iv_lt_t, iv_lt_f, iv_eq_t, iv_eq_f, iv_div, iv_mod, mretT_p, mretT_b, e_mret, ↓e_bret, ↓m_mon, ↓m_oI0, m_pI0, ↓m_oI3, m_pI3, ↓m_oI5, m_pI5, ↓m_oI7, m_pI7, ↓m_oI11, m_pI11, ↓m_oI12, m_pI12, ↓m_oI13, m_pI13, ↓m_oI14, m_pI14, ↓m_oI15, m_pI15, ↓m_oI16, m_pI16, ↓m_oI17, m_pI17, m_pZ5, m_pZ12, ↓m_oR1, m_aI1, m_sI1, ↓m_oR2, m_aI2, m_sI2, ↓m_oR4, m_aI4, m_sI4, ↓m_oR6, m_aI6, m_sI6, ↓m_oR8, m_aI8, m_sI8, ↓m_oR9, m_aI9, m_sI9, ↓m_oR10, m_aI10, m_sI10, fX7_check_L65, X7_lays_c, b2_t h1]
      · rw [b2_f (fun q => h2 (hnd.mp q).1)]
        rw [b2_f h2] at ha
        subst ha
        simp (disch := omega) only [↓reduceIte, Int.reduceEq, Int.reduceNe, Int.reduceLT, Int.reduceLE, Int.reduceNeg, Int.reduceMod, Int.reduceDiv, Int.reduceAdd, Int.reduceSub, Int.reduceMul, not_true_eq_false, not_false_eq_true, true_or, or_true, false_or, or_false, true_and, and_true, false_and, and_false, b2_T, b2_F, if_true, if_false, ↓mjn_b, ↓mjn0_b, ↓mjn2_b, iv_lit, iv_add, iv_sub, iv_mul, iv_neg, iv_le_t, iv_le_f, iv_lt_t, iv_lt_f, iv_eq_t, iv_eq_f, iv_div, iv_mod, mretT_p, mretT_b, e_mret, ↓e_bret, ↓m_mon, ↓m_oI0, m_pI0, ↓m_oI3, m_pI3, ↓m_oI5, m_pI5, ↓m_oI7, m_pI7, ↓m_oI11, m_pI11, ↓m_oI12, m_pI12, ↓m_oI13, m_pI13, ↓m_oI14, m_pI14, ↓m_oI15, m_pI15, ↓m_oI16, m_pI16, ↓m_oI17, m_pI17, m_pZ5, m_pZ12, ↓m_oR1, m_aI1, m_sI1, ↓m_oR2, m_aI2, m_sI2, ↓m_oR4, m_aI4, m_sI4, ↓m_oR6, m_aI6, m_sI6, ↓m_oR8, m_aI8, m_sI8, ↓m_oR9, m_aI9, m_sI9, ↓m_oR10, m_aI10, m_sI10, fX7_check_L65, X7_lays_c, b2_t h1]
    · rw [b2_f (fun q => h1 (hnd.mp q).2)]
      simp (disch := omega) only [↓reduceIte, Int.reduceEq, Int.reduceNe, Int.reduceLT, Int.reduceLE, Int.reduceNeg, Int.reduceMod, Int.reduceDiv, Int.reduceAdd, Int.reduceSub, Int.reduceMul, not_true_eq_false, not_false_eq_true, true_or, or_true, false_or, or_false, true_and, and_true, false_and, and_false, b2_T, b2_F, if_true, if_false, ↓mjn_b, ↓mjn0_b, ↓mjn2_b, iv_lit, iv_add, iv_sub, iv_mul, iv_neg, iv_le_t, iv_le_f, iv_lt_t, iv_lt_f, iv_eq_t, iv_eq_f, iv_div, iv_mod, mretT_p, mretT_b, e_mret, ↓e_bret, ↓m_mon, ↓m_oI0, m_pI0, ↓m_oI3, m_pI3, ↓m_oI5, m_pI5, ↓m_oI7, m_pI7, ↓m_oI11, m_pI11, ↓m_oI12, m_pI12, ↓m_oI13, m_pI13, ↓m_oI14, m_pI14, ↓m_oI15, m_pI15, ↓m_oI16, m_pI16, ↓m_oI17, m_pI17, m_pZ5, m_pZ12, ↓m_oR1, m_aI1, m_sI1, ↓m_oR2, m_aI2, m_sI2, ↓m_oR4, m_aI4, m_sI4, ↓m_oR6, m_aI6, m_sI6, ↓m_oR8, m_aI8, m_sI8, ↓m_oR9, m_aI9, m_sI9, ↓m_oR10, m_aI10, m_sI10, fX7_check_L65, X7_lays_c, b2_f h1]
/-- the tables, one by one -/
theorem X7_check_L109_ev {g : Nat → Nat} {h : Nat → Option hC} {n w m : Nat} {K : Int32 → HM Int32} {z : Int → Int} (hw : wH z) (hin : ∀ t, 0 ≤ t → t < z 15 → inT z t) : ∀ (k nn : Nat) (M : Mm) (P : List (Int × Int)) (a t : Int), k < nn → 0 ≤ t → t + k = z 15 → M 1 = z → lp_is (M 8) P → a = b2 (nd P) →
    ∃ (M' : Mm), fX7_check_L109 g nn (some m) (iv a) (iv t) K (md m M h, n, w) = K (iv (b2 (nd (P ++ (runL (tlay 30 z) t k).flatten)))) (md m M' h, n, w) ∧ lp_is (M' 8) (P ++ (runL (tlay 30 z) t k).flatten) ∧ ∀ b, b ≠ 8 → M' b = M b := by
  intro k
  induction k with
  | zero =>
    intro nn M P a t hn ht he hM hP ha
    obtain ⟨q, rfl⟩ : ∃ q, nn = q + 1 := ⟨nn - 1, by omega⟩
    subst hM
    have h15 := hw.2.2.2.2.1
    refine ⟨M, ?_, ?_, fun b _ => rfl⟩
    · show _ = K (iv (b2 (nd (P ++ [])))) _
      rw [List.append_nil, ← ha]
      simp (disch := omega) only [↓reduceIte, Int.reduceEq, Int.reduceNe, Int.reduceLT, Int.reduceLE, Int.reduceNeg, Int.reduceMod, Int.reduceDiv, Int.reduceAdd, Int.reduceSub, Int.reduceMul, not_true_eq_false, not_false_eq_true, true_or, or_true, false_or, or_false, true_and, and_true, false_and, and_false, b2_T, b2_F, if_true, if_false, ↓mjn_b, ↓mjn0_b, ↓mjn2_b, iv_lit, iv_add, iv_sub, iv_mul, iv_neg, iv_le_t, iv_le_f, iv_lt_t, iv_lt_f, iv_eq_t, iv_eq_f, iv_div, iv_mod, mretT_p, mretT_b, e_mret, ↓e_bret, ↓m_mon, ↓m_oI0, m_pI0, ↓m_oI3, m_pI3, ↓m_oI5, m_pI5, ↓m_oI7, m_pI7, ↓m_oI11, m_pI11, ↓m_oI12, m_pI12, ↓m_oI13, m_pI13, ↓m_oI14, m_pI14, ↓m_oI15, m_pI15, ↓m_oI16, m_pI16, ↓m_oI17, m_pI17, m_pZ5, m_pZ12, ↓m_oR1, m_aI1, m_sI1, ↓m_oR2, m_aI2, m_sI2, ↓m_oR4, m_aI4, m_sI4, ↓m_oR6, m_aI6, m_sI6, ↓m_oR8, m_aI8, m_sI8, ↓m_oR9, m_aI9, m_sI9, ↓m_oR10, m_aI10, m_sI10, fX7_check_L109]
    · show lp_is (M 8) (P ++ [])
      rw [List.append_nil]; exact hP
  | succ k ih =>
    intro nn M P a t hn ht he hM hP ha
    obtain ⟨q, rfl⟩ : ∃ q, nn = q + 1 := ⟨nn - 1, by omega⟩
    have h15 := hw.2.2.2.2.1
    have hwt := wT_of hw (t := t) (by omega)
    have hint := hin t ht (by omega)
    have hc1 := ceN_rg (zk z t)
    have hc2 := chN_rg (zk z t)
    obtain ⟨M1, e1, e2, e3⟩ := X7_check_L122_ev (g := g) (h := h) (n := n) (w := w) (m := m) (K := fun x28 => fX7_check_L170 g 5000 (some m) x28 (iv t) (iv 0) (fun x29 => fX7_check_L109 g q (some m) x29 (iv (t + 1)) K)) (by omega) hwt hint (ceN (zk z t)).toNat 5000 M P a 0 (by omega) (by omega) (by omega) hM hP ha
    obtain ⟨M2, f1, f2, f3⟩ := X7_check_L170_ev (g := g) (h := h) (n := n) (w := w) (m := m) (K := fun x29 => fX7_check_L109 g q (some m) x29 (iv (t + 1)) K) (by omega) hwt hint (chN (zk z t)).toNat 5000 M1 _ _ 0 (by omega) (by omega) (by omega) (by rw [e3 1 (by decide)]; exact hM) e2 rfl
    obtain ⟨M', g1, g2, g3⟩ := ih q M2 _ _ (t + 1) (by omega) (by omega) (by omega) (by rw [f3 1 (by decide), e3 1 (by decide)]; exact hM) f2 rfl
    have hl : P ++ (runL (tlay 30 z) t (k + 1)).flatten = P ++ runL (fun c => (ceT z t c, 10 + t)) 0 (ceN (zk z t)).toNat ++ runL (fun c => (chT z t c, 30 + t)) 0 (chN (zk z t)).toNat ++ (runL (tlay 30 z) (t + 1) k).flatten := by
      show P ++ (tlay 30 z t :: runL (tlay 30 z) (t + 1) k).flatten = _
      rw [List.flatten_cons]
      unfold tlay
      simp only [List.append_assoc]
    rw [hl]
    refine ⟨M', ?_, g2, fun b hb => by rw [g3 b hb, f3 b hb, e3 b hb]⟩
    rw [← g1, ← f1, ← e1]
    subst hM
    simp (disch := omega) only [↓reduceIte, Int.reduceEq, Int.reduceNe, Int.reduceLT, Int.reduceLE, Int.reduceNeg, Int.reduceMod, Int.reduceDiv, Int.reduceAdd, Int.reduceSub, Int.reduceMul, not_true_eq_false, not_false_eq_true, true_or, or_true, false_or, or_false, true_and, and_true, false_and, and_false, b2_T, b2_F, if_true, if_false, ↓mjn_b, ↓mjn0_b, ↓mjn2_b, iv_lit, iv_add, iv_sub, iv_mul, iv_neg, iv_le_t, iv_le_f, iv_lt_t, iv_lt_f, iv_eq_t, iv_eq_f, iv_div, iv_mod, mretT_p, mretT_b, e_mret, ↓e_bret, ↓m_mon, ↓m_oI0, m_pI0, ↓m_oI3, m_pI3, ↓m_oI5, m_pI5, ↓m_oI7, m_pI7, ↓m_oI11, m_pI11, ↓m_oI12, m_pI12, ↓m_oI13, m_pI13, ↓m_oI14, m_pI14, ↓m_oI15, m_pI15, ↓m_oI16, m_pI16, ↓m_oI17, m_pI17, m_pZ5, m_pZ12, ↓m_oR1, m_aI1, m_sI1, ↓m_oR2, m_aI2, m_sI2, ↓m_oR4, m_aI4, m_sI4, ↓m_oR6, m_aI6, m_sI6, ↓m_oR8, m_aI8, m_sI8, ↓m_oR9, m_aI9, m_sI9, ↓m_oR10, m_aI10, m_sI10, fX7_check_L109]
theorem X7_check_L2_ev {g : Nat → Nat} {h : Nat → Option hC} {n w m : Nat} {K : HM Int32} {M : Mm} (hw : wH (M 1)) : ∀ (k nn : Nat) (t : Int), k < nn → 0 ≤ t → t + k = M 1 15 →
    ((∀ x, t ≤ x → x < M 1 15 → inT (M 1) x) ∧ fX7_check_L2 g nn (some m) (iv t) K (md m M h, n, w) = K (md m M h, n, w)) ∨ ((∃ x, (t ≤ x ∧ x < M 1 15) ∧ ¬ inT (M 1) x) ∧ fX7_check_L2 g nn (some m) (iv t) K (md m M h, n, w) = some (iv 1, (md m M h, n, w))) := by
  intro k
  induction k with
  | zero =>
    intro nn t hn ht he
    obtain ⟨q, rfl⟩ : ∃ q, nn = q + 1 := ⟨nn - 1, by omega⟩
    have h15 := hw.2.2.2.2.1
    refine Or.inl ⟨fun x a b => by omega, ?_⟩
    simp (disch := omega) only [↓reduceIte, Int.reduceEq, Int.reduceNe, Int.reduceLT, Int.reduceLE, Int.reduceNeg, Int.reduceMod, Int.reduceDiv, Int.reduceAdd, Int.reduceSub, Int.reduceMul, not_true_eq_false, not_false_eq_true, true_or, or_true, false_or, or_false, true_and, and_true, false_and, and_false, b2_T, b2_F, if_true, if_false, ↓mjn_b, ↓mjn0_b, ↓mjn2_b, iv_lit, iv_add, iv_sub, iv_mul, iv_neg, iv_le_t, iv_le_f, iv_lt_t, iv_lt_f, iv_eq_t, iv_eq_f, iv_div, iv_mod, mretT_p, mretT_b, e_mret, ↓e_bret, ↓m_mon, ↓m_oI0, m_pI0, ↓m_oI3, m_pI3, ↓m_oI5, m_pI5, ↓m_oI7, m_pI7, ↓m_oI11, m_pI11, ↓m_oI12, m_pI12, ↓m_oI13, m_pI13, ↓m_oI14, m_pI14, ↓m_oI15, m_pI15, ↓m_oI16, m_pI16, ↓m_oI17, m_pI17, m_pZ5, m_pZ12, ↓m_oR1, m_aI1, m_sI1, ↓m_oR2, m_aI2, m_sI2, ↓m_oR4, m_aI4, m_sI4, ↓m_oR6, m_aI6, m_sI6, ↓m_oR8, m_aI8, m_sI8, ↓m_oR9, m_aI9, m_sI9, ↓m_oR10, m_aI10, m_sI10, fX7_check_L2]
  | succ k ih =>
    intro nn t hn ht he
    obtain ⟨q, rfl⟩ : ∃ q, nn = q + 1 := ⟨nn - 1, by omega⟩
    have h15 := hw.2.2.2.2.1
    have hwt := wT_of hw (t := t) (by omega)
    by_cases hin : inT (M 1) t
    · have hs : fX7_check_L2 g (q + 1) (some m) (iv t) K (md m M h, n, w) = fX7_check_L2 g q (some m) (iv (t + 1)) K (md m M h, n, w) := by
        simp (disch := omega) only [↓reduceIte, Int.reduceEq, Int.reduceNe, Int.reduceLT, Int.reduceLE, Int.reduceNeg, Int.reduceMod, Int.reduceDiv, Int.reduceAdd, Int.reduceSub, Int.reduceMul, not_true_eq_false, not_false_eq_true, true_or, or_true, false_or, or_false, true_and, and_true, false_and, and_false, b2_T, b2_F, if_true, if_false, ↓mjn_b, ↓mjn0_b, ↓mjn2_b, iv_lit, iv_add, iv_sub, iv_mul, iv_neg, iv_le_t, iv_le_f, iv_lt_t, iv_lt_f, iv_eq_t, iv_eq_f, iv_div, iv_mod, mretT_p, mretT_b, e_mret, ↓e_bret, ↓m_mon, ↓m_oI0, m_pI0, ↓m_oI3, m_pI3, ↓m_oI5, m_pI5, ↓m_oI7, m_pI7, ↓m_oI11, m_pI11, ↓m_oI12, m_pI12, ↓m_oI13, m_pI13, ↓m_oI14, m_pI14, ↓m_oI15, m_pI15, ↓m_oI16, m_pI16, ↓m_oI17, m_pI17, m_pZ5, m_pZ12, ↓m_oR1, m_aI1, m_sI1, ↓m_oR2, m_aI2, m_sI2, ↓m_oR4, m_aI4, m_sI4, ↓m_oR6, m_aI6, m_sI6, ↓m_oR8, m_aI8, m_sI8, ↓m_oR9, m_aI9, m_sI9, ↓m_oR10, m_aI10, m_sI10, fX7_check_L2, X7_isIn_c, hwt, b2_t hin]
      rw [hs]
      rcases ih q (t + 1) (by omega) (by omega) (by omega) with ⟨h1, h2⟩ | ⟨⟨x, h1, h3⟩, h2⟩
      · refine Or.inl ⟨fun x a b => ?_, h2⟩
        by_cases e : x = t
        · rw [e]; exact hin
        · exact h1 x (by omega) b
      · exact Or.inr ⟨⟨x, by omega, h3⟩, h2⟩
    · refine Or.inr ⟨⟨t, by omega, hin⟩, ?_⟩
      simp (disch := omega) only [↓reduceIte, Int.reduceEq, Int.reduceNe, Int.reduceLT, Int.reduceLE, Int.reduceNeg, Int.reduceMod, Int.reduceDiv, Int.reduceAdd, Int.reduceSub, Int.reduceMul, not_true_eq_false, not_false_eq_true, true_or, or_true, false_or, or_false, true_and, and_true, false_and, and_false, b2_T, b2_F, if_true, if_false, ↓mjn_b, ↓mjn0_b, ↓mjn2_b, iv_lit, iv_add, iv_sub, iv_mul, iv_neg, iv_le_t, iv_le_f, iv_lt_t, iv_lt_f, iv_eq_t, iv_eq_f, iv_div, iv_mod, mretT_p, mretT_b, e_mret, ↓e_bret, ↓m_mon, ↓m_oI0, m_pI0, ↓m_oI3, m_pI3, ↓m_oI5, m_pI5, ↓m_oI7, m_pI7, ↓m_oI11, m_pI11, ↓m_oI12, m_pI12, ↓m_oI13, m_pI13, ↓m_oI14, m_pI14, ↓m_oI15, m_pI15, ↓m_oI16, m_pI16, ↓m_oI17, m_pI17, m_pZ5, m_pZ12, ↓m_oR1, m_aI1, m_sI1, ↓m_oR2, m_aI2, m_sI2, ↓m_oR4, m_aI4, m_sI4, ↓m_oR6, m_aI6, m_sI6, ↓m_oR8, m_aI8, m_sI8, ↓m_oR9, m_aI9, m_sI9, ↓m_oR10, m_aI10, m_sI10, fX7_check_L2, X7_isIn_c, hwt, b2_f hin]
theorem X7_check_L234_ev {g : Nat → Nat} {h : Nat → Option hC} {n w : Nat} {m : Nat} {M : Mm}  {K : Int32 → HM Int32} (h8 : ∀ c, cin c → 0 ≤ M 8 c ∧ M 8 c ≤ 60) (h9 : ∀ c, cin c → -1 ≤ M 9 c ∧ M 9 c ≤ 193) : ∀ (k nn : Nat) (a i : Int), k < nn → 0 ≤ i → i + k = 192 → a = 0 ∨ a = 1 → fX7_check_L234 g nn (some m) (iv a) (iv i) K (md m M h, n, w) = K (iv (foldI (fun a c => if a = 0 then 0 else b2 (M 8 c < 30 ∨ 0 < M 9 c)) a i k)) (md m M h, n, w) := by
  intro k
  induction k with
  | zero =>
    intro nn a i hn hi he ha
    obtain ⟨q, rfl⟩ : ∃ q, nn = q + 1 := ⟨nn - 1, by omega⟩
    simp (disch := omega) only [↓reduceIte, Int.reduceEq, Int.reduceNe, Int.reduceLT, Int.reduceLE, Int.reduceNeg, Int.reduceMod, Int.reduceDiv, Int.reduceAdd, Int.reduceSub, Int.reduceMul, not_true_eq_false, not_false_eq_true, true_or, or_true, false_or, or_false, true_and, and_true, false_and, and_false, b2_T, b2_F, if_true, if_false, ↓mjn_b, ↓mjn0_b, ↓mjn2_b, iv_lit, iv_add, iv_sub, iv_mul, iv_neg, iv_le_t, iv_le_f, iv_lt_t, iv_lt_f, iv_eq_t, iv_eq_f, iv_div, iv_mod, mretT_p, mretT_b, e_mret, ↓e_bret, ↓m_mon, ↓m_oI0, m_pI0, ↓m_oI3, m_pI3, ↓m_oI5, m_pI5, ↓m_oI7, m_pI7, ↓m_oI11, m_pI11, ↓m_oI12, m_pI12, ↓m_oI13, m_pI13, ↓m_oI14, m_pI14, ↓m_oI15, m_pI15, ↓m_oI16, m_pI16, ↓m_oI17, m_pI17, m_pZ5, m_pZ12, ↓m_oR1, m_aI1, m_sI1, ↓m_oR2, m_aI2, m_sI2, ↓m_oR4, m_aI4, m_sI4, ↓m_oR6, m_aI6, m_sI6, ↓m_oR8, m_aI8, m_sI8, ↓m_oR9, m_aI9, m_sI9, ↓m_oR10, m_aI10, m_sI10, fX7_check_L234, foldI]
  | succ k ih =>
    intro nn a i hn hi he ha
    obtain ⟨q, rfl⟩ : ∃ q, nn = q + 1 := ⟨nn - 1, by omega⟩
    have r8 := h8 i (by unfold cin; omega)
    have r9 := h9 i (by unfold cin; omega)
    by_cases h1 : a = 0
    · simp (disch := omega) only [↓reduceIte, Int.reduceEq, Int.reduceNe, Int.reduceLT, Int.reduceLE, Int.reduceNeg, Int.reduceMod, Int.reduceDiv, Int.reduceAdd, Int.reduceSub, Int.reduceMul, not_true_eq_false, not_false_eq_true, true_or, or_true, false_or, or_false, true_and, and_true, false_and, and_false, b2_T, b2_F, if_true, if_false, ↓mjn_b, ↓mjn0_b, ↓mjn2_b, iv_lit, iv_add, iv_sub, iv_mul, iv_neg, iv_le_t, iv_le_f, iv_lt_t, iv_lt_f, iv_eq_t, iv_eq_f, iv_div, iv_mod, mretT_p, mretT_b, e_mret, ↓e_bret, ↓m_mon, ↓m_oI0, m_pI0, ↓m_oI3, m_pI3, ↓m_oI5, m_pI5, ↓m_oI7, m_pI7, ↓m_oI11, m_pI11, ↓m_oI12, m_pI12, ↓m_oI13, m_pI13, ↓m_oI14, m_pI14, ↓m_oI15, m_pI15, ↓m_oI16, m_pI16, ↓m_oI17, m_pI17, m_pZ5, m_pZ12, ↓m_oR1, m_aI1, m_sI1, ↓m_oR2, m_aI2, m_sI2, ↓m_oR4, m_aI4, m_sI4, ↓m_oR6, m_aI6, m_sI6, ↓m_oR8, m_aI8, m_sI8, ↓m_oR9, m_aI9, m_sI9, ↓m_oR10, m_aI10, m_sI10, fX7_check_L234, foldI, ih, h1]
    · by_cases h2 : M 8 i < 30
      · simp (disch := omega) only [↓reduceIte, Int.reduceEq, Int.reduceNe, Int.reduceLT, Int.reduceLE, Int.reduceNeg, Int.reduceMod, Int.reduceDiv, Int.reduceAdd, Int.reduceSub, Int.reduceMul, not_true_eq_false, not_false_eq_true, true_or, or_true, false_or, or_false, true_and, and_true, false_and, and_false, b2_T, b2_F, if_true, if_false, ↓mjn_b, ↓mjn0_b, ↓mjn2_b, iv_lit, iv_add, iv_sub, iv_mul, iv_neg, iv_le_t, iv_le_f, iv_lt_t, iv_lt_f, iv_eq_t, iv_eq_f, iv_div, iv_mod, mretT_p, mretT_b, e_mret, ↓e_bret, ↓m_mon, ↓m_oI0, m_pI0, ↓m_oI3, m_pI3, ↓m_oI5, m_pI5, ↓m_oI7, m_pI7, ↓m_oI11, m_pI11, ↓m_oI12, m_pI12, ↓m_oI13, m_pI13, ↓m_oI14, m_pI14, ↓m_oI15, m_pI15, ↓m_oI16, m_pI16, ↓m_oI17, m_pI17, m_pZ5, m_pZ12, ↓m_oR1, m_aI1, m_sI1, ↓m_oR2, m_aI2, m_sI2, ↓m_oR4, m_aI4, m_sI4, ↓m_oR6, m_aI6, m_sI6, ↓m_oR8, m_aI8, m_sI8, ↓m_oR9, m_aI9, m_sI9, ↓m_oR10, m_aI10, m_sI10, fX7_check_L234, foldI, ih, h1, h2]
      · by_cases h3 : 0 < M 9 i
        · simp (disch := omega) only [↓reduceIte, Int.reduceEq, Int.reduceNe, Int.reduceLT, Int.reduceLE, Int.reduceNeg, Int.reduceMod, Int.reduceDiv, Int.reduceAdd, Int.reduceSub, Int.reduceMul, not_true_eq_false, not_false_eq_true, true_or, or_true, false_or, or_false, true_and, and_true, false_and, and_false, b2_T, b2_F, if_true, if_false, ↓mjn_b, ↓mjn0_b, ↓mjn2_b, iv_lit, iv_add, iv_sub, iv_mul, iv_neg, iv_le_t, iv_le_f, iv_lt_t, iv_lt_f, iv_eq_t, iv_eq_f, iv_div, iv_mod, mretT_p, mretT_b, e_mret, ↓e_bret, ↓m_mon, ↓m_oI0, m_pI0, ↓m_oI3, m_pI3, ↓m_oI5, m_pI5, ↓m_oI7, m_pI7, ↓m_oI11, m_pI11, ↓m_oI12, m_pI12, ↓m_oI13, m_pI13, ↓m_oI14, m_pI14, ↓m_oI15, m_pI15, ↓m_oI16, m_pI16, ↓m_oI17, m_pI17, m_pZ5, m_pZ12, ↓m_oR1, m_aI1, m_sI1, ↓m_oR2, m_aI2, m_sI2, ↓m_oR4, m_aI4, m_sI4, ↓m_oR6, m_aI6, m_sI6, ↓m_oR8, m_aI8, m_sI8, ↓m_oR9, m_aI9, m_sI9, ↓m_oR10, m_aI10, m_sI10, fX7_check_L234, foldI, ih, h1, h2, h3]
        · simp (disch := omega) only [↓reduceIte, Int.reduceEq, Int.reduceNe, Int.reduceLT, Int.reduceLE, Int.reduceNeg, Int.reduceMod, Int.reduceDiv, Int.reduceAdd, Int.reduceSub, Int.reduceMul, not_true_eq_false, not_false_eq_true, true_or, or_true, false_or, or_false, true_and, and_true, false_and, and_false, b2_T, b2_F, if_true, if_false, ↓mjn_b, ↓mjn0_b, ↓mjn2_b, iv_lit, iv_add, iv_sub, iv_mul, iv_neg, iv_le_t, iv_le_f, iv_lt_t, iv_lt_f, iv_eq_t, iv_eq_f, iv_div, iv_mod, mretT_p, mretT_b, e_mret, ↓e_bret, ↓m_mon, ↓m_oI0, m_pI0, ↓m_oI3, m_pI3, ↓m_oI5, m_pI5, ↓m_oI7, m_pI7, ↓m_oI11, m_pI11, ↓m_oI12, m_pI12, ↓m_oI13, m_pI13, ↓m_oI14, m_pI14, ↓m_oI15, m_pI15, ↓m_oI16, m_pI16, ↓m_oI17, m_pI17, m_pZ5, m_pZ12, ↓m_oR1, m_aI1, m_sI1, ↓m_oR2, m_aI2, m_sI2, ↓m_oR4, m_aI4, m_sI4, ↓m_oR6, m_aI6, m_sI6, ↓m_oR8, m_aI8, m_sI8, ↓m_oR9, m_aI9, m_sI9, ↓m_oR10, m_aI10, m_sI10, fX7_check_L234, foldI, ih, h1, h2, h3]
theorem X7_check_ev {g : Nat → Nat} {h : Nat → Option hC} {n w m : Nat} {M : Mm} (hw : wH (M 1)) :
    ∃ (M' : Mm), fX7_check g (some m) (md m M h, n, w) = some (iv (pck (M 1)), (md m M' h, n, w)) ∧ (∀ b, b ≠ 8 → b ≠ 9 → b ≠ 10 → M' b = M b) ∧
    (pck (M 1) = 0 → (∀ c, cin c → M' 8 c = mapOf (laid 30 (M 1)) c) ∧ ∀ c, cin c → dst (entD (mapOf (laid 30 (M 1))) 30) (expD (mapOf (laid 30 (M 1))) (M 1 1)) (M 1 1) (M' 9 c) c ∧ -1 ≤ M' 9 c ∧ M' 9 c ≤ 193) := by
  have h15 := hw.2.2.2.2.1
  have h1 := hw.2.1
  have h2 := hw.2.2.1
  unfold fX7_check
  simp only [iv_lit]
  rcases X7_check_L2_ev (g := g) (h := h) (n := n) (w := w) (m := m) (K := fX7_check_L31 g 5000 (some m) (iv 0) (mb (oR 12 1 (some m)) fun x30 => mb (aI 0 x30 (iv 1)) fun x31 => mb (mon 12 (some m) (mcall0 (fX7_lays g (some m) x31 (iv 2)))) fun x32 =>
      fX7_check_L65 g 5000 (some m) x32 (iv 0) (fun x33 => fX7_check_L109 g 5000 (some m) x33 (iv 0) (fun x34 => if x34 = iv 0 then mret (iv 2) else mb (mon 12 (some m) (mcall0 (fX7_spread g (some m)))) fun _ => fX7_check_L234 g 5000 (some m) x34 (iv 0) (fun x35 => if x35 = iv 0 then mret (iv 3) else mret (iv 0)))))) hw (M 1 15).toNat 5000 0 (by omega) (by omega) (by omega) with ⟨hin, e0⟩ | ⟨⟨x, hx1, hx2⟩, e0⟩
  · have hex : ¬ ∃ t, (0 ≤ t ∧ t < M 1 15) ∧ ¬ inT (M 1) t := fun ⟨t, a, b⟩ => b (hin t a.1 a.2)
    rw [e0, X7_check_L31_ev 192 5000 M 0 (by omega) (by omega) (by omega)]
    have hP0 : lp_is ((mfl M 8 0 192 0) 8) [] := ⟨fun c a b => mfl_at ⟨a, b⟩, fun p hp => absurd hp List.not_mem_nil⟩
    have hP1 : lp_is ((mu (mfl M 8 0 192 0) 8 (M 1 1) 2) 8) [(M 1 1, 2)] := lp_mu hP0 (by omega)
    have h11 : (mu (mfl M 8 0 192 0) 8 (M 1 1) 2) 1 = M 1 := by rw [mu_ob (by decide), mfl_ob (by decide)]
    have hfree : mfl M 8 0 192 0 8 (M 1 1) = 0 := mfl_at h1
    obtain ⟨M1, e1, e2, e3⟩ := X7_check_L65_ev (g := g) (h := h) (n := n) (w := w) (m := m) (t := 0) (K := fun x33 => fX7_check_L109 g 5000 (some m) x33 (iv 0) (fun x34 => if x34 = iv 0 then mret (iv 2) else mb (mon 12 (some m) (mcall0 (fX7_spread g (some m)))) fun _ => fX7_check_L234 g 5000 (some m) x34 (iv 0) (fun x35 => if x35 = iv 0 then mret (iv 3) else mret (iv 0)))) hw (M 1 2).toNat 5000 (mu (mfl M 8 0 192 0) 8 (M 1 1) 2) [(M 1 1, 2)] 1 0 (by omega) (by omega) (by omega) h11 hP1 (b2_t (by unfold nd; simp)).symm
    obtain ⟨M2, f1, f2, f3⟩ := X7_check_L109_ev (g := g) (h := h) (n := n) (w := w) (m := m) (K := fun x34 => if x34 = iv 0 then mret (iv 2) else mb (mon 12 (some m) (mcall0 (fX7_spread g (some m)))) fun _ => fX7_check_L234 g 5000 (some m) x34 (iv 0) (fun x35 => if x35 = iv 0 then mret (iv 3) else mret (iv 0))) hw hin (M 1 15).toNat 5000 M1 _ _ 0 (by omega) (by omega) (by omega) (by rw [e3 1 (by decide)]; exact h11) e2 rfl
    have hl : [(M 1 1, 2)] ++ runL (fun c => (M 1 (3 + c), (1 : Int))) 0 (M 1 2).toNat ++ (runL (tlay 30 (M 1)) 0 (M 1 15).toNat).flatten = laid 30 (M 1) := rfl
    rw [hl] at f1 f2
    have hfr : ∀ b, b ≠ 8 → M2 b = M b := fun b hb => by rw [f3 b hb, e3 b hb, mu_ob hb, mfl_ob hb]
    have hgo : ∀ R, (fun x34 => if x34 = iv 0 then mret (iv 2) else mb (mon 12 (some m) (mcall0 (fX7_spread g (some m)))) fun _ => fX7_check_L234 g 5000 (some m) x34 (iv 0) (fun x35 => if x35 = iv 0 then mret (iv 3) else mret (iv 0)) : Int32 → HM Int32) (iv (b2 (nd (laid 30 (M 1))))) (md m M2 h, n, w) = R →
        (mb (oR 12 1 (some m)) fun x30 => mb (aI 0 x30 (iv 1)) fun x31 => mb (mon 12 (some m) (mcall0 (fX7_lays g (some m) x31 (iv 2)))) fun x32 => fX7_check_L65 g 5000 (some m) x32 (iv 0) (fun x33 => fX7_check_L109 g 5000 (some m) x33 (iv 0) (fun x34 => if x34 = iv 0 then mret (iv 2) else mb (mon 12 (some m) (mcall0 (fX7_spread g (some m)))) fun _ => fX7_check_L234 g 5000 (some m) x34 (iv 0) (fun x35 => if x35 = iv 0 then mret (iv 3) else mret (iv 0))))) (md m (mfl M 8 0 192 0) h, n, w) = R := fun R hR => by
      refine Eq.trans ?_ (e1.trans (f1.trans hR))
      simp (disch := omega) only [↓m_oR1, m_aI1, ↓m_mon, mfl_ob (show (1 : Nat) ≠ 8 by decide), X7_lays_c, hfree, b2_T, iv_lit]
    by_cases hnd : nd (laid 30 (M 1))
    · have hm8 : mrg (M2 8) := fun c hc => lp_rg f2 hc
      have hd2 : cin (M2 1 1) := by rw [hfr 1 (by decide)]; exact h1
      obtain ⟨M3, g1, g2, g3⟩ := X7_spread_ev (g := g) (h := h) (n := n) (w := 0) (m := m) hm8 hd2
      have h38 : M3 8 = M2 8 := g3 8 (by decide) (by decide)
      have hmap : ∀ c, cin c → M2 8 c = mapOf (laid 30 (M 1)) c := fun c hc => f2.1 c hc.1 hc.2
      have hdst : ∀ c, cin c → dst (entD (mapOf (laid 30 (M 1))) 30) (expD (mapOf (laid 30 (M 1))) (M 1 1)) (M 1 1) (M3 9 c) c ∧ -1 ≤ M3 9 c ∧ M3 9 c ≤ 193 := fun c hc => by
        have := g2 c hc
        rw [hfr 1 (by decide)] at this
        refine ⟨dst_congr h1 (fun x hx => ?_) (fun x hx => ?_) this.1, this.2⟩
        · unfold entD; rw [hmap x hx]
        · unfold expD; rw [hmap x hx]
      have hall := X7_check_L234_ev (g := g) (h := h) (n := n) (w := w) (m := m) (M := M3) (K := fun x35 => if x35 = iv 0 then mret (iv 3) else mret (iv 0)) (by rw [h38]; exact hm8) (fun c hc => (hdst c hc).2) 192 5000 1 0 (by omega) (by omega) (by omega) (Or.inr rfl)
      rw [foldI_and1] at hall
      have hiff : (∀ j, 0 ≤ j → j < 0 + ((192 : Nat) : Int) → (M3 8 j < 30 ∨ 0 < M3 9 j)) ↔ wk_all 30 (mapOf (laid 30 (M 1))) (M 1 1) := by
        unfold wk_all
        constructor
        · intro q c hc h30
          have q1 := q c hc.1 (by have := hc.2; omega)
          rw [h38, hmap c hc] at q1
          have q2 : 0 < M3 9 c := q1.resolve_left (by omega)
          rcases (hdst c hc).1 with ⟨a, -⟩ | ⟨k, -, b, -⟩
          · omega
          · exact ⟨k, b⟩
        · intro q j a b
          have hc : cin j := ⟨a, by omega⟩
          by_cases h30 : 30 ≤ M3 8 j
          · right
            rw [h38, hmap j hc] at h30
            obtain ⟨k, hk⟩ := q j hc h30
            rcases (hdst j hc).1 with ⟨-, c⟩ | ⟨k', c, d, -⟩
            · exact absurd hk (c k)
            · have hk0 : k' ≠ 0 := fun e => by
                subst e
                have e2 : j = M 1 1 := d
                have e3 : mapOf (laid 30 (M 1)) (M 1 1) = 2 := mapOf_mem hnd (List.mem_cons_self ..)
                rw [e2, e3] at h30
                omega
              omega
          · left; omega
      by_cases hwk : wk_all 30 (mapOf (laid 30 (M 1))) (M 1 1)
      · refine ⟨M3, ?_, fun b b8 b9 b10 => by rw [g3 b b9 b10, hfr b b8], fun _ => ⟨fun c hc => by rw [h38]; exact hmap c hc, hdst⟩⟩
        rw [pck_0 hex hnd hwk]
        refine hgo _ ?_
        rw [b2_t (hiff.mpr hwk)] at hall
        rw [b2_t hnd]
        simp (disch := omega) only [↓reduceIte, iv_eq_f, ↓m_mon, e_call0 g1]
        rw [hall]
        simp (disch := omega) only [↓reduceIte, iv_eq_f, e_mret]
      · refine ⟨M3, ?_, fun b b8 b9 b10 => by rw [g3 b b9 b10, hfr b b8], fun h0 => by rw [pck_3 hex hnd hwk] at h0; omega⟩
        rw [pck_3 hex hnd hwk]
        refine hgo _ ?_
        rw [b2_f (fun q => hwk (hiff.mp q))] at hall
        rw [b2_t hnd]
        simp (disch := omega) only [↓reduceIte, iv_eq_f, ↓m_mon, e_call0 g1]
        rw [hall]
        simp (disch := omega) only [↓reduceIte, iv_eq_t, e_mret]
    · refine ⟨M2, ?_, fun b b8 _ _ => hfr b b8, fun h0 => by rw [pck_2 hex hnd] at h0; omega⟩
      rw [pck_2 hex hnd]
      refine hgo _ ?_
      rw [b2_f hnd]
      simp (disch := omega) only [↓reduceIte, iv_eq_t, e_mret]
  · refine ⟨M, ?_, fun b _ _ _ => rfl, fun h0 => ?_⟩
    · rw [e0, pck_1 ⟨x, hx1, hx2⟩]
    · rw [pck_1 ⟨x, hx1, hx2⟩] at h0
      omega

