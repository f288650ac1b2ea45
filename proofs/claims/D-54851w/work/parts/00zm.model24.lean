/-! ===== the model: texts, undoing, the snapshot ===== -/
/-- the text changes -/
theorem MS_x {M M' : Mm} {x : XS} {T : Int → Int} {l : Int} (h : MS M x) (q : ∀ b, b ≠ 0 → b ≠ 6 → M' b = M b) (q0 : ∀ j, 1 ≤ j → j < 7 → M' 0 j = M 0 j) (e6 : M' 6 = T) (e7 : M' 0 7 = l) (ht : txt T l) : MS M' (x.1, x.2.1, x.2.2.1, T, l) := by
  obtain ⟨h1, h2, ⟨h3, h4, h5⟩, h6, h7, h8, h9⟩ := h
  refine ⟨by rw [q 1 (by decide) (by decide)]; exact h1, h2, ⟨h3, by rw [q0 3 (by omega) (by omega)]; exact h4, fun j z hj => ?_⟩, ?_, e6, e7, ht⟩
  · have e : hrow M' j = hrow M j := by unfold hrow; rw [q 2 (by decide) (by decide)]
    rw [e]; exact h5 j z hj
  · rcases h6 with ⟨a, b⟩ | ⟨s, a, b, c, d⟩
    · exact Or.inl ⟨a, by rw [q0 5 (by omega) (by omega)]; exact b⟩
    · exact Or.inr ⟨s, a, by rw [q0 5 (by omega) (by omega)]; exact b, by rw [q 4 (by decide) (by decide)]; exact c, d⟩
theorem MR_x {m n : Nat} {h : Nat → Option hC} {res : Option (Int32 × Hp)} {x : XS} {v : Int} {M' : Mm} {x' : XS} (e : res = some (iv v, (md m M' h, n, 0))) (h0 : M' 0 0 = 0) (hs : MS M' x') (hx : xeq x x') : MR m h n res (0, v, x) := ⟨M', _, e, h0, fun _ => rfl, x', hs, hx⟩
theorem recd_q {g : Nat → Nat} {h : Nat → Option hC} {n m : Nat} {M Ma : Mm} {x : XS} (hs : MS M x) (q : qeff M Ma) : ∃ Mb : Mm, fX7_record g (some m) (md m Ma h, n, 0) = some ((), (md m Mb h, n, 0)) ∧ Mb 1 = Ma 1 ∧ (∀ j, j ≠ 3 → Mb 0 j = Ma 0 j) ∧ ueff M Mb ∧ Mb 6 = M 6 := by
  have h3 := hs.2.2.1
  obtain ⟨hz, qb, em⟩ := q
  obtain ⟨Mb, e1, e2, e3, e4, e5, e6⟩ := X7_record_ev (g := g) (h := h) (n := n) (w := 0) (m := m) (M := Ma) (by rw [em 3 (by omega) (by omega)]; omega)
  rw [em 3 (by omega) (by omega)] at e4 e5 e6
  refine ⟨Mb, e1, e2 1 (by decide) (by decide), e3, ⟨e4, fun i hi => ?_, fun j i a b c d => ?_, ?_, ?_, ?_, ?_⟩, ?_⟩
  · have hr := rel_rg (MS_z hs) hi
    rw [e5 i hr.1 hr.2]
    exact hz i hi
  · rw [e6 j i a b c d]
    unfold hrow
    rw [qb 2 (by decide) (by decide) (by decide) (by decide) (by decide)]
  · rw [e2 4 (by decide) (by decide), qb 4 (by decide) (by decide) (by decide) (by decide) (by decide)]
  · rw [e2 6 (by decide) (by decide), qb 6 (by decide) (by decide) (by decide) (by decide) (by decide)]
  · rw [e3 5 (by omega), em 5 (by omega) (by omega)]
  · rw [e3 7 (by omega), em 7 (by omega) (by omega)]
  · rw [e2 6 (by decide) (by decide), qb 6 (by decide) (by decide) (by decide) (by decide) (by decide)]
theorem ueff_r {M Mb M' : Mm} (u : ueff M Mb) (q : rsm Mb M') : ueff M M' := by
  obtain ⟨u1, u2, u3, u4, u5, u6, u7⟩ := u
  have e2 : ∀ j, hrow M' j = hrow Mb j := fun j => by unfold hrow; rw [q.1 2 (by decide) (by decide) (by decide) (by decide) (by decide)]
  refine ⟨by rw [q.2 3 (by omega)]; exact u1, by rw [e2]; exact u2, fun j i a b c d => by rw [e2]; exact u3 j i a b c d, by rw [q.1 4 (by decide) (by decide) (by decide) (by decide) (by decide)]; exact u4, by rw [q.1 6 (by decide) (by decide) (by decide) (by decide) (by decide)]; exact u5, by rw [q.2 5 (by omega)]; exact u6, by rw [q.2 7 (by omega)]; exact u7⟩
noncomputable def o_append (x : XS) (c : Int) : Int × Int × XS := @ite (Int × Int × XS) (32 ≤ c ∧ c ≤ 126) (Classical.propDecidable _) (@ite (Int × Int × XS) (x.2.2.2.2 = 60) (Classical.propDecidable _) (2, 0, x) (0, x.2.2.2.2 + 1, (x.1, x.2.1, x.2.2.1, iu x.2.2.2.1 x.2.2.2.2 c, x.2.2.2.2 + 1))) (1, 0, x)
theorem MR_append {g : Nat → Nat} {h : Nat → Option hC} {n m : Nat} {M : Mm} {x : XS} {c : Int} (hs : MS M x) (hc : -2147483648 ≤ c ∧ c < 2147483648) : MR m h n (fX7_append g (some m) (iv c) (md m M h, n, 0)) (o_append x c) := by
  have hz := MS_z hs
  have hx := hs.1
  unfold o_append
  rw [hx]
  have h15 := wZ_15 hz
  have h60 := wZ_60 hz
  have hh := hz.1
  obtain ⟨t6, t7, ht⟩ := hs.2.2.2.2
  have hl := ht.1
  rw [← t7] at hl
  by_cases hg : 32 ≤ c ∧ c ≤ 126
  · rw [if_pos hg]
    by_cases hq : M 0 7 = 60
    · rw [if_pos (by rw [← t7]; exact hq)]
      refine MR_q hs (mu M 0 0 2) (iv 0) ?_ mu_eq (fun q => by omega) qeff_0
      unfold fX7_append
      simp (disch := omega) only [↓reduceIte, Int.reduceEq, Int.reduceNe, Int.reduceLT, Int.reduceLE, Int.reduceNeg, Int.reduceMod, Int.reduceDiv, Int.reduceAdd, Int.reduceSub, Int.reduceMul, not_true_eq_false, not_false_eq_true, Int.lt_irrefl, true_or, or_true, false_or, or_false, true_and, and_true, false_and, and_false, b2_T, b2_F, if_true, if_false, ↓mjn_b, ↓mjn0_b, ↓mjn2_b, iv_lit, iv_add, iv_sub, iv_mul, iv_neg, iv_le_t, iv_le_f, iv_lt_t, iv_lt_f, iv_eq_t, iv_eq_f, iv_div, iv_mod, mretT_p, mretT_b, e_mret, ↓e_bret, ↓m_mon, ↓m_oI0, m_pI0, ↓m_oI3, m_pI3, ↓m_oI5, m_pI5, ↓m_oI7, m_pI7, ↓m_oI11, m_pI11, ↓m_oI12, m_pI12, ↓m_oI13, m_pI13, ↓m_oI14, m_pI14, ↓m_oI15, m_pI15, ↓m_oI16, m_pI16, ↓m_oI17, m_pI17, m_pZ5, m_pZ12, ↓m_oR1, m_aI1, m_sI1, ↓m_oR2, m_aI2, m_sI2, ↓m_oR4, m_aI4, m_sI4, ↓m_oR6, m_aI6, m_sI6, ↓m_oR8, m_aI8, m_sI8, ↓m_oR9, m_aI9, m_sI9, ↓m_oR10, m_aI10, m_sI10, X7_in_c, b2_t hg, hq, mu_nb, mu_at, mu_ni]
    · rw [if_neg (by rw [← t7]; exact hq)]
      have e7 : (mu (mu (mu M 0 0 0) 6 (M 0 7) c) 0 7 (M 0 7 + 1)) 0 7 = x.2.2.2.2 + 1 := by rw [mu_eq, t7]
      refine MR_x (M' := mu (mu (mu M 0 0 0) 6 (M 0 7) c) 0 7 (M 0 7 + 1)) ?_ (by rw [mu_ni (by omega), mu_nb (by decide), mu_eq]) (MS_x hs (T := iu x.2.2.2.1 x.2.2.2.2 c) (fun b b0 b6 => by rw [mu_ob b0, mu_ob b6, mu_ob b0]) (fun j a b => by rw [mu_ni (by omega), mu_nb (by decide), mu_ni (by omega)]) (by rw [mu_ob (by decide), mu_iu, mu_ob (by decide), t6, t7]) e7 ⟨by omega, fun k a b => ?_⟩) (by rw [← hx]; exact xeq_rf)
      · rw [← t7]
        unfold fX7_append
        simp (disch := omega) only [↓reduceIte, Int.reduceEq, Int.reduceNe, Int.reduceLT, Int.reduceLE, Int.reduceNeg, Int.reduceMod, Int.reduceDiv, Int.reduceAdd, Int.reduceSub, Int.reduceMul, not_true_eq_false, not_false_eq_true, Int.lt_irrefl, true_or, or_true, false_or, or_false, true_and, and_true, false_and, and_false, b2_T, b2_F, if_true, if_false, ↓mjn_b, ↓mjn0_b, ↓mjn2_b, iv_lit, iv_add, iv_sub, iv_mul, iv_neg, iv_le_t, iv_le_f, iv_lt_t, iv_lt_f, iv_eq_t, iv_eq_f, iv_div, iv_mod, mretT_p, mretT_b, e_mret, ↓e_bret, ↓m_mon, ↓m_oI0, m_pI0, ↓m_oI3, m_pI3, ↓m_oI5, m_pI5, ↓m_oI7, m_pI7, ↓m_oI11, m_pI11, ↓m_oI12, m_pI12, ↓m_oI13, m_pI13, ↓m_oI14, m_pI14, ↓m_oI15, m_pI15, ↓m_oI16, m_pI16, ↓m_oI17, m_pI17, m_pZ5, m_pZ12, ↓m_oR1, m_aI1, m_sI1, ↓m_oR2, m_aI2, m_sI2, ↓m_oR4, m_aI4, m_sI4, ↓m_oR6, m_aI6, m_sI6, ↓m_oR8, m_aI8, m_sI8, ↓m_oR9, m_aI9, m_sI9, ↓m_oR10, m_aI10, m_sI10, X7_in_c, b2_t hg, hq, mu_nb, mu_at, mu_ni]
      · by_cases e : k = x.2.2.2.2
        · rw [iu_at e]; exact hg
        · rw [iu_ne e]; exact ht.2 k a (by omega)
  · rw [if_neg hg]
    refine MR_q hs (mu M 0 0 1) (iv 0) ?_ mu_eq (fun q => by omega) qeff_0
    unfold fX7_append
    simp (disch := omega) only [↓reduceIte, Int.reduceEq, Int.reduceNe, Int.reduceLT, Int.reduceLE, Int.reduceNeg, Int.reduceMod, Int.reduceDiv, Int.reduceAdd, Int.reduceSub, Int.reduceMul, not_true_eq_false, not_false_eq_true, Int.lt_irrefl, true_or, or_true, false_or, or_false, true_and, and_true, false_and, and_false, b2_T, b2_F, if_true, if_false, ↓mjn_b, ↓mjn0_b, ↓mjn2_b, iv_lit, iv_add, iv_sub, iv_mul, iv_neg, iv_le_t, iv_le_f, iv_lt_t, iv_lt_f, iv_eq_t, iv_eq_f, iv_div, iv_mod, mretT_p, mretT_b, e_mret, ↓e_bret, ↓m_mon, ↓m_oI0, m_pI0, ↓m_oI3, m_pI3, ↓m_oI5, m_pI5, ↓m_oI7, m_pI7, ↓m_oI11, m_pI11, ↓m_oI12, m_pI12, ↓m_oI13, m_pI13, ↓m_oI14, m_pI14, ↓m_oI15, m_pI15, ↓m_oI16, m_pI16, ↓m_oI17, m_pI17, m_pZ5, m_pZ12, ↓m_oR1, m_aI1, m_sI1, ↓m_oR2, m_aI2, m_sI2, ↓m_oR4, m_aI4, m_sI4, ↓m_oR6, m_aI6, m_sI6, ↓m_oR8, m_aI8, m_sI8, ↓m_oR9, m_aI9, m_sI9, ↓m_oR10, m_aI10, m_sI10, X7_in_c, b2_f hg, mu_nb, mu_at, mu_ni]
noncomputable def o_clearText (x : XS) : Int × Int × XS := (0, x.2.2.2.2, (x.1, x.2.1, x.2.2.1, x.2.2.2.1, 0))
theorem MR_clearText {g : Nat → Nat} {h : Nat → Option hC} {n m : Nat} {M : Mm} {x : XS} (hs : MS M x) : MR m h n (fX7_clearText g (some m) (md m M h, n, 0)) (o_clearText x) := by
  have hz := MS_z hs
  have hx := hs.1
  unfold o_clearText
  rw [hx]
  have h15 := wZ_15 hz
  have h60 := wZ_60 hz
  have hh := hz.1
  obtain ⟨t6, t7, ht⟩ := hs.2.2.2.2
  refine MR_x (M' := mu (mu M 0 0 0) 0 7 0) ?_ (by rw [mu_ni (by omega), mu_eq]) (MS_x hs (T := x.2.2.2.1) (l := 0) (fun b b0 b6 => by rw [mu_ob b0, mu_ob b0]) (fun j a b => by rw [mu_ni (by omega), mu_ni (by omega)]) (by rw [mu_ob (by decide), mu_ob (by decide), t6]) mu_eq ⟨by omega, fun k a b => absurd (Int.lt_of_le_of_lt a b) (Int.lt_irrefl 0)⟩) (by rw [← hx]; exact xeq_rf)
  rw [← t7]
  unfold fX7_clearText
  simp (disch := omega) only [↓reduceIte, Int.reduceEq, Int.reduceNe, Int.reduceLT, Int.reduceLE, Int.reduceNeg, Int.reduceMod, Int.reduceDiv, Int.reduceAdd, Int.reduceSub, Int.reduceMul, not_true_eq_false, not_false_eq_true, Int.lt_irrefl, true_or, or_true, false_or, or_false, true_and, and_true, false_and, and_false, b2_T, b2_F, if_true, if_false, ↓mjn_b, ↓mjn0_b, ↓mjn2_b, iv_lit, iv_add, iv_sub, iv_mul, iv_neg, iv_le_t, iv_le_f, iv_lt_t, iv_lt_f, iv_eq_t, iv_eq_f, iv_div, iv_mod, mretT_p, mretT_b, e_mret, ↓e_bret, ↓m_mon, ↓m_oI0, m_pI0, ↓m_oI3, m_pI3, ↓m_oI5, m_pI5, ↓m_oI7, m_pI7, ↓m_oI11, m_pI11, ↓m_oI12, m_pI12, ↓m_oI13, m_pI13, ↓m_oI14, m_pI14, ↓m_oI15, m_pI15, ↓m_oI16, m_pI16, ↓m_oI17, m_pI17, m_pZ5, m_pZ12, ↓m_oR1, m_aI1, m_sI1, ↓m_oR2, m_aI2, m_sI2, ↓m_oR4, m_aI4, m_sI4, ↓m_oR6, m_aI6, m_sI6, ↓m_oR8, m_aI8, m_sI8, ↓m_oR9, m_aI9, m_sI9, ↓m_oR10, m_aI10, m_sI10, mu_nb, mu_at, mu_ni]
noncomputable def o_errorPosition (x : XS) : Int × Int × XS := (0, (if (pP x.2.2.2.1 x.2.2.2.2).2 = 0 then x.2.2.2.2 else (pP x.2.2.2.1 x.2.2.2.2).1), x)
theorem MR_errorPosition {g : Nat → Nat} {h : Nat → Option hC} {n m : Nat} {M : Mm} {x : XS} (hs : MS M x) : MR m h n (fX7_errorPosition g (some m) (md m M h, n, 0)) (o_errorPosition x) := by
  have hz := MS_z hs
  have hx := hs.1
  unfold o_errorPosition
  have h15 := wZ_15 hz
  have h60 := wZ_60 hz
  have hh := hz.1
  obtain ⟨t6, t7, ht⟩ := hs.2.2.2.2
  obtain ⟨M2, e1, e2⟩ := X7_parse_ev (g := g) (h := h) (n := n) (m := m) (M := mu M 0 0 0) (by rw [mu_ob (by decide), mu_ni (by omega), t6, t7]; exact ht)
  rw [mu_ob (show (6 : Nat) ≠ 0 by decide), mu_ni (by omega), t6, t7] at e1
  have e7 : M2 0 7 = x.2.2.2.2 := by rw [e2.2 7 (by omega), mu_ni (by omega), t7]
  refine MR_q hs (mst M2 (pP x.2.2.2.1 x.2.2.2.2)) _ ?_ (by rw [mst_j (by omega), e2.2 0 (by omega), mu_eq]) (fun _ => rfl) ⟨by rw [mst_ob (by decide), e2.1 1 (by decide), mu_ob (by decide)]; exact zeq_rf, fun b b0 _ _ _ _ => by rw [mst_ob b0, e2.1 b b0, mu_ob b0], fun j a b => by rw [mst_j (by omega), e2.2 j (by omega), mu_ni (by omega)]⟩
  unfold fX7_errorPosition
  have h12 := mst_12 (M := M2) (s := pP x.2.2.2.1 x.2.2.2.2)
  have h11 := mst_11 (M := M2) (s := pP x.2.2.2.1 x.2.2.2.2)
  have h7 : mst M2 (pP x.2.2.2.1 x.2.2.2.2) 0 7 = x.2.2.2.2 := by rw [mst_j (by omega), e7]
  have hok : sok x.2.2.2.2 (pP x.2.2.2.1 x.2.2.2.2) := pL_ok 61 _ (pO_ok ⟨by omega, ht.1.1⟩)
  have hok2 := hok.2
  by_cases hq : (pP x.2.2.2.1 x.2.2.2.2).2 = 0
  · rw [if_pos hq]
    simp (disch := omega) only [↓reduceIte, Int.reduceEq, Int.reduceNe, Int.reduceLT, Int.reduceLE, Int.reduceNeg, Int.reduceMod, Int.reduceDiv, Int.reduceAdd, Int.reduceSub, Int.reduceMul, not_true_eq_false, not_false_eq_true, Int.lt_irrefl, true_or, or_true, false_or, or_false, true_and, and_true, false_and, and_false, b2_T, b2_F, if_true, if_false, ↓mjn_b, ↓mjn0_b, ↓mjn2_b, iv_lit, iv_add, iv_sub, iv_mul, iv_neg, iv_le_t, iv_le_f, iv_lt_t, iv_lt_f, iv_eq_t, iv_eq_f, iv_div, iv_mod, mretT_p, mretT_b, e_mret, ↓e_bret, ↓m_mon, ↓m_oI0, m_pI0, ↓m_oI3, m_pI3, ↓m_oI5, m_pI5, ↓m_oI7, m_pI7, ↓m_oI11, m_pI11, ↓m_oI12, m_pI12, ↓m_oI13, m_pI13, ↓m_oI14, m_pI14, ↓m_oI15, m_pI15, ↓m_oI16, m_pI16, ↓m_oI17, m_pI17, m_pZ5, m_pZ12, ↓m_oR1, m_aI1, m_sI1, ↓m_oR2, m_aI2, m_sI2, ↓m_oR4, m_aI4, m_sI4, ↓m_oR6, m_aI6, m_sI6, ↓m_oR8, m_aI8, m_sI8, ↓m_oR9, m_aI9, m_sI9, ↓m_oR10, m_aI10, m_sI10, e_call0 e1, h12, h11, h7, hq, mu_nb, mu_at, mu_ni]
  · rw [if_neg hq]
    simp (disch := omega) only [↓reduceIte, Int.reduceEq, Int.reduceNe, Int.reduceLT, Int.reduceLE, Int.reduceNeg, Int.reduceMod, Int.reduceDiv, Int.reduceAdd, Int.reduceSub, Int.reduceMul, not_true_eq_false, not_false_eq_true, Int.lt_irrefl, true_or, or_true, false_or, or_false, true_and, and_true, false_and, and_false, b2_T, b2_F, if_true, if_false, ↓mjn_b, ↓mjn0_b, ↓mjn2_b, iv_lit, iv_add, iv_sub, iv_mul, iv_neg, iv_le_t, iv_le_f, iv_lt_t, iv_lt_f, iv_eq_t, iv_eq_f, iv_div, iv_mod, mretT_p, mretT_b, e_mret, ↓e_bret, ↓m_mon, ↓m_oI0, m_pI0, ↓m_oI3, m_pI3, ↓m_oI5, m_pI5, ↓m_oI7, m_pI7, ↓m_oI11, m_pI11, ↓m_oI12, m_pI12, ↓m_oI13, m_pI13, ↓m_oI14, m_pI14, ↓m_oI15, m_pI15, ↓m_oI16, m_pI16, ↓m_oI17, m_pI17, m_pZ5, m_pZ12, ↓m_oR1, m_aI1, m_sI1, ↓m_oR2, m_aI2, m_sI2, ↓m_oR4, m_aI4, m_sI4, ↓m_oR6, m_aI6, m_sI6, ↓m_oR8, m_aI8, m_sI8, ↓m_oR9, m_aI9, m_sI9, ↓m_oR10, m_aI10, m_sI10, e_call0 e1, h12, h11, h7, hq, mu_nb, mu_at, mu_ni]
noncomputable def o_runText (x : XS) : Int × Int × XS := @ite (Int × Int × XS) ((pP x.2.2.2.1 x.2.2.2.2).2 = 0) (Classical.propDecidable _) (0, (rtz x.2.2.2.1 x.2.2.2.2 61 0 x.1 0).2, xupd x (rtz x.2.2.2.1 x.2.2.2.2 61 0 x.1 0).1) (1, 0, x)
theorem MR_runText {g : Nat → Nat} {h : Nat → Option hC} {n m : Nat} {M : Mm} {x : XS} (hs : MS M x) : MR m h n (fX7_runText g (some m) (md m M h, n, 0)) (o_runText x) := by
  have hz := MS_z hs
  have hx := hs.1
  unfold o_runText
  rw [hx]
  have h15 := wZ_15 hz
  have h60 := wZ_60 hz
  have hh := hz.1
  obtain ⟨t6, t7, ht⟩ := hs.2.2.2.2
  obtain ⟨M2, e1, e2⟩ := X7_parse_ev (g := g) (h := h) (n := n) (m := m) (M := M) (by rw [t6, t7]; exact ht)
  rw [t6, t7] at e1
  have h12 := mst_12 (M := M2) (s := pP x.2.2.2.1 x.2.2.2.2)
  have hok : sok x.2.2.2.2 (pP x.2.2.2.1 x.2.2.2.2) := pL_ok 61 _ (pO_ok ⟨by omega, ht.1.1⟩)
  have hok2 := hok.2
  have h7 : ∀ j, j < 11 → mst M2 (pP x.2.2.2.1 x.2.2.2.2) 0 j = M 0 j := fun j hj => by rw [mst_j (by omega), e2.2 j hj]
  have hb : ∀ b, b ≠ 0 → mst M2 (pP x.2.2.2.1 x.2.2.2.2) b = M b := fun b hb => by rw [mst_ob hb, e2.1 b hb]
  generalize hC : mst M2 (pP x.2.2.2.1 x.2.2.2.2) = C at e1 h12 h7 hb
  have hq : ∀ t, qeff M (mu C 0 0 t) := fun t => ⟨by rw [mu_ob (by decide), hb 1 (by decide)]; exact zeq_rf, fun b b0 _ _ _ _ => by rw [mu_ob b0, hb b b0], fun j a b => by rw [mu_ni (by omega), h7 j b]⟩
  by_cases hg : (pP x.2.2.2.1 x.2.2.2.2).2 = 0
  · rw [if_pos hg]
    rw [hg] at h12
    have hgood : good x.2.2.2.1 x.2.2.2.2 0 61 := hg
    have hk := good_k hgood
    have hl : 0 < x.2.2.2.2 := by
      refine Classical.byContradiction (fun q => ?_)
      unfold pH at hk
      rw [if_neg q] at hk
      unfold pK at hk
      omega
    obtain ⟨Mb, rb, b1, bj, bu, b6⟩ := recd_q (g := g) (h := h) (n := n) (m := m) hs (hq 0)
    rw [mu_ob (by decide), hb 1 (by decide)] at b1
    obtain ⟨M', k1, k2, k3⟩ := X7_runText_L42_ev (g := g) (h := h) (n := n) (m := m) ht 61 5000 (mu Mb 0 11 0) 0 0 0 (by omega) (by rw [mu_ob (by decide), b6, t6]) (by rw [mu_ni (by omega), bj 7 (by omega), mu_ni (by omega), h7 7 (by omega), t7]) (by rw [mu_ob (by decide), b1]; exact hz) (Or.inl (by rw [mu_ni (by omega), bj 12 (by omega), mu_ni (by omega), h12])) mu_eq (Or.inl ⟨rfl, rfl⟩) hl (by have := ht.1; omega) hgood
    rw [mu_ob (show (1 : Nat) ≠ 0 by decide), b1] at k1 k2
    have hu := ueff_r bu (M' := M') ⟨fun b b0 b1 b8 b9 b10 => by rw [k3.1 b b0 b1 b8 b9 b10, mu_ob b0], fun j hj => by rw [k3.2 j hj, mu_ni (by omega)]⟩
    obtain ⟨A, B⟩ := MS_u hs hu k2 (wZ_rtz 61 0 (M 1) 0 hgood hz)
    refine MR_x (M' := M') ?_ (by rw [k3.2 0 (by omega), mu_ni (by omega), bj 0 (by omega), mu_eq]) A B
    unfold fX7_runText
    simp (disch := omega) only [↓reduceIte, Int.reduceEq, Int.reduceNe, Int.reduceLT, Int.reduceLE, Int.reduceNeg, Int.reduceMod, Int.reduceDiv, Int.reduceAdd, Int.reduceSub, Int.reduceMul, not_true_eq_false, not_false_eq_true, Int.lt_irrefl, true_or, or_true, false_or, or_false, true_and, and_true, false_and, and_false, b2_T, b2_F, if_true, if_false, ↓mjn_b, ↓mjn0_b, ↓mjn2_b, iv_lit, iv_add, iv_sub, iv_mul, iv_neg, iv_le_t, iv_le_f, iv_lt_t, iv_lt_f, iv_eq_t, iv_eq_f, iv_div, iv_mod, mretT_p, mretT_b, e_mret, ↓e_bret, ↓m_mon, ↓m_oI0, m_pI0, ↓m_oI3, m_pI3, ↓m_oI5, m_pI5, ↓m_oI7, m_pI7, ↓m_oI11, m_pI11, ↓m_oI12, m_pI12, ↓m_oI13, m_pI13, ↓m_oI14, m_pI14, ↓m_oI15, m_pI15, ↓m_oI16, m_pI16, ↓m_oI17, m_pI17, m_pZ5, m_pZ12, ↓m_oR1, m_aI1, m_sI1, ↓m_oR2, m_aI2, m_sI2, ↓m_oR4, m_aI4, m_sI4, ↓m_oR6, m_aI6, m_sI6, ↓m_oR8, m_aI8, m_sI8, ↓m_oR9, m_aI9, m_sI9, ↓m_oR10, m_aI10, m_sI10, e_call0 e1, h12, e_call0 rb, ↓k1, mu_nb, mu_at, mu_ni]
  · rw [if_neg hg]
    refine MR_q hs (mu C 0 0 1) (iv 0) ?_ mu_eq (fun q => by omega) (hq 1)
    unfold fX7_runText
    simp (disch := omega) only [↓reduceIte, Int.reduceEq, Int.reduceNe, Int.reduceLT, Int.reduceLE, Int.reduceNeg, Int.reduceMod, Int.reduceDiv, Int.reduceAdd, Int.reduceSub, Int.reduceMul, not_true_eq_false, not_false_eq_true, Int.lt_irrefl, true_or, or_true, false_or, or_false, true_and, and_true, false_and, and_false, b2_T, b2_F, if_true, if_false, ↓mjn_b, ↓mjn0_b, ↓mjn2_b, iv_lit, iv_add, iv_sub, iv_mul, iv_neg, iv_le_t, iv_le_f, iv_lt_t, iv_lt_f, iv_eq_t, iv_eq_f, iv_div, iv_mod, mretT_p, mretT_b, e_mret, ↓e_bret, ↓m_mon, ↓m_oI0, m_pI0, ↓m_oI3, m_pI3, ↓m_oI5, m_pI5, ↓m_oI7, m_pI7, ↓m_oI11, m_pI11, ↓m_oI12, m_pI12, ↓m_oI13, m_pI13, ↓m_oI14, m_pI14, ↓m_oI15, m_pI15, ↓m_oI16, m_pI16, ↓m_oI17, m_pI17, m_pZ5, m_pZ12, ↓m_oR1, m_aI1, m_sI1, ↓m_oR2, m_aI2, m_sI2, ↓m_oR4, m_aI4, m_sI4, ↓m_oR6, m_aI6, m_sI6, ↓m_oR8, m_aI8, m_sI8, ↓m_oR9, m_aI9, m_sI9, ↓m_oR10, m_aI10, m_sI10, e_call0 e1, h12, hg, mu_nb, mu_at, mu_ni]
noncomputable def o_takeSnapshot (x : XS) : Int × Int × XS := (0, x.1 60, (x.1, x.2.1, some x.1, x.2.2.2))
theorem MR_takeSnapshot {g : Nat → Nat} {h : Nat → Option hC} {n m : Nat} {M : Mm} {x : XS} (hs : MS M x) : MR m h n (fX7_takeSnapshot g (some m) (md m M h, n, 0)) (o_takeSnapshot x) := by
  have hz := MS_z hs
  have hx := hs.1
  unfold o_takeSnapshot
  rw [hx]
  have h15 := wZ_15 hz
  have h60 := wZ_60 hz
  have hh := hz.1
  have k1 := fun (K : HM Int32) => X7_takeSnapshot_L7_ev (g := g) (h := h) (n := n) (w := 0) (m := m) (K := K) (s := 0) 631 5000 (mu M 0 0 0) 0 (by omega) (by omega) (by omega)
  have hm : ∀ i, rel (M 1) i → (cpy (mu M 0 0 0) 4 0 631 (fun j => (mu M 0 0 0) 1 j)) 4 i = M 1 i := fun i hi => by
    have hr := rel_rg hz hi
    rw [cpy_at (by omega), mu_ob (by decide)]
  refine MR_x (M' := mu (cpy (mu M 0 0 0) 4 0 631 (fun j => (mu M 0 0 0) 1 j)) 0 5 1) ?_ (by rw [mu_ni (by omega), cpy_ob (by decide), mu_eq]) (x' := (x.1, x.2.1, some x.1, x.2.2.2)) ?_ (by rw [← hx]; exact xeq_rf)
  · unfold fX7_takeSnapshot
    simp (disch := omega) only [↓reduceIte, Int.reduceEq, Int.reduceNe, Int.reduceLT, Int.reduceLE, Int.reduceNeg, Int.reduceMod, Int.reduceDiv, Int.reduceAdd, Int.reduceSub, Int.reduceMul, not_true_eq_false, not_false_eq_true, Int.lt_irrefl, true_or, or_true, false_or, or_false, true_and, and_true, false_and, and_false, b2_T, b2_F, if_true, if_false, ↓mjn_b, ↓mjn0_b, ↓mjn2_b, iv_lit, iv_add, iv_sub, iv_mul, iv_neg, iv_le_t, iv_le_f, iv_lt_t, iv_lt_f, iv_eq_t, iv_eq_f, iv_div, iv_mod, mretT_p, mretT_b, e_mret, ↓e_bret, ↓m_mon, ↓m_oI0, m_pI0, ↓m_oI3, m_pI3, ↓m_oI5, m_pI5, ↓m_oI7, m_pI7, ↓m_oI11, m_pI11, ↓m_oI12, m_pI12, ↓m_oI13, m_pI13, ↓m_oI14, m_pI14, ↓m_oI15, m_pI15, ↓m_oI16, m_pI16, ↓m_oI17, m_pI17, m_pZ5, m_pZ12, ↓m_oR1, m_aI1, m_sI1, ↓m_oR2, m_aI2, m_sI2, ↓m_oR4, m_aI4, m_sI4, ↓m_oR6, m_aI6, m_sI6, ↓m_oR8, m_aI8, m_sI8, ↓m_oR9, m_aI9, m_sI9, ↓m_oR10, m_aI10, m_sI10, ↓k1, mu_nb, mu_at, mu_ni, cpy_ob]
  · obtain ⟨h1, h2, ⟨h3, h4, h5⟩, h6, h7, h8, h9⟩ := hs
    refine ⟨by rw [mu_ob (by decide), cpy_ob (by decide), mu_ob (by decide)]; exact h1, h2, ⟨h3, by rw [mu_ni (by omega), cpy_ob (by decide), mu_ni (by omega)]; exact h4, fun j z hj => ?_⟩, Or.inr ⟨x.1, rfl, mu_eq, fun i hi => ?_, h2⟩, by rw [mu_ob (by decide), cpy_ob (by decide), mu_ob (by decide)]; exact h7, by rw [mu_ni (by omega), cpy_ob (by decide), mu_ni (by omega)]; exact h8, h9⟩
    · have e : hrow (mu (cpy (mu M 0 0 0) 4 0 631 (fun j => (mu M 0 0 0) 1 j)) 0 5 1) j = hrow M j := by unfold hrow; rw [mu_ob (by decide), cpy_ob (by decide), mu_ob (by decide)]
      rw [e]; exact h5 j z hj
    · rw [mu_ob (by decide), hm i (by rw [← h1]; exact hi), h1]
noncomputable def o_restoreSnapshot (x : XS) : Int × Int × XS := match x.2.2.1 with
  | none => (1, 0, x)
  | some s => (0, s 60, xupd x s)
theorem MR_restoreSnapshot {g : Nat → Nat} {h : Nat → Option hC} {n m : Nat} {M : Mm} {x : XS} (hs : MS M x) : MR m h n (fX7_restoreSnapshot g (some m) (md m M h, n, 0)) (o_restoreSnapshot x) := by
  have hz := MS_z hs
  rcases hs.2.2.2.1 with ⟨a, b⟩ | ⟨s, a, b, c, d⟩
  · unfold o_restoreSnapshot
    rw [a]
    dsimp only
    refine MR_q hs (mu M 0 0 1) (iv 0) ?_ mu_eq (fun q => by omega) qeff_0
    unfold fX7_restoreSnapshot
    simp (disch := omega) only [↓reduceIte, Int.reduceEq, Int.reduceNe, Int.reduceLT, Int.reduceLE, Int.reduceNeg, Int.reduceMod, Int.reduceDiv, Int.reduceAdd, Int.reduceSub, Int.reduceMul, not_true_eq_false, not_false_eq_true, Int.lt_irrefl, true_or, or_true, false_or, or_false, true_and, and_true, false_and, and_false, b2_T, b2_F, if_true, if_false, ↓mjn_b, ↓mjn0_b, ↓mjn2_b, iv_lit, iv_add, iv_sub, iv_mul, iv_neg, iv_le_t, iv_le_f, iv_lt_t, iv_lt_f, iv_eq_t, iv_eq_f, iv_div, iv_mod, mretT_p, mretT_b, e_mret, ↓e_bret, ↓m_mon, ↓m_oI0, m_pI0, ↓m_oI3, m_pI3, ↓m_oI5, m_pI5, ↓m_oI7, m_pI7, ↓m_oI11, m_pI11, ↓m_oI12, m_pI12, ↓m_oI13, m_pI13, ↓m_oI14, m_pI14, ↓m_oI15, m_pI15, ↓m_oI16, m_pI16, ↓m_oI17, m_pI17, m_pZ5, m_pZ12, ↓m_oR1, m_aI1, m_sI1, ↓m_oR2, m_aI2, m_sI2, ↓m_oR4, m_aI4, m_sI4, ↓m_oR6, m_aI6, m_sI6, ↓m_oR8, m_aI8, m_sI8, ↓m_oR9, m_aI9, m_sI9, ↓m_oR10, m_aI10, m_sI10, b, mu_nb, mu_at, mu_ni]
  · unfold o_restoreSnapshot
    rw [a]
    dsimp only
    obtain ⟨Mb, rb, b1, b0, bu, bj, b6⟩ := rec_u (g := g) (h := h) (n := n) (m := m) hs (qsm_rf) (zeq_rf)
    have b4 : Mb 4 = M 4 := bu.2.2.2.1
    have k1 := fun (K : HM Int32) => X7_restoreSnapshot_L31_ev (g := g) (h := h) (n := n) (w := 0) (m := m) (K := K) (s := 0) 631 5000 Mb 0 (by omega) (by omega) (by omega)
    have h60 := (zeq_0 c).2.2.2.2
    have k60 : (cpy Mb 1 0 631 (fun j => Mb 4 j)) 1 60 = s 60 := by rw [cpy_at (by omega), b4, h60]
    refine MR_u hs bu b0 (cpy Mb 1 0 631 (fun j => Mb 4 j)) ?_ (qsm_b (fun b q => by rw [cpy_ob q])) (fun i hi => ?_) d
    · unfold fX7_restoreSnapshot
      simp (disch := omega) only [↓reduceIte, Int.reduceEq, Int.reduceNe, Int.reduceLT, Int.reduceLE, Int.reduceNeg, Int.reduceMod, Int.reduceDiv, Int.reduceAdd, Int.reduceSub, Int.reduceMul, not_true_eq_false, not_false_eq_true, Int.lt_irrefl, true_or, or_true, false_or, or_false, true_and, and_true, false_and, and_false, b2_T, b2_F, if_true, if_false, ↓mjn_b, ↓mjn0_b, ↓mjn2_b, iv_lit, iv_add, iv_sub, iv_mul, iv_neg, iv_le_t, iv_le_f, iv_lt_t, iv_lt_f, iv_eq_t, iv_eq_f, iv_div, iv_mod, mretT_p, mretT_b, e_mret, ↓e_bret, ↓m_mon, ↓m_oI0, m_pI0, ↓m_oI3, m_pI3, ↓m_oI5, m_pI5, ↓m_oI7, m_pI7, ↓m_oI11, m_pI11, ↓m_oI12, m_pI12, ↓m_oI13, m_pI13, ↓m_oI14, m_pI14, ↓m_oI15, m_pI15, ↓m_oI16, m_pI16, ↓m_oI17, m_pI17, m_pZ5, m_pZ12, ↓m_oR1, m_aI1, m_sI1, ↓m_oR2, m_aI2, m_sI2, ↓m_oR4, m_aI4, m_sI4, ↓m_oR6, m_aI6, m_sI6, ↓m_oR8, m_aI8, m_sI8, ↓m_oR9, m_aI9, m_sI9, ↓m_oR10, m_aI10, m_sI10, b, e_call0 rb, ↓k1, k60, mu_nb, mu_at, mu_ni]
    · have hr := rel_rg d hi
      rw [cpy_at (by omega), b4]
      exact c i hi
noncomputable def o_undo (x : XS) : Int × Int × XS := match x.2.1.getLast? with
  | none => (1, 0, x)
  | some s => (0, (x.2.1.length : Int) - 1, (s, x.2.1.dropLast, x.2.2))
theorem MR_undo {g : Nat → Nat} {h : Nat → Option hC} {n m : Nat} {M : Mm} {x : XS} (hs : MS M x) : MR m h n (fX7_undo g (some m) (md m M h, n, 0)) (o_undo x) := by
  have hz := MS_z hs
  obtain ⟨h3, h4, h5⟩ := hs.2.2.1
  unfold o_undo
  rw [List.getLast?_eq_getElem?]
  by_cases hl : x.2.1.length = 0
  · rw [hl]
    rw [List.getElem?_eq_none (by omega)]
    have h40 : M 0 3 = 0 := by omega
    dsimp only
    refine MR_q hs (mu M 0 0 1) (iv 0) ?_ mu_eq (fun q => by omega) qeff_0
    unfold fX7_undo
    simp (disch := omega) only [↓reduceIte, Int.reduceEq, Int.reduceNe, Int.reduceLT, Int.reduceLE, Int.reduceNeg, Int.reduceMod, Int.reduceDiv, Int.reduceAdd, Int.reduceSub, Int.reduceMul, not_true_eq_false, not_false_eq_true, Int.lt_irrefl, true_or, or_true, false_or, or_false, true_and, and_true, false_and, and_false, b2_T, b2_F, if_true, if_false, ↓mjn_b, ↓mjn0_b, ↓mjn2_b, iv_lit, iv_add, iv_sub, iv_mul, iv_neg, iv_le_t, iv_le_f, iv_lt_t, iv_lt_f, iv_eq_t, iv_eq_f, iv_div, iv_mod, mretT_p, mretT_b, e_mret, ↓e_bret, ↓m_mon, ↓m_oI0, m_pI0, ↓m_oI3, m_pI3, ↓m_oI5, m_pI5, ↓m_oI7, m_pI7, ↓m_oI11, m_pI11, ↓m_oI12, m_pI12, ↓m_oI13, m_pI13, ↓m_oI14, m_pI14, ↓m_oI15, m_pI15, ↓m_oI16, m_pI16, ↓m_oI17, m_pI17, m_pZ5, m_pZ12, ↓m_oR1, m_aI1, m_sI1, ↓m_oR2, m_aI2, m_sI2, ↓m_oR4, m_aI4, m_sI4, ↓m_oR6, m_aI6, m_sI6, ↓m_oR8, m_aI8, m_sI8, ↓m_oR9, m_aI9, m_sI9, ↓m_oR10, m_aI10, m_sI10, h40, mu_nb, mu_at, mu_ni]
  · have hlt : x.2.1.length - 1 < x.2.1.length := by omega
    rw [List.getElem?_eq_getElem hlt]
    dsimp only
    obtain ⟨c, d⟩ := h5 (x.2.1.length - 1) _ (List.getElem?_eq_getElem hlt)
    generalize x.2.1[x.2.1.length - 1] = s at c d
    have k1 := fun (K : HM Int32) => X7_undo_L37_ev (g := g) (h := h) (n := n) (w := 0) (m := m) (K := K) (s := M 0 3 - 1) (by omega) 631 5000 (mu (mu M 0 0 0) 0 3 (M 0 3 - 1)) 0 (by omega) (by omega) (by omega) mu_eq
    have k3 : (cpy (mu (mu M 0 0 0) 0 3 (M 0 3 - 1)) 1 0 631 (fun j => (mu (mu M 0 0 0) 0 3 (M 0 3 - 1)) 2 (631 * (M 0 3 - 1) + j))) 0 3 = M 0 3 - 1 := by rw [cpy_ob (by decide), mu_eq]
    have kz : zeq s ((cpy (mu (mu M 0 0 0) 0 3 (M 0 3 - 1)) 1 0 631 (fun j => (mu (mu M 0 0 0) 0 3 (M 0 3 - 1)) 2 (631 * (M 0 3 - 1) + j))) 1) := fun i hi => by
      have hr := rel_rg d hi
      rw [cpy_at (by omega), mu_ob (by decide), mu_ob (by decide), ← c i hi]
      unfold hrow
      rw [show ((x.2.1.length - 1 : Nat) : Int) = M 0 3 - 1 by omega]
    generalize hC : cpy (mu (mu M 0 0 0) 0 3 (M 0 3 - 1)) 1 0 631 (fun j => (mu (mu M 0 0 0) 0 3 (M 0 3 - 1)) 2 (631 * (M 0 3 - 1) + j)) = C at k1 k3 kz
    have kb : ∀ b, b ≠ 0 → b ≠ 1 → C b = M b := fun b b0 b1 => by rw [← hC, cpy_ob b1, mu_ob b0, mu_ob b0]
    have kj : ∀ j, j ≠ 0 → j ≠ 3 → C 0 j = M 0 j := fun j j0 j3 => by rw [← hC, cpy_ob (by decide), mu_ni j3, mu_ni j0]
    have k0 : C 0 0 = 0 := by rw [← hC, cpy_ob (by decide), mu_ni (by omega), mu_eq]
    refine MR_x (M' := C) (x' := (C 1, x.2.1.dropLast, x.2.2)) ?_ k0 ?_ ⟨kz, rfl⟩
    · rw [← h4]
      unfold fX7_undo
      simp (disch := omega) only [↓reduceIte, Int.reduceEq, Int.reduceNe, Int.reduceLT, Int.reduceLE, Int.reduceNeg, Int.reduceMod, Int.reduceDiv, Int.reduceAdd, Int.reduceSub, Int.reduceMul, not_true_eq_false, not_false_eq_true, Int.lt_irrefl, true_or, or_true, false_or, or_false, true_and, and_true, false_and, and_false, b2_T, b2_F, if_true, if_false, ↓mjn_b, ↓mjn0_b, ↓mjn2_b, iv_lit, iv_add, iv_sub, iv_mul, iv_neg, iv_le_t, iv_le_f, iv_lt_t, iv_lt_f, iv_eq_t, iv_eq_f, iv_div, iv_mod, mretT_p, mretT_b, e_mret, ↓e_bret, ↓m_mon, ↓m_oI0, m_pI0, ↓m_oI3, m_pI3, ↓m_oI5, m_pI5, ↓m_oI7, m_pI7, ↓m_oI11, m_pI11, ↓m_oI12, m_pI12, ↓m_oI13, m_pI13, ↓m_oI14, m_pI14, ↓m_oI15, m_pI15, ↓m_oI16, m_pI16, ↓m_oI17, m_pI17, m_pZ5, m_pZ12, ↓m_oR1, m_aI1, m_sI1, ↓m_oR2, m_aI2, m_sI2, ↓m_oR4, m_aI4, m_sI4, ↓m_oR6, m_aI6, m_sI6, ↓m_oR8, m_aI8, m_sI8, ↓m_oR9, m_aI9, m_sI9, ↓m_oR10, m_aI10, m_sI10, ↓k1, k3, mu_nb, mu_at, mu_ni]
    · obtain ⟨g1, g2, -, g6, g7, g8, g9⟩ := hs
      refine ⟨rfl, wZ_zeq kz d, ⟨by rw [List.length_dropLast]; show x.2.1.length - 1 ≤ 5; omega, by rw [k3, List.length_dropLast]; omega, fun j z hj => ?_⟩, ?_, by rw [kb 6 (by decide) (by decide)]; exact g7, by rw [kj 7 (by omega) (by omega)]; exact g8, g9⟩
      · have e : hrow C j = hrow M j := by unfold hrow; rw [kb 2 (by decide) (by decide)]
        rw [e]
        rw [List.getElem?_dropLast] at hj
        split at hj
        · exact h5 j z hj
        · cases hj
      · rcases g6 with ⟨a, b⟩ | ⟨s, a, b, c, d⟩
        · exact Or.inl ⟨a, by rw [kj 5 (by omega) (by omega)]; exact b⟩
        · exact Or.inr ⟨s, a, by rw [kj 5 (by omega) (by omega)]; exact b, by rw [kb 4 (by decide) (by decide)]; exact c, d⟩
