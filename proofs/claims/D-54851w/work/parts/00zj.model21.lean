/-! ===== the model: changes ===== -/
theorem qeff_a {M Ma : Mm} {t : Int} (q : qsm M Ma) (hz : zeq (M 1) (Ma 1)) : qeff M (mu Ma 0 0 t) := by
  refine ⟨by rw [mu_ob (by decide)]; exact hz, fun b b0 b1 b8 b9 b10 => by rw [mu_ob b0, q b b1 b8 b9 b10], fun j a _ => ?_⟩
  rw [mu_ni (by omega), q 0 (by decide) (by decide) (by decide) (by decide)]
theorem rec_u {g : Nat → Nat} {h : Nat → Option hC} {n m : Nat} {M Ma : Mm} {x : XS} (hs : MS M x) (q : qsm M Ma) (hz : zeq (M 1) (Ma 1)) : ∃ Mb : Mm, fX7_record g (some m) (md m (mu Ma 0 0 0) h, n, 0) = some ((), (md m Mb h, n, 0)) ∧ Mb 1 = Ma 1 ∧ Mb 0 0 = 0 ∧ ueff M Mb ∧ (∀ j, j ≠ 0 → j ≠ 3 → Mb 0 j = M 0 j) ∧ Mb 6 = M 6 := by
  have h3 := hs.2.2.1
  have e0 : Ma 0 = M 0 := q 0 (by decide) (by decide) (by decide) (by decide)
  have em : ∀ j : Int, j ≠ 0 → (mu Ma 0 0 0) 0 j = M 0 j := fun j hj => by rw [mu_ni hj, e0]
  obtain ⟨Mb, e1, e2, e3, e4, e5, e6⟩ := X7_record_ev (g := g) (h := h) (n := n) (w := 0) (m := m) (M := mu Ma 0 0 0) (by rw [em 3 (by omega)]; omega)
  rw [em 3 (by omega)] at e4 e5 e6
  refine ⟨Mb, e1, by rw [e2 1 (by decide) (by decide), mu_ob (by decide)], by rw [e3 0 (by omega), mu_eq], ⟨e4, fun i hi => ?_, fun j i a b c d => ?_, ?_, ?_, ?_, ?_⟩, fun j j0 j3 => by rw [e3 j j3, em j j0], ?_⟩
  · have hr := rel_rg (MS_z hs) hi
    rw [e5 i hr.1 hr.2, mu_ob (by decide)]
    exact hz i hi
  · rw [e6 j i a b c d]
    unfold hrow
    rw [mu_ob (by decide), q 2 (by decide) (by decide) (by decide) (by decide)]
  · rw [e2 4 (by decide) (by decide), mu_ob (by decide), q 4 (by decide) (by decide) (by decide) (by decide)]
  · rw [e2 6 (by decide) (by decide), mu_ob (by decide), q 6 (by decide) (by decide) (by decide) (by decide)]
  · rw [e3 5 (by omega), em 5 (by omega)]
  · rw [e3 7 (by omega), em 7 (by omega)]
  · rw [e2 6 (by decide) (by decide), mu_ob (by decide), q 6 (by decide) (by decide) (by decide) (by decide)]
theorem ueff_tr {M Mb M' : Mm} (u : ueff M Mb) (q : qsm Mb M') : ueff M M' := by
  obtain ⟨u1, u2, u3, u4, u5, u6, u7⟩ := u
  have e0 : M' 0 = Mb 0 := q 0 (by decide) (by decide) (by decide) (by decide)
  have e2 : ∀ j, hrow M' j = hrow Mb j := fun j => by unfold hrow; rw [q 2 (by decide) (by decide) (by decide) (by decide)]
  refine ⟨by rw [e0]; exact u1, by rw [e2]; exact u2, fun j i a b c d => by rw [e2]; exact u3 j i a b c d, by rw [q 4 (by decide) (by decide) (by decide) (by decide)]; exact u4, by rw [q 6 (by decide) (by decide) (by decide) (by decide)]; exact u5, by rw [e0]; exact u6, by rw [e0]; exact u7⟩
theorem qsm_1 {M : Mm} {i v : Int} : qsm M (mu M 1 i v) := fun b b1 _ _ _ => mu_ob b1
theorem qsm_b {M M' : Mm} (h : ∀ b, b ≠ 1 → M' b = M b) : qsm M M' := fun b b1 _ _ _ => h b b1
theorem MR_u {m n : Nat} {h : Nat → Option hC} {res : Option (Int32 × Hp)} {M Mb : Mm} {x : XS} {v : Int} {z' : Int → Int} (hs : MS M x) (u : ueff M Mb) (h0 : Mb 0 0 = 0) (M' : Mm) (e : res = some (iv v, (md m M' h, n, 0))) (q : qsm Mb M') (hz : zeq z' (M' 1)) (hw : wZ z') : MR m h n res (0, v, xupd x z') := by
  obtain ⟨a, b⟩ := MS_u hs (ueff_tr u q) hz hw
  exact ⟨M', _, e, by rw [q 0 (by decide) (by decide) (by decide) (by decide)]; exact h0, fun _ => rfl, _, a, b⟩
noncomputable def o_moveStage (x : XS) (a : Int) : Int × Int × XS := @ite (Int × Int × XS) (0 ≤ a ∧ a ≤ 15) (Classical.propDecidable _) (0, x.1 0, xupd x (iu x.1 0 a)) (1, 0, x)
theorem MR_moveStage {g : Nat → Nat} {h : Nat → Option hC} {n m : Nat} {M : Mm} {x : XS} {a : Int} (hs : MS M x) (ha : -2147483648 ≤ a ∧ a < 2147483648) : MR m h n (fX7_moveStage g (some m) (iv a) (md m M h, n, 0)) (o_moveStage x a) := by
  have hz := MS_z hs
  have hx := hs.1
  unfold o_moveStage
  rw [hx]
  have h15 := wZ_15 hz
  have h60 := wZ_60 hz
  have hh := hz.1
  by_cases hg : 0 ≤ a ∧ a ≤ 15
  · rw [if_pos hg]
    obtain ⟨Mb, rb, b1, b0, bu, bj, b6⟩ := rec_u (g := g) (h := h) (n := n) (m := m) hs (qsm_rf) (zeq_rf)
    refine MR_u hs bu b0 (mu Mb 1 0 a) ?_ qsm_1 (by rw [mu_iu, b1]; exact zeq_rf) (wZ_stage hz hg)
    unfold fX7_moveStage
    simp (disch := omega) only [↓reduceIte, Int.reduceEq, Int.reduceNe, Int.reduceLT, Int.reduceLE, Int.reduceNeg, Int.reduceMod, Int.reduceDiv, Int.reduceAdd, Int.reduceSub, Int.reduceMul, not_true_eq_false, not_false_eq_true, Int.lt_irrefl, true_or, or_true, false_or, or_false, true_and, and_true, false_and, and_false, b2_T, b2_F, if_true, if_false, ↓mjn_b, ↓mjn0_b, ↓mjn2_b, iv_lit, iv_add, iv_sub, iv_mul, iv_neg, iv_le_t, iv_le_f, iv_lt_t, iv_lt_f, iv_eq_t, iv_eq_f, iv_div, iv_mod, mretT_p, mretT_b, e_mret, ↓e_bret, ↓m_mon, ↓m_oI0, m_pI0, ↓m_oI3, m_pI3, ↓m_oI5, m_pI5, ↓m_oI7, m_pI7, ↓m_oI11, m_pI11, ↓m_oI12, m_pI12, ↓m_oI13, m_pI13, ↓m_oI14, m_pI14, ↓m_oI15, m_pI15, ↓m_oI16, m_pI16, ↓m_oI17, m_pI17, m_pZ5, m_pZ12, ↓m_oR1, m_aI1, m_sI1, ↓m_oR2, m_aI2, m_sI2, ↓m_oR4, m_aI4, m_sI4, ↓m_oR6, m_aI6, m_sI6, ↓m_oR8, m_aI8, m_sI8, ↓m_oR9, m_aI9, m_sI9, ↓m_oR10, m_aI10, m_sI10, X7_in_c, b2_t hg, e_call0 rb, b1, mu_nb, mu_at, mu_ni]
  · rw [if_neg hg]
    refine MR_q hs (mu M 0 0 1) (iv 0) ?_ mu_eq (fun q => by omega) qeff_0
    unfold fX7_moveStage
    simp (disch := omega) only [↓reduceIte, Int.reduceEq, Int.reduceNe, Int.reduceLT, Int.reduceLE, Int.reduceNeg, Int.reduceMod, Int.reduceDiv, Int.reduceAdd, Int.reduceSub, Int.reduceMul, not_true_eq_false, not_false_eq_true, Int.lt_irrefl, true_or, or_true, false_or, or_false, true_and, and_true, false_and, and_false, b2_T, b2_F, if_true, if_false, ↓mjn_b, ↓mjn0_b, ↓mjn2_b, iv_lit, iv_add, iv_sub, iv_mul, iv_neg, iv_le_t, iv_le_f, iv_lt_t, iv_lt_f, iv_eq_t, iv_eq_f, iv_div, iv_mod, mretT_p, mretT_b, e_mret, ↓e_bret, ↓m_mon, ↓m_oI0, m_pI0, ↓m_oI3, m_pI3, ↓m_oI5, m_pI5, ↓m_oI7, m_pI7, ↓m_oI11, m_pI11, ↓m_oI12, m_pI12, ↓m_oI13, m_pI13, ↓m_oI14, m_pI14, ↓m_oI15, m_pI15, ↓m_oI16, m_pI16, ↓m_oI17, m_pI17, m_pZ5, m_pZ12, ↓m_oR1, m_aI1, m_sI1, ↓m_oR2, m_aI2, m_sI2, ↓m_oR4, m_aI4, m_sI4, ↓m_oR6, m_aI6, m_sI6, ↓m_oR8, m_aI8, m_sI8, ↓m_oR9, m_aI9, m_sI9, ↓m_oR10, m_aI10, m_sI10, X7_in_c, b2_f hg, mu_nb, mu_at, mu_ni]
noncomputable def o_moveDoor (x : XS) (a : Int) (b : Int) : Int × Int × XS := @ite (Int × Int × XS) (inR a b) (Classical.propDecidable _) (@ite (Int × Int × XS) (pck (iu x.1 1 (16 * b + a)) = 0) (Classical.propDecidable _) (0, x.1 1, xupd x (iu x.1 1 (16 * b + a))) (2, 0, x)) (1, 0, x)
theorem MR_moveDoor {g : Nat → Nat} {h : Nat → Option hC} {n m : Nat} {M : Mm} {x : XS} {a b : Int} (hs : MS M x) (ha : -2147483648 ≤ a ∧ a < 2147483648) (hb : -2147483648 ≤ b ∧ b < 2147483648) : MR m h n (fX7_moveDoor g (some m) (iv a) (iv b) (md m M h, n, 0)) (o_moveDoor x a b) := by
  have hz := MS_z hs
  have hx := hs.1
  unfold o_moveDoor
  rw [hx]
  have h15 := wZ_15 hz
  have h60 := wZ_60 hz
  have hh := hz.1
  by_cases hg : inR a b
  · rw [if_pos hg]
    have hi := hg
    unfold inR at hi
    have hp := pck_rg (iu (M 1) 1 (16 * b + a))
    obtain ⟨Ma, e1, e2, e3⟩ := X7_noDoor_ev (g := g) (h := h) (n := n) (w := 0) (m := m) (M := M) (c := 16 * b + a) hh (by unfold cin; omega)
    have e4 : Ma 0 = M 0 := e2 0 (by decide) (by decide) (by decide) (by decide)
    by_cases hd : pck (iu (M 1) 1 (16 * b + a)) = 0
    · rw [if_pos hd]
      obtain ⟨Mb, rb, b1, b0, bu, bj, b6⟩ := rec_u (g := g) (h := h) (n := n) (m := m) hs (e2) (by rw [e3]; exact zeq_rf)
      refine MR_u hs bu b0 (mu Mb 1 1 (16 * b + a)) ?_ qsm_1 (by rw [mu_iu, b1, e3]; exact zeq_rf) (wZ_door hz (by unfold cin; omega) hd)
      unfold fX7_moveDoor
      simp (disch := omega) only [↓reduceIte, Int.reduceEq, Int.reduceNe, Int.reduceLT, Int.reduceLE, Int.reduceNeg, Int.reduceMod, Int.reduceDiv, Int.reduceAdd, Int.reduceSub, Int.reduceMul, not_true_eq_false, not_false_eq_true, Int.lt_irrefl, true_or, or_true, false_or, or_false, true_and, and_true, false_and, and_false, b2_T, b2_F, if_true, if_false, ↓mjn_b, ↓mjn0_b, ↓mjn2_b, iv_lit, iv_add, iv_sub, iv_mul, iv_neg, iv_le_t, iv_le_f, iv_lt_t, iv_lt_f, iv_eq_t, iv_eq_f, iv_div, iv_mod, mretT_p, mretT_b, e_mret, ↓e_bret, ↓m_mon, ↓m_oI0, m_pI0, ↓m_oI3, m_pI3, ↓m_oI5, m_pI5, ↓m_oI7, m_pI7, ↓m_oI11, m_pI11, ↓m_oI12, m_pI12, ↓m_oI13, m_pI13, ↓m_oI14, m_pI14, ↓m_oI15, m_pI15, ↓m_oI16, m_pI16, ↓m_oI17, m_pI17, m_pZ5, m_pZ12, ↓m_oR1, m_aI1, m_sI1, ↓m_oR2, m_aI2, m_sI2, ↓m_oR4, m_aI4, m_sI4, ↓m_oR6, m_aI6, m_sI6, ↓m_oR8, m_aI8, m_sI8, ↓m_oR9, m_aI9, m_sI9, ↓m_oR10, m_aI10, m_sI10, X7_isCell_c, b2_t hi, e_call0 e1, hd, e_call0 rb, b1, e3, e4, mu_nb, mu_at, mu_ni]
    · rw [if_neg hd]
      refine MR_q hs (mu Ma 0 0 2) (iv 0) ?_ mu_eq (fun q => by omega) (qeff_a e2 (by rw [e3]; exact zeq_rf))
      unfold fX7_moveDoor
      simp (disch := omega) only [↓reduceIte, Int.reduceEq, Int.reduceNe, Int.reduceLT, Int.reduceLE, Int.reduceNeg, Int.reduceMod, Int.reduceDiv, Int.reduceAdd, Int.reduceSub, Int.reduceMul, not_true_eq_false, not_false_eq_true, Int.lt_irrefl, true_or, or_true, false_or, or_false, true_and, and_true, false_and, and_false, b2_T, b2_F, if_true, if_false, ↓mjn_b, ↓mjn0_b, ↓mjn2_b, iv_lit, iv_add, iv_sub, iv_mul, iv_neg, iv_le_t, iv_le_f, iv_lt_t, iv_lt_f, iv_eq_t, iv_eq_f, iv_div, iv_mod, mretT_p, mretT_b, e_mret, ↓e_bret, ↓m_mon, ↓m_oI0, m_pI0, ↓m_oI3, m_pI3, ↓m_oI5, m_pI5, ↓m_oI7, m_pI7, ↓m_oI11, m_pI11, ↓m_oI12, m_pI12, ↓m_oI13, m_pI13, ↓m_oI14, m_pI14, ↓m_oI15, m_pI15, ↓m_oI16, m_pI16, ↓m_oI17, m_pI17, m_pZ5, m_pZ12, ↓m_oR1, m_aI1, m_sI1, ↓m_oR2, m_aI2, m_sI2, ↓m_oR4, m_aI4, m_sI4, ↓m_oR6, m_aI6, m_sI6, ↓m_oR8, m_aI8, m_sI8, ↓m_oR9, m_aI9, m_sI9, ↓m_oR10, m_aI10, m_sI10, X7_isCell_c, b2_t hi, e_call0 e1, e4, mu_nb, mu_at, mu_ni]
  · rw [if_neg hg]
    unfold inR at hg
    refine MR_q hs (mu M 0 0 1) (iv 0) ?_ mu_eq (fun q => by omega) qeff_0
    unfold fX7_moveDoor
    simp (disch := omega) only [↓reduceIte, Int.reduceEq, Int.reduceNe, Int.reduceLT, Int.reduceLE, Int.reduceNeg, Int.reduceMod, Int.reduceDiv, Int.reduceAdd, Int.reduceSub, Int.reduceMul, not_true_eq_false, not_false_eq_true, Int.lt_irrefl, true_or, or_true, false_or, or_false, true_and, and_true, false_and, and_false, b2_T, b2_F, if_true, if_false, ↓mjn_b, ↓mjn0_b, ↓mjn2_b, iv_lit, iv_add, iv_sub, iv_mul, iv_neg, iv_le_t, iv_le_f, iv_lt_t, iv_lt_f, iv_eq_t, iv_eq_f, iv_div, iv_mod, mretT_p, mretT_b, e_mret, ↓e_bret, ↓m_mon, ↓m_oI0, m_pI0, ↓m_oI3, m_pI3, ↓m_oI5, m_pI5, ↓m_oI7, m_pI7, ↓m_oI11, m_pI11, ↓m_oI12, m_pI12, ↓m_oI13, m_pI13, ↓m_oI14, m_pI14, ↓m_oI15, m_pI15, ↓m_oI16, m_pI16, ↓m_oI17, m_pI17, m_pZ5, m_pZ12, ↓m_oR1, m_aI1, m_sI1, ↓m_oR2, m_aI2, m_sI2, ↓m_oR4, m_aI4, m_sI4, ↓m_oR6, m_aI6, m_sI6, ↓m_oR8, m_aI8, m_sI8, ↓m_oR9, m_aI9, m_sI9, ↓m_oR10, m_aI10, m_sI10, X7_isCell_c, b2_f hg, mu_nb, mu_at, mu_ni]
noncomputable def o_turnPillar (x : XS) (a : Int) (b : Int) : Int × Int × XS := @ite (Int × Int × XS) (inR a b) (Classical.propDecidable _) (@ite (Int × Int × XS) (plat x.1 (16 * b + a) = -1 → npl x.1 (16 * b + a) = 0) (Classical.propDecidable _) (0, b2 (plat x.1 (16 * b + a) = -1), xupd x (ztp x.1 (16 * b + a))) (2, 0, x)) (1, 0, x)
theorem MR_turnPillar {g : Nat → Nat} {h : Nat → Option hC} {n m : Nat} {M : Mm} {x : XS} {a b : Int} (hs : MS M x) (ha : -2147483648 ≤ a ∧ a < 2147483648) (hb : -2147483648 ≤ b ∧ b < 2147483648) : MR m h n (fX7_turnPillar g (some m) (iv a) (iv b) (md m M h, n, 0)) (o_turnPillar x a b) := by
  have hz := MS_z hs
  have hx := hs.1
  unfold o_turnPillar
  rw [hx]
  have h15 := wZ_15 hz
  have h60 := wZ_60 hz
  have hh := hz.1
  have h2z := hh.2.2.1
  have hpl := plat_rg h2z.1 (16 * b + a)
  obtain ⟨Ma, r, e1, e2, e3, e5⟩ := X7_noTurnPillar_ev (g := g) (h := h) (n := n) (w := 0) (m := m) (M := M) (x := a) (y := b) hh ha hb
  have e4 : Ma 0 = M 0 := e2 0 (by decide) (by decide) (by decide) (by decide)
  by_cases hg : inR a b
  · rw [if_pos hg]
    rw [if_pos hg] at e5
    have hi := hg
    unfold inR at hi
    have hnr : 0 ≤ npl (M 1) (16 * b + a) ∧ npl (M 1) (16 * b + a) ≤ 3 := by
      unfold npl
      split
      · omega
      · exact pck_rg _
    have z2 := (zeq_0 e3).2.2.1
    by_cases hd : plat (M 1) (16 * b + a) = -1 → npl (M 1) (16 * b + a) = 0
    · rw [if_pos hd]
      rw [if_neg (fun q => by have := hd q.1; omega)] at e5
      subst e5
      have hlt : plat (M 1) (16 * b + a) = -1 → M 1 2 < 12 := fun q => by
        have := hd q
        refine Classical.byContradiction (fun w => ?_)
        unfold npl at this
        rw [if_pos (by omega)] at this
        omega
      obtain ⟨Mb, rb, b1, b0, bu, bj, b6⟩ := rec_u (g := g) (h := h) (n := n) (m := m) hs (e2) (e3)
      obtain ⟨M2, k1, k2, k3⟩ := X7_turnsPillar_ev (g := g) (h := h) (n := n) (w := 0) (m := m) (M := Mb) (c := 16 * b + a) (by rw [b1]; exact wH_zeq e3 hh) (by omega) (by rw [b1, zeq_plat e3, z2]; exact hlt)
      rw [b1, zeq_plat e3] at k1
      refine MR_u hs bu b0 M2 ?_ (qsm_b k2) (by rw [k3, b1]; exact zeq_ztp e3 h2z hlt) (wZ_tp hz (by unfold cin; omega) hd)
      unfold fX7_turnPillar
      simp (disch := omega) only [↓reduceIte, Int.reduceEq, Int.reduceNe, Int.reduceLT, Int.reduceLE, Int.reduceNeg, Int.reduceMod, Int.reduceDiv, Int.reduceAdd, Int.reduceSub, Int.reduceMul, not_true_eq_false, not_false_eq_true, Int.lt_irrefl, true_or, or_true, false_or, or_false, true_and, and_true, false_and, and_false, b2_T, b2_F, if_true, if_false, ↓mjn_b, ↓mjn0_b, ↓mjn2_b, iv_lit, iv_add, iv_sub, iv_mul, iv_neg, iv_le_t, iv_le_f, iv_lt_t, iv_lt_f, iv_eq_t, iv_eq_f, iv_div, iv_mod, mretT_p, mretT_b, e_mret, ↓e_bret, ↓m_mon, ↓m_oI0, m_pI0, ↓m_oI3, m_pI3, ↓m_oI5, m_pI5, ↓m_oI7, m_pI7, ↓m_oI11, m_pI11, ↓m_oI12, m_pI12, ↓m_oI13, m_pI13, ↓m_oI14, m_pI14, ↓m_oI15, m_pI15, ↓m_oI16, m_pI16, ↓m_oI17, m_pI17, m_pZ5, m_pZ12, ↓m_oR1, m_aI1, m_sI1, ↓m_oR2, m_aI2, m_sI2, ↓m_oR4, m_aI4, m_sI4, ↓m_oR6, m_aI6, m_sI6, ↓m_oR8, m_aI8, m_sI8, ↓m_oR9, m_aI9, m_sI9, ↓m_oR10, m_aI10, m_sI10, e_call0 e1, e_call0 rb, e_call0 k1, e4, mu_nb, mu_at, mu_ni]
    · rw [if_neg hd]
      rw [if_pos (Classical.byContradiction (fun q => hd (fun a => Classical.byContradiction (fun b => q ⟨a, by omega⟩))))] at e5
      subst e5
      refine MR_q hs (mu Ma 0 0 2) (iv 0) ?_ mu_eq (fun q => by omega) (qeff_a e2 e3)
      unfold fX7_turnPillar
      simp (disch := omega) only [↓reduceIte, Int.reduceEq, Int.reduceNe, Int.reduceLT, Int.reduceLE, Int.reduceNeg, Int.reduceMod, Int.reduceDiv, Int.reduceAdd, Int.reduceSub, Int.reduceMul, not_true_eq_false, not_false_eq_true, Int.lt_irrefl, true_or, or_true, false_or, or_false, true_and, and_true, false_and, and_false, b2_T, b2_F, if_true, if_false, ↓mjn_b, ↓mjn0_b, ↓mjn2_b, iv_lit, iv_add, iv_sub, iv_mul, iv_neg, iv_le_t, iv_le_f, iv_lt_t, iv_lt_f, iv_eq_t, iv_eq_f, iv_div, iv_mod, mretT_p, mretT_b, e_mret, ↓e_bret, ↓m_mon, ↓m_oI0, m_pI0, ↓m_oI3, m_pI3, ↓m_oI5, m_pI5, ↓m_oI7, m_pI7, ↓m_oI11, m_pI11, ↓m_oI12, m_pI12, ↓m_oI13, m_pI13, ↓m_oI14, m_pI14, ↓m_oI15, m_pI15, ↓m_oI16, m_pI16, ↓m_oI17, m_pI17, m_pZ5, m_pZ12, ↓m_oR1, m_aI1, m_sI1, ↓m_oR2, m_aI2, m_sI2, ↓m_oR4, m_aI4, m_sI4, ↓m_oR6, m_aI6, m_sI6, ↓m_oR8, m_aI8, m_sI8, ↓m_oR9, m_aI9, m_sI9, ↓m_oR10, m_aI10, m_sI10, e_call0 e1, e4, mu_nb, mu_at, mu_ni]
  · rw [if_neg hg]
    rw [if_neg hg] at e5
    subst e5
    refine MR_q hs (mu Ma 0 0 1) (iv 0) ?_ mu_eq (fun q => by omega) (qeff_a e2 e3)
    unfold fX7_turnPillar
    simp (disch := omega) only [↓reduceIte, Int.reduceEq, Int.reduceNe, Int.reduceLT, Int.reduceLE, Int.reduceNeg, Int.reduceMod, Int.reduceDiv, Int.reduceAdd, Int.reduceSub, Int.reduceMul, not_true_eq_false, not_false_eq_true, Int.lt_irrefl, true_or, or_true, false_or, or_false, true_and, and_true, false_and, and_false, b2_T, b2_F, if_true, if_false, ↓mjn_b, ↓mjn0_b, ↓mjn2_b, iv_lit, iv_add, iv_sub, iv_mul, iv_neg, iv_le_t, iv_le_f, iv_lt_t, iv_lt_f, iv_eq_t, iv_eq_f, iv_div, iv_mod, mretT_p, mretT_b, e_mret, ↓e_bret, ↓m_mon, ↓m_oI0, m_pI0, ↓m_oI3, m_pI3, ↓m_oI5, m_pI5, ↓m_oI7, m_pI7, ↓m_oI11, m_pI11, ↓m_oI12, m_pI12, ↓m_oI13, m_pI13, ↓m_oI14, m_pI14, ↓m_oI15, m_pI15, ↓m_oI16, m_pI16, ↓m_oI17, m_pI17, m_pZ5, m_pZ12, ↓m_oR1, m_aI1, m_sI1, ↓m_oR2, m_aI2, m_sI2, ↓m_oR4, m_aI4, m_sI4, ↓m_oR6, m_aI6, m_sI6, ↓m_oR8, m_aI8, m_sI8, ↓m_oR9, m_aI9, m_sI9, ↓m_oR10, m_aI10, m_sI10, e_call0 e1, e4, mu_nb, mu_at, mu_ni]
noncomputable def o_addTable (x : XS) (k : Int) (a : Int) (b : Int) (u : Int) : Int × Int × XS := @ite (Int × Int × XS) ((0 ≤ k ∧ k ≤ 2) ∧ inR a b ∧ 0 ≤ u ∧ u ≤ 3) (Classical.propDecidable _) (@ite (Int × Int × XS) (x.1 15 = 10 ∨ 0 < pck (zadd x.1 k (16 * b + a) u)) (Classical.propDecidable _) (2, 0, x) (0, x.1 15, xupd x (zadd x.1 k (16 * b + a) u))) (1, 0, x)
theorem MR_addTable {g : Nat → Nat} {h : Nat → Option hC} {n m : Nat} {M : Mm} {x : XS} {k a b u : Int} (hs : MS M x) (hk : -2147483648 ≤ k ∧ k < 2147483648) (ha : -2147483648 ≤ a ∧ a < 2147483648) (hb : -2147483648 ≤ b ∧ b < 2147483648) (hu : -2147483648 ≤ u ∧ u < 2147483648) : MR m h n (fX7_addTable g (some m) (iv k) (iv a) (iv b) (iv u) (md m M h, n, 0)) (o_addTable x k a b u) := by
  have hz := MS_z hs
  have hx := hs.1
  unfold o_addTable
  rw [hx]
  have h15 := wZ_15 hz
  have h60 := wZ_60 hz
  have hh := hz.1
  obtain ⟨Ma, r, e1, e2, e3, e6, e5⟩ := X7_noAdd_ev (g := g) (h := h) (n := n) (w := 0) (m := m) (M := M) (k := k) (x := a) (y := b) (u := u) hh h15.2 hk ha hb hu
  have e4 : Ma 0 = M 0 := e2 0 (by decide) (by decide) (by decide) (by decide)
  by_cases hg : (0 ≤ k ∧ k ≤ 2) ∧ inR a b ∧ 0 ≤ u ∧ u ≤ 3
  · rw [if_pos hg]
    rw [if_pos hg] at e5
    have hi := hg.2.1
    unfold inR at hi
    have hp := pck_rg (zadd (M 1) k (16 * b + a) u)
    by_cases hd : M 1 15 = 10 ∨ 0 < pck (zadd (M 1) k (16 * b + a) u)
    · rw [if_pos hd]
      rw [if_pos hd] at e5
      subst e5
      refine MR_q hs (mu Ma 0 0 2) (iv 0) ?_ mu_eq (fun q => by omega) (qeff_a e2 e3)
      unfold fX7_addTable
      simp (disch := omega) only [↓reduceIte, Int.reduceEq, Int.reduceNe, Int.reduceLT, Int.reduceLE, Int.reduceNeg, Int.reduceMod, Int.reduceDiv, Int.reduceAdd, Int.reduceSub, Int.reduceMul, not_true_eq_false, not_false_eq_true, Int.lt_irrefl, true_or, or_true, false_or, or_false, true_and, and_true, false_and, and_false, b2_T, b2_F, if_true, if_false, ↓mjn_b, ↓mjn0_b, ↓mjn2_b, iv_lit, iv_add, iv_sub, iv_mul, iv_neg, iv_le_t, iv_le_f, iv_lt_t, iv_lt_f, iv_eq_t, iv_eq_f, iv_div, iv_mod, mretT_p, mretT_b, e_mret, ↓e_bret, ↓m_mon, ↓m_oI0, m_pI0, ↓m_oI3, m_pI3, ↓m_oI5, m_pI5, ↓m_oI7, m_pI7, ↓m_oI11, m_pI11, ↓m_oI12, m_pI12, ↓m_oI13, m_pI13, ↓m_oI14, m_pI14, ↓m_oI15, m_pI15, ↓m_oI16, m_pI16, ↓m_oI17, m_pI17, m_pZ5, m_pZ12, ↓m_oR1, m_aI1, m_sI1, ↓m_oR2, m_aI2, m_sI2, ↓m_oR4, m_aI4, m_sI4, ↓m_oR6, m_aI6, m_sI6, ↓m_oR8, m_aI8, m_sI8, ↓m_oR9, m_aI9, m_sI9, ↓m_oR10, m_aI10, m_sI10, e_call0 e1, e4, mu_nb, mu_at, mu_ni]
    · rw [if_neg hd]
      rw [if_neg hd] at e5
      subst e5
      obtain ⟨Mb, rb, b1, b0, bu, bj, b6⟩ := rec_u (g := g) (h := h) (n := n) (m := m) hs (e2) (e3)
      obtain ⟨M2, k1, k2, k4, k3⟩ := X7_layTable_ev (g := g) (h := h) (n := n) (w := 0) (m := m) (M := Mb) (k := k) (x := a) (y := b) (u := u) (by rw [b1, e6]; exact h15)
      have k5 : M2 1 15 = M 1 15 + 1 := by rw [k3, b1, ← e6]; exact iu_at rfl
      refine MR_u hs bu b0 M2 ?_ k2 (by rw [k3, b1]; exact zeq_zadd e3 h15 hh.2.2.1) (wZ_add hz hg.1 (by omega) hg.2.2 (by omega) (by omega))
      unfold fX7_addTable
      simp (disch := omega) only [↓reduceIte, Int.reduceEq, Int.reduceNe, Int.reduceLT, Int.reduceLE, Int.reduceNeg, Int.reduceMod, Int.reduceDiv, Int.reduceAdd, Int.reduceSub, Int.reduceMul, not_true_eq_false, not_false_eq_true, Int.lt_irrefl, true_or, or_true, false_or, or_false, true_and, and_true, false_and, and_false, b2_T, b2_F, if_true, if_false, ↓mjn_b, ↓mjn0_b, ↓mjn2_b, iv_lit, iv_add, iv_sub, iv_mul, iv_neg, iv_le_t, iv_le_f, iv_lt_t, iv_lt_f, iv_eq_t, iv_eq_f, iv_div, iv_mod, mretT_p, mretT_b, e_mret, ↓e_bret, ↓m_mon, ↓m_oI0, m_pI0, ↓m_oI3, m_pI3, ↓m_oI5, m_pI5, ↓m_oI7, m_pI7, ↓m_oI11, m_pI11, ↓m_oI12, m_pI12, ↓m_oI13, m_pI13, ↓m_oI14, m_pI14, ↓m_oI15, m_pI15, ↓m_oI16, m_pI16, ↓m_oI17, m_pI17, m_pZ5, m_pZ12, ↓m_oR1, m_aI1, m_sI1, ↓m_oR2, m_aI2, m_sI2, ↓m_oR4, m_aI4, m_sI4, ↓m_oR6, m_aI6, m_sI6, ↓m_oR8, m_aI8, m_sI8, ↓m_oR9, m_aI9, m_sI9, ↓m_oR10, m_aI10, m_sI10, e_call0 e1, e_call0 rb, e_call0 k1, e4, k5, mu_nb, mu_at, mu_ni, Int.add_sub_cancel]
  · rw [if_neg hg]
    rw [if_neg hg] at e5
    subst e5
    refine MR_q hs (mu Ma 0 0 1) (iv 0) ?_ mu_eq (fun q => by omega) (qeff_a e2 e3)
    unfold fX7_addTable
    simp (disch := omega) only [↓reduceIte, Int.reduceEq, Int.reduceNe, Int.reduceLT, Int.reduceLE, Int.reduceNeg, Int.reduceMod, Int.reduceDiv, Int.reduceAdd, Int.reduceSub, Int.reduceMul, not_true_eq_false, not_false_eq_true, Int.lt_irrefl, true_or, or_true, false_or, or_false, true_and, and_true, false_and, and_false, b2_T, b2_F, if_true, if_false, ↓mjn_b, ↓mjn0_b, ↓mjn2_b, iv_lit, iv_add, iv_sub, iv_mul, iv_neg, iv_le_t, iv_le_f, iv_lt_t, iv_lt_f, iv_eq_t, iv_eq_f, iv_div, iv_mod, mretT_p, mretT_b, e_mret, ↓e_bret, ↓m_mon, ↓m_oI0, m_pI0, ↓m_oI3, m_pI3, ↓m_oI5, m_pI5, ↓m_oI7, m_pI7, ↓m_oI11, m_pI11, ↓m_oI12, m_pI12, ↓m_oI13, m_pI13, ↓m_oI14, m_pI14, ↓m_oI15, m_pI15, ↓m_oI16, m_pI16, ↓m_oI17, m_pI17, m_pZ5, m_pZ12, ↓m_oR1, m_aI1, m_sI1, ↓m_oR2, m_aI2, m_sI2, ↓m_oR4, m_aI4, m_sI4, ↓m_oR6, m_aI6, m_sI6, ↓m_oR8, m_aI8, m_sI8, ↓m_oR9, m_aI9, m_sI9, ↓m_oR10, m_aI10, m_sI10, e_call0 e1, e4, mu_nb, mu_at, mu_ni]
noncomputable def o_moveTable (x : XS) (t : Int) (a : Int) (b : Int) : Int × Int × XS := @ite (Int × Int × XS) (0 ≤ t ∧ t < x.1 15) (Classical.propDecidable _) (@ite (Int × Int × XS) (inR a b) (Classical.propDecidable _) (@ite (Int × Int × XS) (pck (zset (x.1) t (16 * b + a) (zt (x.1) t)) = 0) (Classical.propDecidable _) (0, zp x.1 t, xupd x (zset (x.1) t (16 * b + a) (zt (x.1) t))) (3, 0, x)) (2, 0, x)) (1, 0, x)
theorem MR_moveTable {g : Nat → Nat} {h : Nat → Option hC} {n m : Nat} {M : Mm} {x : XS} {t a b : Int} (hs : MS M x) (ht : -2147483648 ≤ t ∧ t < 2147483648) (ha : -2147483648 ≤ a ∧ a < 2147483648) (hb : -2147483648 ≤ b ∧ b < 2147483648) : MR m h n (fX7_moveTable g (some m) (iv t) (iv a) (iv b) (md m M h, n, 0)) (o_moveTable x t a b) := by
  have hz := MS_z hs
  have hx := hs.1
  unfold o_moveTable
  rw [hx]
  have h15 := wZ_15 hz
  have h60 := wZ_60 hz
  have hh := hz.1
  obtain ⟨Ma, e1, e2, e3⟩ := X7_noMove_ev (g := g) (h := h) (n := n) (w := 0) (m := m) (M := M) (t := t) (x := a) (y := b) hz ht ha hb
  have e4 : Ma 0 = M 0 := e2 0 (by decide) (by decide) (by decide) (by decide)
  have e5 : zeq (M 1) (Ma 1) := by rw [e3]; exact zeq_rf
  by_cases h1 : 0 ≤ t ∧ t < M 1 15
  · rw [if_pos h1]
    rw [if_pos h1] at e1
    have hwt := wZ_t hz h1
    unfold wT at hwt
    by_cases hg : inR a b
    · rw [if_pos hg]
      rw [if_pos hg] at e1
      unfold inR at hg
      by_cases hd : pck (zset (M 1) t (16 * b + a) (zt (M 1) t)) = 0
      · rw [if_pos hd]
        rw [if_pos hd] at e1
        obtain ⟨Mb, rb, b1, b0, bu, bj, b6⟩ := rec_u (g := g) (h := h) (n := n) (m := m) hs (e2) (e5)
        refine MR_u hs bu b0 (mu Mb 1 (16 + 4 * t + 1) (16 * b + a)) ?_ qsm_1 (by rw [mu_iu, b1, e3, ← zset_p]; exact zeq_rf) (wZ_set hz h1 (by omega) hwt.2.2.1 hd)
        unfold fX7_moveTable zp
        simp (disch := omega) only [↓reduceIte, Int.reduceEq, Int.reduceNe, Int.reduceLT, Int.reduceLE, Int.reduceNeg, Int.reduceMod, Int.reduceDiv, Int.reduceAdd, Int.reduceSub, Int.reduceMul, not_true_eq_false, not_false_eq_true, Int.lt_irrefl, true_or, or_true, false_or, or_false, true_and, and_true, false_and, and_false, b2_T, b2_F, if_true, if_false, ↓mjn_b, ↓mjn0_b, ↓mjn2_b, iv_lit, iv_add, iv_sub, iv_mul, iv_neg, iv_le_t, iv_le_f, iv_lt_t, iv_lt_f, iv_eq_t, iv_eq_f, iv_div, iv_mod, mretT_p, mretT_b, e_mret, ↓e_bret, ↓m_mon, ↓m_oI0, m_pI0, ↓m_oI3, m_pI3, ↓m_oI5, m_pI5, ↓m_oI7, m_pI7, ↓m_oI11, m_pI11, ↓m_oI12, m_pI12, ↓m_oI13, m_pI13, ↓m_oI14, m_pI14, ↓m_oI15, m_pI15, ↓m_oI16, m_pI16, ↓m_oI17, m_pI17, m_pZ5, m_pZ12, ↓m_oR1, m_aI1, m_sI1, ↓m_oR2, m_aI2, m_sI2, ↓m_oR4, m_aI4, m_sI4, ↓m_oR6, m_aI6, m_sI6, ↓m_oR8, m_aI8, m_sI8, ↓m_oR9, m_aI9, m_sI9, ↓m_oR10, m_aI10, m_sI10, e_call0 e1, e_call0 rb, X7_table_c, X7_setTable_c, e4, b1, e3, mu_nb, mu_at, mu_ni]
      · rw [if_neg hd]
        rw [if_neg hd] at e1
        refine MR_q hs (mu Ma 0 0 3) (iv 0) ?_ mu_eq (fun q => by omega) (qeff_a e2 e5)
        unfold fX7_moveTable
        simp (disch := omega) only [↓reduceIte, Int.reduceEq, Int.reduceNe, Int.reduceLT, Int.reduceLE, Int.reduceNeg, Int.reduceMod, Int.reduceDiv, Int.reduceAdd, Int.reduceSub, Int.reduceMul, not_true_eq_false, not_false_eq_true, Int.lt_irrefl, true_or, or_true, false_or, or_false, true_and, and_true, false_and, and_false, b2_T, b2_F, if_true, if_false, ↓mjn_b, ↓mjn0_b, ↓mjn2_b, iv_lit, iv_add, iv_sub, iv_mul, iv_neg, iv_le_t, iv_le_f, iv_lt_t, iv_lt_f, iv_eq_t, iv_eq_f, iv_div, iv_mod, mretT_p, mretT_b, e_mret, ↓e_bret, ↓m_mon, ↓m_oI0, m_pI0, ↓m_oI3, m_pI3, ↓m_oI5, m_pI5, ↓m_oI7, m_pI7, ↓m_oI11, m_pI11, ↓m_oI12, m_pI12, ↓m_oI13, m_pI13, ↓m_oI14, m_pI14, ↓m_oI15, m_pI15, ↓m_oI16, m_pI16, ↓m_oI17, m_pI17, m_pZ5, m_pZ12, ↓m_oR1, m_aI1, m_sI1, ↓m_oR2, m_aI2, m_sI2, ↓m_oR4, m_aI4, m_sI4, ↓m_oR6, m_aI6, m_sI6, ↓m_oR8, m_aI8, m_sI8, ↓m_oR9, m_aI9, m_sI9, ↓m_oR10, m_aI10, m_sI10, e_call0 e1, e4, mu_nb, mu_at, mu_ni]
    · rw [if_neg hg]
      rw [if_neg hg] at e1
      refine MR_q hs (mu Ma 0 0 2) (iv 0) ?_ mu_eq (fun q => by omega) (qeff_a e2 e5)
      unfold fX7_moveTable
      simp (disch := omega) only [↓reduceIte, Int.reduceEq, Int.reduceNe, Int.reduceLT, Int.reduceLE, Int.reduceNeg, Int.reduceMod, Int.reduceDiv, Int.reduceAdd, Int.reduceSub, Int.reduceMul, not_true_eq_false, not_false_eq_true, Int.lt_irrefl, true_or, or_true, false_or, or_false, true_and, and_true, false_and, and_false, b2_T, b2_F, if_true, if_false, ↓mjn_b, ↓mjn0_b, ↓mjn2_b, iv_lit, iv_add, iv_sub, iv_mul, iv_neg, iv_le_t, iv_le_f, iv_lt_t, iv_lt_f, iv_eq_t, iv_eq_f, iv_div, iv_mod, mretT_p, mretT_b, e_mret, ↓e_bret, ↓m_mon, ↓m_oI0, m_pI0, ↓m_oI3, m_pI3, ↓m_oI5, m_pI5, ↓m_oI7, m_pI7, ↓m_oI11, m_pI11, ↓m_oI12, m_pI12, ↓m_oI13, m_pI13, ↓m_oI14, m_pI14, ↓m_oI15, m_pI15, ↓m_oI16, m_pI16, ↓m_oI17, m_pI17, m_pZ5, m_pZ12, ↓m_oR1, m_aI1, m_sI1, ↓m_oR2, m_aI2, m_sI2, ↓m_oR4, m_aI4, m_sI4, ↓m_oR6, m_aI6, m_sI6, ↓m_oR8, m_aI8, m_sI8, ↓m_oR9, m_aI9, m_sI9, ↓m_oR10, m_aI10, m_sI10, e_call0 e1, e4, mu_nb, mu_at, mu_ni]
  · rw [if_neg h1]
    rw [if_neg h1] at e1
    refine MR_q hs (mu Ma 0 0 1) (iv 0) ?_ mu_eq (fun q => by omega) (qeff_a e2 e5)
    unfold fX7_moveTable
    simp (disch := omega) only [↓reduceIte, Int.reduceEq, Int.reduceNe, Int.reduceLT, Int.reduceLE, Int.reduceNeg, Int.reduceMod, Int.reduceDiv, Int.reduceAdd, Int.reduceSub, Int.reduceMul, not_true_eq_false, not_false_eq_true, Int.lt_irrefl, true_or, or_true, false_or, or_false, true_and, and_true, false_and, and_false, b2_T, b2_F, if_true, if_false, ↓mjn_b, ↓mjn0_b, ↓mjn2_b, iv_lit, iv_add, iv_sub, iv_mul, iv_neg, iv_le_t, iv_le_f, iv_lt_t, iv_lt_f, iv_eq_t, iv_eq_f, iv_div, iv_mod, mretT_p, mretT_b, e_mret, ↓e_bret, ↓m_mon, ↓m_oI0, m_pI0, ↓m_oI3, m_pI3, ↓m_oI5, m_pI5, ↓m_oI7, m_pI7, ↓m_oI11, m_pI11, ↓m_oI12, m_pI12, ↓m_oI13, m_pI13, ↓m_oI14, m_pI14, ↓m_oI15, m_pI15, ↓m_oI16, m_pI16, ↓m_oI17, m_pI17, m_pZ5, m_pZ12, ↓m_oR1, m_aI1, m_sI1, ↓m_oR2, m_aI2, m_sI2, ↓m_oR4, m_aI4, m_sI4, ↓m_oR6, m_aI6, m_sI6, ↓m_oR8, m_aI8, m_sI8, ↓m_oR9, m_aI9, m_sI9, ↓m_oR10, m_aI10, m_sI10, e_call0 e1, e4, mu_nb, mu_at, mu_ni]
noncomputable def o_turnTable (x : XS) (t : Int) (u : Int) : Int × Int × XS := @ite (Int × Int × XS) (0 ≤ t ∧ t < x.1 15) (Classical.propDecidable _) (@ite (Int × Int × XS) (0 ≤ u ∧ u ≤ 3) (Classical.propDecidable _) (@ite (Int × Int × XS) (pck (zset (x.1) t (zp (x.1) t) u) = 0) (Classical.propDecidable _) (0, zt x.1 t, xupd x (zset (x.1) t (zp (x.1) t) u)) (3, 0, x)) (2, 0, x)) (1, 0, x)
theorem MR_turnTable {g : Nat → Nat} {h : Nat → Option hC} {n m : Nat} {M : Mm} {x : XS} {t u : Int} (hs : MS M x) (ht : -2147483648 ≤ t ∧ t < 2147483648) (hu : -2147483648 ≤ u ∧ u < 2147483648) : MR m h n (fX7_turnTable g (some m) (iv t) (iv u) (md m M h, n, 0)) (o_turnTable x t u) := by
  have hz := MS_z hs
  have hx := hs.1
  unfold o_turnTable
  rw [hx]
  have h15 := wZ_15 hz
  have h60 := wZ_60 hz
  have hh := hz.1
  obtain ⟨Ma, e1, e2, e3⟩ := X7_noTurn_ev (g := g) (h := h) (n := n) (w := 0) (m := m) (M := M) (t := t) (u := u) hz ht hu
  have e4 : Ma 0 = M 0 := e2 0 (by decide) (by decide) (by decide) (by decide)
  have e5 : zeq (M 1) (Ma 1) := by rw [e3]; exact zeq_rf
  by_cases h1 : 0 ≤ t ∧ t < M 1 15
  · rw [if_pos h1]
    rw [if_pos h1] at e1
    have hwt := wZ_t hz h1
    unfold wT at hwt
    by_cases hg : 0 ≤ u ∧ u ≤ 3
    · rw [if_pos hg]
      rw [if_pos hg] at e1
      skip
      by_cases hd : pck (zset (M 1) t (zp (M 1) t) u) = 0
      · rw [if_pos hd]
        rw [if_pos hd] at e1
        obtain ⟨Mb, rb, b1, b0, bu, bj, b6⟩ := rec_u (g := g) (h := h) (n := n) (m := m) hs (e2) (e5)
        refine MR_u hs bu b0 (mu Mb 1 (16 + 4 * t + 2) (u)) ?_ qsm_1 (by rw [mu_iu, b1, e3, ← zset_u]; exact zeq_rf) (wZ_set hz h1 hwt.2.1 hg hd)
        unfold fX7_turnTable zt
        simp (disch := omega) only [↓reduceIte, Int.reduceEq, Int.reduceNe, Int.reduceLT, Int.reduceLE, Int.reduceNeg, Int.reduceMod, Int.reduceDiv, Int.reduceAdd, Int.reduceSub, Int.reduceMul, not_true_eq_false, not_false_eq_true, Int.lt_irrefl, true_or, or_true, false_or, or_false, true_and, and_true, false_and, and_false, b2_T, b2_F, if_true, if_false, ↓mjn_b, ↓mjn0_b, ↓mjn2_b, iv_lit, iv_add, iv_sub, iv_mul, iv_neg, iv_le_t, iv_le_f, iv_lt_t, iv_lt_f, iv_eq_t, iv_eq_f, iv_div, iv_mod, mretT_p, mretT_b, e_mret, ↓e_bret, ↓m_mon, ↓m_oI0, m_pI0, ↓m_oI3, m_pI3, ↓m_oI5, m_pI5, ↓m_oI7, m_pI7, ↓m_oI11, m_pI11, ↓m_oI12, m_pI12, ↓m_oI13, m_pI13, ↓m_oI14, m_pI14, ↓m_oI15, m_pI15, ↓m_oI16, m_pI16, ↓m_oI17, m_pI17, m_pZ5, m_pZ12, ↓m_oR1, m_aI1, m_sI1, ↓m_oR2, m_aI2, m_sI2, ↓m_oR4, m_aI4, m_sI4, ↓m_oR6, m_aI6, m_sI6, ↓m_oR8, m_aI8, m_sI8, ↓m_oR9, m_aI9, m_sI9, ↓m_oR10, m_aI10, m_sI10, e_call0 e1, e_call0 rb, X7_table_c, X7_setTable_c, e4, b1, e3, mu_nb, mu_at, mu_ni]
      · rw [if_neg hd]
        rw [if_neg hd] at e1
        refine MR_q hs (mu Ma 0 0 3) (iv 0) ?_ mu_eq (fun q => by omega) (qeff_a e2 e5)
        unfold fX7_turnTable
        simp (disch := omega) only [↓reduceIte, Int.reduceEq, Int.reduceNe, Int.reduceLT, Int.reduceLE, Int.reduceNeg, Int.reduceMod, Int.reduceDiv, Int.reduceAdd, Int.reduceSub, Int.reduceMul, not_true_eq_false, not_false_eq_true, Int.lt_irrefl, true_or, or_true, false_or, or_false, true_and, and_true, false_and, and_false, b2_T, b2_F, if_true, if_false, ↓mjn_b, ↓mjn0_b, ↓mjn2_b, iv_lit, iv_add, iv_sub, iv_mul, iv_neg, iv_le_t, iv_le_f, iv_lt_t, iv_lt_f, iv_eq_t, iv_eq_f, iv_div, iv_mod, mretT_p, mretT_b, e_mret, ↓e_bret, ↓m_mon, ↓m_oI0, m_pI0, ↓m_oI3, m_pI3, ↓m_oI5, m_pI5, ↓m_oI7, m_pI7, ↓m_oI11, m_pI11, ↓m_oI12, m_pI12, ↓m_oI13, m_pI13, ↓m_oI14, m_pI14, ↓m_oI15, m_pI15, ↓m_oI16, m_pI16, ↓m_oI17, m_pI17, m_pZ5, m_pZ12, ↓m_oR1, m_aI1, m_sI1, ↓m_oR2, m_aI2, m_sI2, ↓m_oR4, m_aI4, m_sI4, ↓m_oR6, m_aI6, m_sI6, ↓m_oR8, m_aI8, m_sI8, ↓m_oR9, m_aI9, m_sI9, ↓m_oR10, m_aI10, m_sI10, e_call0 e1, e4, mu_nb, mu_at, mu_ni]
    · rw [if_neg hg]
      rw [if_neg hg] at e1
      refine MR_q hs (mu Ma 0 0 2) (iv 0) ?_ mu_eq (fun q => by omega) (qeff_a e2 e5)
      unfold fX7_turnTable
      simp (disch := omega) only [↓reduceIte, Int.reduceEq, Int.reduceNe, Int.reduceLT, Int.reduceLE, Int.reduceNeg, Int.reduceMod, Int.reduceDiv, Int.reduceAdd, Int.reduceSub, Int.reduceMul, not_true_eq_false, not_false_eq_true, Int.lt_irrefl, true_or, or_true, false_or, or_false, true_and, and_true, false_and, and_false, b2_T, b2_F, if_true, if_false, ↓mjn_b, ↓mjn0_b, ↓mjn2_b, iv_lit, iv_add, iv_sub, iv_mul, iv_neg, iv_le_t, iv_le_f, iv_lt_t, iv_lt_f, iv_eq_t, iv_eq_f, iv_div, iv_mod, mretT_p, mretT_b, e_mret, ↓e_bret, ↓m_mon, ↓m_oI0, m_pI0, ↓m_oI3, m_pI3, ↓m_oI5, m_pI5, ↓m_oI7, m_pI7, ↓m_oI11, m_pI11, ↓m_oI12, m_pI12, ↓m_oI13, m_pI13, ↓m_oI14, m_pI14, ↓m_oI15, m_pI15, ↓m_oI16, m_pI16, ↓m_oI17, m_pI17, m_pZ5, m_pZ12, ↓m_oR1, m_aI1, m_sI1, ↓m_oR2, m_aI2, m_sI2, ↓m_oR4, m_aI4, m_sI4, ↓m_oR6, m_aI6, m_sI6, ↓m_oR8, m_aI8, m_sI8, ↓m_oR9, m_aI9, m_sI9, ↓m_oR10, m_aI10, m_sI10, e_call0 e1, e4, mu_nb, mu_at, mu_ni]
  · rw [if_neg h1]
    rw [if_neg h1] at e1
    refine MR_q hs (mu Ma 0 0 1) (iv 0) ?_ mu_eq (fun q => by omega) (qeff_a e2 e5)
    unfold fX7_turnTable
    simp (disch := omega) only [↓reduceIte, Int.reduceEq, Int.reduceNe, Int.reduceLT, Int.reduceLE, Int.reduceNeg, Int.reduceMod, Int.reduceDiv, Int.reduceAdd, Int.reduceSub, Int.reduceMul, not_true_eq_false, not_false_eq_true, Int.lt_irrefl, true_or, or_true, false_or, or_false, true_and, and_true, false_and, and_false, b2_T, b2_F, if_true, if_false, ↓mjn_b, ↓mjn0_b, ↓mjn2_b, iv_lit, iv_add, iv_sub, iv_mul, iv_neg, iv_le_t, iv_le_f, iv_lt_t, iv_lt_f, iv_eq_t, iv_eq_f, iv_div, iv_mod, mretT_p, mretT_b, e_mret, ↓e_bret, ↓m_mon, ↓m_oI0, m_pI0, ↓m_oI3, m_pI3, ↓m_oI5, m_pI5, ↓m_oI7, m_pI7, ↓m_oI11, m_pI11, ↓m_oI12, m_pI12, ↓m_oI13, m_pI13, ↓m_oI14, m_pI14, ↓m_oI15, m_pI15, ↓m_oI16, m_pI16, ↓m_oI17, m_pI17, m_pZ5, m_pZ12, ↓m_oR1, m_aI1, m_sI1, ↓m_oR2, m_aI2, m_sI2, ↓m_oR4, m_aI4, m_sI4, ↓m_oR6, m_aI6, m_sI6, ↓m_oR8, m_aI8, m_sI8, ↓m_oR9, m_aI9, m_sI9, ↓m_oR10, m_aI10, m_sI10, e_call0 e1, e4, mu_nb, mu_at, mu_ni]
noncomputable def o_setFlowers (x : XS) (t : Int) (v : Int) : Int × Int × XS := @ite (Int × Int × XS) (0 ≤ t ∧ t ≤ x.1 15 - 1) (Classical.propDecidable _) (@ite (Int × Int × XS) (0 ≤ v ∧ v ≤ 9) (Classical.propDecidable _) (0, zf x.1 t, xupd x (iu x.1 (16 + 4 * t + 3) v)) (2, 0, x)) (1, 0, x)
theorem MR_setFlowers {g : Nat → Nat} {h : Nat → Option hC} {n m : Nat} {M : Mm} {x : XS} {t v : Int} (hs : MS M x) (ht : -2147483648 ≤ t ∧ t < 2147483648) (hv : -2147483648 ≤ v ∧ v < 2147483648) : MR m h n (fX7_setFlowers g (some m) (iv t) (iv v) (md m M h, n, 0)) (o_setFlowers x t v) := by
  have hz := MS_z hs
  have hx := hs.1
  unfold o_setFlowers
  rw [hx]
  have h15 := wZ_15 hz
  have h60 := wZ_60 hz
  have hh := hz.1
  by_cases h1 : 0 ≤ t ∧ t ≤ M 1 15 - 1
  · rw [if_pos h1]
    by_cases hg : 0 ≤ v ∧ v ≤ 9
    · rw [if_pos hg]
      obtain ⟨Mb, rb, b1, b0, bu, bj, b6⟩ := rec_u (g := g) (h := h) (n := n) (m := m) hs (qsm_rf) (zeq_rf)
      refine MR_u hs bu b0 (mu Mb 1 (16 + 4 * t + 3) v) ?_ qsm_1 (by rw [mu_iu, b1]; exact zeq_rf) (wZ_flow hz (by omega) hg)
      unfold fX7_setFlowers zf
      simp (disch := omega) only [↓reduceIte, Int.reduceEq, Int.reduceNe, Int.reduceLT, Int.reduceLE, Int.reduceNeg, Int.reduceMod, Int.reduceDiv, Int.reduceAdd, Int.reduceSub, Int.reduceMul, not_true_eq_false, not_false_eq_true, Int.lt_irrefl, true_or, or_true, false_or, or_false, true_and, and_true, false_and, and_false, b2_T, b2_F, if_true, if_false, ↓mjn_b, ↓mjn0_b, ↓mjn2_b, iv_lit, iv_add, iv_sub, iv_mul, iv_neg, iv_le_t, iv_le_f, iv_lt_t, iv_lt_f, iv_eq_t, iv_eq_f, iv_div, iv_mod, mretT_p, mretT_b, e_mret, ↓e_bret, ↓m_mon, ↓m_oI0, m_pI0, ↓m_oI3, m_pI3, ↓m_oI5, m_pI5, ↓m_oI7, m_pI7, ↓m_oI11, m_pI11, ↓m_oI12, m_pI12, ↓m_oI13, m_pI13, ↓m_oI14, m_pI14, ↓m_oI15, m_pI15, ↓m_oI16, m_pI16, ↓m_oI17, m_pI17, m_pZ5, m_pZ12, ↓m_oR1, m_aI1, m_sI1, ↓m_oR2, m_aI2, m_sI2, ↓m_oR4, m_aI4, m_sI4, ↓m_oR6, m_aI6, m_sI6, ↓m_oR8, m_aI8, m_sI8, ↓m_oR9, m_aI9, m_sI9, ↓m_oR10, m_aI10, m_sI10, X7_isTable_c, b2_t h1, X7_in_c, b2_t hg, e_call0 rb, X7_table_c, X7_setTable_c, b1, mu_nb, mu_at, mu_ni]
    · rw [if_neg hg]
      refine MR_q hs (mu M 0 0 2) (iv 0) ?_ mu_eq (fun q => by omega) qeff_0
      unfold fX7_setFlowers
      simp (disch := omega) only [↓reduceIte, Int.reduceEq, Int.reduceNe, Int.reduceLT, Int.reduceLE, Int.reduceNeg, Int.reduceMod, Int.reduceDiv, Int.reduceAdd, Int.reduceSub, Int.reduceMul, not_true_eq_false, not_false_eq_true, Int.lt_irrefl, true_or, or_true, false_or, or_false, true_and, and_true, false_and, and_false, b2_T, b2_F, if_true, if_false, ↓mjn_b, ↓mjn0_b, ↓mjn2_b, iv_lit, iv_add, iv_sub, iv_mul, iv_neg, iv_le_t, iv_le_f, iv_lt_t, iv_lt_f, iv_eq_t, iv_eq_f, iv_div, iv_mod, mretT_p, mretT_b, e_mret, ↓e_bret, ↓m_mon, ↓m_oI0, m_pI0, ↓m_oI3, m_pI3, ↓m_oI5, m_pI5, ↓m_oI7, m_pI7, ↓m_oI11, m_pI11, ↓m_oI12, m_pI12, ↓m_oI13, m_pI13, ↓m_oI14, m_pI14, ↓m_oI15, m_pI15, ↓m_oI16, m_pI16, ↓m_oI17, m_pI17, m_pZ5, m_pZ12, ↓m_oR1, m_aI1, m_sI1, ↓m_oR2, m_aI2, m_sI2, ↓m_oR4, m_aI4, m_sI4, ↓m_oR6, m_aI6, m_sI6, ↓m_oR8, m_aI8, m_sI8, ↓m_oR9, m_aI9, m_sI9, ↓m_oR10, m_aI10, m_sI10, X7_isTable_c, b2_t h1, X7_in_c, b2_f hg, mu_nb, mu_at, mu_ni]
  · rw [if_neg h1]
    refine MR_q hs (mu M 0 0 1) (iv 0) ?_ mu_eq (fun q => by omega) qeff_0
    unfold fX7_setFlowers
    simp (disch := omega) only [↓reduceIte, Int.reduceEq, Int.reduceNe, Int.reduceLT, Int.reduceLE, Int.reduceNeg, Int.reduceMod, Int.reduceDiv, Int.reduceAdd, Int.reduceSub, Int.reduceMul, not_true_eq_false, not_false_eq_true, Int.lt_irrefl, true_or, or_true, false_or, or_false, true_and, and_true, false_and, and_false, b2_T, b2_F, if_true, if_false, ↓mjn_b, ↓mjn0_b, ↓mjn2_b, iv_lit, iv_add, iv_sub, iv_mul, iv_neg, iv_le_t, iv_le_f, iv_lt_t, iv_lt_f, iv_eq_t, iv_eq_f, iv_div, iv_mod, mretT_p, mretT_b, e_mret, ↓e_bret, ↓m_mon, ↓m_oI0, m_pI0, ↓m_oI3, m_pI3, ↓m_oI5, m_pI5, ↓m_oI7, m_pI7, ↓m_oI11, m_pI11, ↓m_oI12, m_pI12, ↓m_oI13, m_pI13, ↓m_oI14, m_pI14, ↓m_oI15, m_pI15, ↓m_oI16, m_pI16, ↓m_oI17, m_pI17, m_pZ5, m_pZ12, ↓m_oR1, m_aI1, m_sI1, ↓m_oR2, m_aI2, m_sI2, ↓m_oR4, m_aI4, m_sI4, ↓m_oR6, m_aI6, m_sI6, ↓m_oR8, m_aI8, m_sI8, ↓m_oR9, m_aI9, m_sI9, ↓m_oR10, m_aI10, m_sI10, X7_isTable_c, b2_f h1, mu_nb, mu_at, mu_ni]
