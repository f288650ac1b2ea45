/-! ===== the model: runText() itself ===== -/
theorem pO_gt {T : Int → Int} {l a : Int} (hk : pK (pH T l a)) : a + 1 ≤ (pO T l a).1.1 := by
  have h0 : a + 1 ≤ (pS0 T l a).1 := by
    unfold pS0
    rw [if_pos hk]
    exact Int.le_refl _
  have h1 := Int.le_trans h0 (pN_go (T := T) (l := l) (H := pHi (pH T l a)) (s := pS0 T l a))
  unfold pO
  simp only
  split
  · exact Int.le_trans h1 (Int.le_trans pTN_le (Int.le_trans pTN_le pTN_le))
  · split
    · exact Int.le_trans h1 (Int.le_trans pTN_le pTN_le)
    · split
      · exact Int.le_trans h1 pTN_le
      · split
        · exact Int.le_trans h1 pTN_le
        · split
          · exact Int.le_trans h1 (Int.le_trans pTN_le pTN_le)
          · split
            · exact Int.le_trans h1 pTN_le
            · exact h1
theorem mst_a {M : Mm} {a : Int} : mu M 0 11 a = mst M (a, M 0 12) := by
  funext b j
  unfold mu mst
  by_cases h : b = 0 ∧ j = 11
  · rw [if_pos h, if_pos h]
  · rw [if_neg h, if_neg h]
    by_cases h2 : b = 0 ∧ j = 12
    · rw [if_pos h2, h2.1, h2.2]
    · rw [if_neg h2]
/-- what runText() leaves alone -/
def rsm (M M' : Mm) : Prop := (∀ b, b ≠ 0 → b ≠ 1 → b ≠ 8 → b ≠ 9 → b ≠ 10 → M' b = M b) ∧ ∀ j, j < 11 → M' 0 j = M 0 j
theorem rsm_tr {M M' M'' : Mm} (h : rsm M M') (h2 : rsm M' M'') : rsm M M'' := ⟨fun b a c d e f => (h2.1 b a c d e f).trans (h.1 b a c d e f), fun j q => (h2.2 j q).trans (h.2 j q)⟩
theorem X7_step_ev {g : Nat → Nat} {h : Nat → Option hC} {n m : Nat} {M : Mm} (hz : wZ (M 1)) (ht : txt (M 6) (M 0 7)) (hw : M 0 12 = 0 ∨ M 0 12 = 1) {a : Int} (ha : 0 ≤ a ∧ a ≤ M 0 7) (hp : (pO (M 6) (M 0 7) a).1.2 = 0) :
    ∃ (M1 M' : Mm), fX7_order g (some m) (md m (mu M 0 11 a) h, n, 0) = some ((), (md m M1 h, n, 0)) ∧
      fX7_does g (some m) (md m M1 h, n, 0) = some (iv (b2 (dgo (M 1) (pH (M 6) (M 0 7) a) (pO (M 6) (M 0 7) a).2.1 (pO (M 6) (M 0 7) a).2.2.1 (pO (M 6) (M 0 7) a).2.2.2.1 (pO (M 6) (M 0 7) a).2.2.2.2)), (md m M' h, n, 0)) ∧ rsm M M' ∧ M' 0 11 = (pO (M 6) (M 0 7) a).1.1 ∧ M' 0 12 = 0 ∧
      zeq (@ite (Int → Int) (dgo (M 1) (pH (M 6) (M 0 7) a) (pO (M 6) (M 0 7) a).2.1 (pO (M 6) (M 0 7) a).2.2.1 (pO (M 6) (M 0 7) a).2.2.2.1 (pO (M 6) (M 0 7) a).2.2.2.2) (Classical.propDecidable _) (dzz (M 1) (pH (M 6) (M 0 7) a) (pO (M 6) (M 0 7) a).2.1 (pO (M 6) (M 0 7) a).2.2.1 (pO (M 6) (M 0 7) a).2.2.2.1 (pO (M 6) (M 0 7) a).2.2.2.2) (M 1)) (M' 1) := by
  obtain ⟨M2, e1, e2, e3, e4⟩ := X7_order_ev (g := g) (h := h) (n := n) (w := 0) (m := m) (M := M) (a := a) (b := M 0 12) ht ⟨ha, hw⟩
  have hk := pO_w hp
  obtain ⟨k1, k2, k3, k4, k5⟩ := e4 hk
  have h21 : M2 1 = M 1 := e2 1 (by decide)
  have q1 : mst M2 (pO (M 6) (M 0 7) a).1 1 = M 1 := by rw [mst_ob (by decide), h21]
  obtain ⟨M', f1, f2, f3⟩ := X7_does_ev (g := g) (h := h) (n := n) (m := m) (M := mst M2 (pO (M 6) (M 0 7) a).1) (by rw [q1]; exact hz) (pO_rg hk) (by rw [mst_j (by omega)]; exact k1) (by rw [mst_j (by omega)]; exact k2) (fun q => by rw [mst_j (by omega)]; exact k3 q) (fun q => by rw [mst_j (by omega)]; exact k4 q) (fun q => by rw [mst_j (by omega)]; exact k5 q)
  rw [q1] at f1 f3
  have q0 : M' 0 = mst M2 (pO (M 6) (M 0 7) a).1 0 := f2 0 (by decide) (by decide) (by decide) (by decide)
  refine ⟨_, M', by rw [mst_a]; exact e1, f1, ⟨fun b b0 b1 b8 b9 b10 => by rw [f2 b b1 b8 b9 b10, mst_ob b0, e2 b b0], fun j hj => by rw [q0, mst_j (by omega), e3 j (by omega)]⟩, by rw [q0, mst_11], by rw [q0, mst_12]; exact hp, f3⟩
theorem X7_runText_L42_ev {g : Nat → Nat} {h : Nat → Option hC} {n m : Nat} {T : Int → Int} {l : Int} (ht : txt T l) : ∀ (k nn : Nat) (M : Mm) (A a d : Int), k + 1 < nn → M 6 = T → M 0 7 = l → wZ (M 1) → (M 0 12 = 0 ∨ M 0 12 = 1) → M 0 11 = A → (A = 0 ∧ a = 0 ∨ 0 < A ∧ a = A + 1) → A < l → l - a < k → good T l a k → 
    ∃ (M' : Mm), fX7_runText_L42 g nn (some m) (iv d) (iv 1) (md m M h, n, 0) = some (iv (rtz T l k a (M 1) d).2, (md m M' h, n, 0)) ∧ zeq (rtz T l k a (M 1) d).1 (M' 1) ∧ rsm M M' := by
  intro k
  induction k with
  | zero => intro nn M A a d _ _ _ _ _ _ h1 h2 h3; omega
  | succ k ih =>
    intro nn M A a d hn hT hl hz hw hA ha hAl hk hg
    obtain ⟨q, rfl⟩ : ∃ q, nn = q + 2 := ⟨nn - 2, by omega⟩
    subst hT hl
    have hp := pL_w hg
    have hkk := pO_w hp
    have hgt := pO_gt hkk
    have htl := ht.1
    obtain ⟨M1, M', e1, e2, e3, e4, e5, e6⟩ := X7_step_ev (g := g) (h := h) (n := n) (m := m) hz ht hw (a := a) (by omega) hp
    have q6 : M' 6 = M 6 := e3.1 6 (by decide) (by decide) (by decide) (by decide) (by decide)
    have q7 : M' 0 7 = M 0 7 := e3.2 7 (by omega)
    unfold rtz
    have hf := pO_rg hkk
    have hok := (pO_ok (T := M 6) (l := M 0 7) (a := a) (by omega)).1
    have hstep : ∀ R, (∀ gg : Int, gg = b2 (dgo (M 1) (pH (M 6) (M 0 7) a) (pO (M 6) (M 0 7) a).2.1 (pO (M 6) (M 0 7) a).2.2.1 (pO (M 6) (M 0 7) a).2.2.2.1 (pO (M 6) (M 0 7) a).2.2.2.2) → fX7_runText_L42 g (q + 1) (some m) (iv (d + gg)) (iv gg) (md m M' h, n, 0) = R) → fX7_runText_L42 g (q + 2) (some m) (iv d) (iv 1) (md m M h, n, 0) = R := fun R hR => by
      rw [← hR _ rfl]
      rcases ha with ⟨h1, h2⟩ | ⟨h1, h2⟩
      · by_cases hd : dgo (M 1) (pH (M 6) (M 0 7) a) (pO (M 6) (M 0 7) a).2.1 (pO (M 6) (M 0 7) a).2.2.1 (pO (M 6) (M 0 7) a).2.2.2.1 (pO (M 6) (M 0 7) a).2.2.2.2
        · rw [b2_t hd] at e2 ⊢
          subst h1 h2
          try simp only [iv_lit, iv_neg, iv_add, iv_mul, iv_sub, Int.reduceNeg]
          simp (disch := omega) only [↓reduceIte, Int.reduceEq, Int.reduceNe, Int.reduceLT, Int.reduceLE, Int.reduceNeg, Int.reduceMod, Int.reduceDiv, Int.reduceAdd, Int.reduceSub, Int.reduceMul, not_true_eq_false, not_false_eq_true, Int.lt_irrefl, true_or, or_true, false_or, or_false, true_and, and_true, false_and, and_false, b2_T, b2_F, if_true, if_false, ↓mjn_b, ↓mjn0_b, ↓mjn2_b, iv_lit, iv_add, iv_sub, iv_mul, iv_neg, iv_le_t, iv_le_f, iv_lt_t, iv_lt_f, iv_eq_t, iv_eq_f, iv_div, iv_mod, mretT_p, mretT_b, e_mret, ↓e_bret, ↓m_mon, ↓m_oI0, ↓m_pI0, ↓m_oI3, ↓m_pI3, ↓m_oI5, ↓m_pI5, ↓m_oI7, ↓m_pI7, ↓m_oI11, ↓m_pI11, ↓m_oI12, ↓m_pI12, ↓m_oI13, ↓m_pI13, ↓m_oI14, ↓m_pI14, ↓m_oI15, ↓m_pI15, ↓m_oI16, ↓m_pI16, ↓m_oI17, ↓m_pI17, ↓m_pZ5, ↓m_pZ12, ↓m_oR1, ↓m_aI1, ↓m_sI1, ↓m_oR2, ↓m_aI2, ↓m_sI2, ↓m_oR4, ↓m_aI4, ↓m_sI4, ↓m_oR6, ↓m_aI6, ↓m_sI6, ↓m_oR8, ↓m_aI8, ↓m_sI8, ↓m_oR9, ↓m_aI9, ↓m_sI9, ↓m_oR10, ↓m_aI10, ↓m_sI10, ↓e_call0 e1, ↓e_call0 e2, fX7_runText_L42, hA, Int.add_zero]
        · rw [b2_f hd] at e2 ⊢
          subst h1 h2
          try simp only [iv_lit, iv_neg, iv_add, iv_mul, iv_sub, Int.reduceNeg]
          simp (disch := omega) only [↓reduceIte, Int.reduceEq, Int.reduceNe, Int.reduceLT, Int.reduceLE, Int.reduceNeg, Int.reduceMod, Int.reduceDiv, Int.reduceAdd, Int.reduceSub, Int.reduceMul, not_true_eq_false, not_false_eq_true, Int.lt_irrefl, true_or, or_true, false_or, or_false, true_and, and_true, false_and, and_false, b2_T, b2_F, if_true, if_false, ↓mjn_b, ↓mjn0_b, ↓mjn2_b, iv_lit, iv_add, iv_sub, iv_mul, iv_neg, iv_le_t, iv_le_f, iv_lt_t, iv_lt_f, iv_eq_t, iv_eq_f, iv_div, iv_mod, mretT_p, mretT_b, e_mret, ↓e_bret, ↓m_mon, ↓m_oI0, ↓m_pI0, ↓m_oI3, ↓m_pI3, ↓m_oI5, ↓m_pI5, ↓m_oI7, ↓m_pI7, ↓m_oI11, ↓m_pI11, ↓m_oI12, ↓m_pI12, ↓m_oI13, ↓m_pI13, ↓m_oI14, ↓m_pI14, ↓m_oI15, ↓m_pI15, ↓m_oI16, ↓m_pI16, ↓m_oI17, ↓m_pI17, ↓m_pZ5, ↓m_pZ12, ↓m_oR1, ↓m_aI1, ↓m_sI1, ↓m_oR2, ↓m_aI2, ↓m_sI2, ↓m_oR4, ↓m_aI4, ↓m_sI4, ↓m_oR6, ↓m_aI6, ↓m_sI6, ↓m_oR8, ↓m_aI8, ↓m_sI8, ↓m_oR9, ↓m_aI9, ↓m_sI9, ↓m_oR10, ↓m_aI10, ↓m_sI10, ↓e_call0 e1, ↓e_call0 e2, fX7_runText_L42, hA, Int.add_zero]
      · by_cases hd : dgo (M 1) (pH (M 6) (M 0 7) a) (pO (M 6) (M 0 7) a).2.1 (pO (M 6) (M 0 7) a).2.2.1 (pO (M 6) (M 0 7) a).2.2.2.1 (pO (M 6) (M 0 7) a).2.2.2.2
        · rw [b2_t hd] at e2 ⊢
          subst h2
          try simp only [iv_lit, iv_neg, iv_add, iv_mul, iv_sub, Int.reduceNeg]
          simp (disch := omega) only [↓reduceIte, Int.reduceEq, Int.reduceNe, Int.reduceLT, Int.reduceLE, Int.reduceNeg, Int.reduceMod, Int.reduceDiv, Int.reduceAdd, Int.reduceSub, Int.reduceMul, not_true_eq_false, not_false_eq_true, Int.lt_irrefl, true_or, or_true, false_or, or_false, true_and, and_true, false_and, and_false, b2_T, b2_F, if_true, if_false, ↓mjn_b, ↓mjn0_b, ↓mjn2_b, iv_lit, iv_add, iv_sub, iv_mul, iv_neg, iv_le_t, iv_le_f, iv_lt_t, iv_lt_f, iv_eq_t, iv_eq_f, iv_div, iv_mod, mretT_p, mretT_b, e_mret, ↓e_bret, ↓m_mon, ↓m_oI0, ↓m_pI0, ↓m_oI3, ↓m_pI3, ↓m_oI5, ↓m_pI5, ↓m_oI7, ↓m_pI7, ↓m_oI11, ↓m_pI11, ↓m_oI12, ↓m_pI12, ↓m_oI13, ↓m_pI13, ↓m_oI14, ↓m_pI14, ↓m_oI15, ↓m_pI15, ↓m_oI16, ↓m_pI16, ↓m_oI17, ↓m_pI17, ↓m_pZ5, ↓m_pZ12, ↓m_oR1, ↓m_aI1, ↓m_sI1, ↓m_oR2, ↓m_aI2, ↓m_sI2, ↓m_oR4, ↓m_aI4, ↓m_sI4, ↓m_oR6, ↓m_aI6, ↓m_sI6, ↓m_oR8, ↓m_aI8, ↓m_sI8, ↓m_oR9, ↓m_aI9, ↓m_sI9, ↓m_oR10, ↓m_aI10, ↓m_sI10, ↓e_call0 e1, ↓e_call0 e2, fX7_runText_L42, hA, Int.add_zero]
        · rw [b2_f hd] at e2 ⊢
          subst h2
          try simp only [iv_lit, iv_neg, iv_add, iv_mul, iv_sub, Int.reduceNeg]
          simp (disch := omega) only [↓reduceIte, Int.reduceEq, Int.reduceNe, Int.reduceLT, Int.reduceLE, Int.reduceNeg, Int.reduceMod, Int.reduceDiv, Int.reduceAdd, Int.reduceSub, Int.reduceMul, not_true_eq_false, not_false_eq_true, Int.lt_irrefl, true_or, or_true, false_or, or_false, true_and, and_true, false_and, and_false, b2_T, b2_F, if_true, if_false, ↓mjn_b, ↓mjn0_b, ↓mjn2_b, iv_lit, iv_add, iv_sub, iv_mul, iv_neg, iv_le_t, iv_le_f, iv_lt_t, iv_lt_f, iv_eq_t, iv_eq_f, iv_div, iv_mod, mretT_p, mretT_b, e_mret, ↓e_bret, ↓m_mon, ↓m_oI0, ↓m_pI0, ↓m_oI3, ↓m_pI3, ↓m_oI5, ↓m_pI5, ↓m_oI7, ↓m_pI7, ↓m_oI11, ↓m_pI11, ↓m_oI12, ↓m_pI12, ↓m_oI13, ↓m_pI13, ↓m_oI14, ↓m_pI14, ↓m_oI15, ↓m_pI15, ↓m_oI16, ↓m_pI16, ↓m_oI17, ↓m_pI17, ↓m_pZ5, ↓m_pZ12, ↓m_oR1, ↓m_aI1, ↓m_sI1, ↓m_oR2, ↓m_aI2, ↓m_sI2, ↓m_oR4, ↓m_aI4, ↓m_sI4, ↓m_oR6, ↓m_aI6, ↓m_sI6, ↓m_oR8, ↓m_aI8, ↓m_sI8, ↓m_oR9, ↓m_aI9, ↓m_sI9, ↓m_oR10, ↓m_aI10, ↓m_sI10, ↓e_call0 e1, ↓e_call0 e2, fX7_runText_L42, hA, Int.add_zero]
    by_cases hd : dgo (M 1) (pH (M 6) (M 0 7) a) (pO (M 6) (M 0 7) a).2.1 (pO (M 6) (M 0 7) a).2.2.1 (pO (M 6) (M 0 7) a).2.2.2.1 (pO (M 6) (M 0 7) a).2.2.2.2
    · rw [if_pos hd] at e6
      rw [if_pos hd]
      have hzd := wZ_dzz hz hf hd
      by_cases hlt : (pO (M 6) (M 0 7) a).1.1 < M 0 7
      · rw [if_pos hlt]
        have hg2 := good_s hg hlt
        obtain ⟨M3, k1, k2, k3⟩ := ih (q + 1) M' (pO (M 6) (M 0 7) a).1.1 ((pO (M 6) (M 0 7) a).1.1 + 1) (d + 1) (by omega) q6 q7 (wZ_zeq e6 hzd) (Or.inl e5) e4 (Or.inr ⟨by omega, rfl⟩) hlt (by omega) hg2
        obtain ⟨r1, r2⟩ := rtz_zeq k ((pO (M 6) (M 0 7) a).1.1 + 1) _ _ (d + 1) hg2 e6 hzd
        refine ⟨M3, ?_, zeq_tr r1 k2, rsm_tr e3 k3⟩
        refine hstep _ (fun gg hgg => ?_)
        rw [b2_t hd] at hgg
        subst hgg
        rw [k1, r2]
      · rw [if_neg hlt]
        refine ⟨M', ?_, e6, e3⟩
        refine hstep _ (fun gg hgg => ?_)
        rw [b2_t hd] at hgg
        subst hgg
        simp (disch := omega) only [↓reduceIte, Int.reduceEq, Int.reduceNe, Int.reduceLT, Int.reduceLE, Int.reduceNeg, Int.reduceMod, Int.reduceDiv, Int.reduceAdd, Int.reduceSub, Int.reduceMul, not_true_eq_false, not_false_eq_true, Int.lt_irrefl, true_or, or_true, false_or, or_false, true_and, and_true, false_and, and_false, b2_T, b2_F, if_true, if_false, ↓mjn_b, ↓mjn0_b, ↓mjn2_b, iv_lit, iv_add, iv_sub, iv_mul, iv_neg, iv_le_t, iv_le_f, iv_lt_t, iv_lt_f, iv_eq_t, iv_eq_f, iv_div, iv_mod, mretT_p, mretT_b, e_mret, ↓e_bret, ↓m_mon, ↓m_oI0, m_pI0, ↓m_oI3, m_pI3, ↓m_oI5, m_pI5, ↓m_oI7, m_pI7, ↓m_oI11, m_pI11, ↓m_oI12, m_pI12, ↓m_oI13, m_pI13, ↓m_oI14, m_pI14, ↓m_oI15, m_pI15, ↓m_oI16, m_pI16, ↓m_oI17, m_pI17, m_pZ5, m_pZ12, ↓m_oR1, m_aI1, m_sI1, ↓m_oR2, m_aI2, m_sI2, ↓m_oR4, m_aI4, m_sI4, ↓m_oR6, m_aI6, m_sI6, ↓m_oR8, m_aI8, m_sI8, ↓m_oR9, m_aI9, m_sI9, ↓m_oR10, m_aI10, m_sI10, fX7_runText_L42, e4, q7]
    · rw [if_neg hd] at e6
      rw [if_neg hd]
      refine ⟨M', ?_, e6, e3⟩
      refine hstep _ (fun gg hgg => ?_)
      rw [b2_f hd] at hgg
      subst hgg
      simp (disch := omega) only [↓reduceIte, Int.reduceEq, Int.reduceNe, Int.reduceLT, Int.reduceLE, Int.reduceNeg, Int.reduceMod, Int.reduceDiv, Int.reduceAdd, Int.reduceSub, Int.reduceMul, not_true_eq_false, not_false_eq_true, Int.lt_irrefl, true_or, or_true, false_or, or_false, true_and, and_true, false_and, and_false, b2_T, b2_F, if_true, if_false, ↓mjn_b, ↓mjn0_b, ↓mjn2_b, iv_lit, iv_add, iv_sub, iv_mul, iv_neg, iv_le_t, iv_le_f, iv_lt_t, iv_lt_f, iv_eq_t, iv_eq_f, iv_div, iv_mod, mretT_p, mretT_b, e_mret, ↓e_bret, ↓m_mon, ↓m_oI0, m_pI0, ↓m_oI3, m_pI3, ↓m_oI5, m_pI5, ↓m_oI7, m_pI7, ↓m_oI11, m_pI11, ↓m_oI12, m_pI12, ↓m_oI13, m_pI13, ↓m_oI14, m_pI14, ↓m_oI15, m_pI15, ↓m_oI16, m_pI16, ↓m_oI17, m_pI17, m_pZ5, m_pZ12, ↓m_oR1, m_aI1, m_sI1, ↓m_oR2, m_aI2, m_sI2, ↓m_oR4, m_aI4, m_sI4, ↓m_oR6, m_aI6, m_sI6, ↓m_oR8, m_aI8, m_sI8, ↓m_oR9, m_aI9, m_sI9, ↓m_oR10, m_aI10, m_sI10, fX7_runText_L42, Int.add_zero]
