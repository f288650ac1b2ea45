/-! ===== the model: seats, tables taken away, names, pairs, serving ===== -/
noncomputable def nse (z : Int → Int) (g t c : Int) : Int := @ite Int (sits z g) (Classical.propDecidable _) 1 (if sitr z t c = -1 then (if wid z g ≤ caN (zk z t) then 0 else 3) else 2)
noncomputable def nsw (z : Int → Int) (g h : Int) : Int := @ite Int (sits z g ∧ sits z h) (Classical.propDecidable _) (if g = h then 2 else if wid z g ≤ caN (zk z (ga z h)) ∧ wid z h ≤ caN (zk z (ga z g)) then 0 else 3) 1
def zput (z : Int → Int) (g t c : Int) : Int → Int := iu (iu z (61 + 18 * g + 1) t) (61 + 18 * g + 2) c
def zswp (z : Int → Int) (g h : Int) : Int → Int := zput (zput z g (ga z h) (gc z h)) h (ga z g) (gc z g)
theorem sitr_rg {z : Int → Int} (h60 : 0 ≤ z 60) (t c : Int) : -1 ≤ sitr z t c ∧ sitr z t c < z 60 ∧ (sitr z t c ≠ -1 → ga z (sitr z t c) = t ∧ gc z (sitr z t c) = c) ∧ (sitr z t c = -1 → ∀ k, 0 ≤ k → k < z 60 → ¬ (ga z k = t ∧ gc z k = c)) := by
  have h := foldI_inv (s := fun a j => @ite Int (ga z j = t ∧ gc z j = c) (Classical.propDecidable _) j a) (fun j a => -1 ≤ a ∧ a < j ∧ (a ≠ -1 → ga z a = t ∧ gc z a = c) ∧ (a = -1 → ∀ k, 0 ≤ k → k < j → ¬ (ga z k = t ∧ gc z k = c))) (z 60).toNat (-1) 0 ⟨by omega, by omega, fun q => absurd rfl q, fun _ k a b => by omega⟩ (fun b j h1 h2 ⟨p1, p2, p3, p4⟩ => by
    by_cases h : ga z j = t ∧ gc z j = c
    · simp only [if_pos h]
      exact ⟨by omega, by omega, fun _ => h, fun q => by omega⟩
    · simp only [if_neg h]
      refine ⟨p1, by omega, p3, fun q k a b => ?_⟩
      by_cases e : k = j
      · rw [e]; exact h
      · exact p4 q k a (by omega))
  rw [show (0 : Int) + (((z 60).toNat : Nat) : Int) = z 60 by omega] at h
  exact h

theorem X7_noSeat_ev {g : Nat → Nat} {h : Nat → Option hC} {n w m : Nat} {M : Mm} {x t c : Int} (hz : wZ (M 1)) (hx : 0 ≤ x ∧ x < M 1 60) (ht : 0 ≤ t ∧ t < M 1 15) (hc : 0 ≤ c ∧ c < 8) : fX7_noSeat g (some m) (iv x) (iv t) (iv c) (md m M h, n, w) = some (iv (nse (M 1) x t c), (md m M h, n, w)) := by
  have h60 := wZ_60 hz
  have h15 := wZ_15 hz
  have hw := wZ_traw hz ht
  have hs := sitr_rg h60.1 t c
  have hg := wZ_graw hz hx
  have hwd := wid_rg (z := M 1) (g := x) (by unfold gl; omega)
  have hca := caN_rg (zk (M 1) t)
  unfold zk at hca
  unfold fX7_noSeat nse zk
  by_cases h1 : sits (M 1) x
  · simp (disch := omega) only [↓reduceIte, Int.reduceEq, Int.reduceNe, Int.reduceLT, Int.reduceLE, Int.reduceNeg, Int.reduceMod, Int.reduceDiv, Int.reduceAdd, Int.reduceSub, Int.reduceMul, not_true_eq_false, not_false_eq_true, true_or, or_true, false_or, or_false, true_and, and_true, false_and, and_false, b2_T, b2_F, if_true, if_false, ↓mjn_b, ↓mjn0_b, ↓mjn2_b, iv_lit, iv_add, iv_sub, iv_mul, iv_neg, iv_le_t, iv_le_f, iv_lt_t, iv_lt_f, iv_eq_t, iv_eq_f, iv_div, iv_mod, mretT_p, mretT_b, e_mret, ↓e_bret, ↓m_mon, ↓m_oI0, m_pI0, ↓m_oI3, m_pI3, ↓m_oI5, m_pI5, ↓m_oI7, m_pI7, ↓m_oI11, m_pI11, ↓m_oI12, m_pI12, ↓m_oI13, m_pI13, ↓m_oI14, m_pI14, ↓m_oI15, m_pI15, ↓m_oI16, m_pI16, ↓m_oI17, m_pI17, m_pZ5, m_pZ12, ↓m_oR1, m_aI1, m_sI1, ↓m_oR2, m_aI2, m_sI2, ↓m_oR4, m_aI4, m_sI4, ↓m_oR6, m_aI6, m_sI6, ↓m_oR8, m_aI8, m_sI8, ↓m_oR9, m_aI9, m_sI9, ↓m_oR10, m_aI10, m_sI10, X7_sits_b hz hx, b2_t h1, h1]
  · by_cases h2 : sitr (M 1) t c = -1
    · by_cases h3 : wid (M 1) x ≤ caN (M 1 (16 + 4 * t + 0))
      · simp (disch := omega) only [↓reduceIte, Int.reduceEq, Int.reduceNe, Int.reduceLT, Int.reduceLE, Int.reduceNeg, Int.reduceMod, Int.reduceDiv, Int.reduceAdd, Int.reduceSub, Int.reduceMul, not_true_eq_false, not_false_eq_true, true_or, or_true, false_or, or_false, true_and, and_true, false_and, and_false, b2_T, b2_F, if_true, if_false, ↓mjn_b, ↓mjn0_b, ↓mjn2_b, iv_lit, iv_add, iv_sub, iv_mul, iv_neg, iv_le_t, iv_le_f, iv_lt_t, iv_lt_f, iv_eq_t, iv_eq_f, iv_div, iv_mod, mretT_p, mretT_b, e_mret, ↓e_bret, ↓m_mon, ↓m_oI0, m_pI0, ↓m_oI3, m_pI3, ↓m_oI5, m_pI5, ↓m_oI7, m_pI7, ↓m_oI11, m_pI11, ↓m_oI12, m_pI12, ↓m_oI13, m_pI13, ↓m_oI14, m_pI14, ↓m_oI15, m_pI15, ↓m_oI16, m_pI16, ↓m_oI17, m_pI17, m_pZ5, m_pZ12, ↓m_oR1, m_aI1, m_sI1, ↓m_oR2, m_aI2, m_sI2, ↓m_oR4, m_aI4, m_sI4, ↓m_oR6, m_aI6, m_sI6, ↓m_oR8, m_aI8, m_sI8, ↓m_oR9, m_aI9, m_sI9, ↓m_oR10, m_aI10, m_sI10, X7_sits_b hz hx, b2_f h1, h1, X7_sitter_c hz, h2, X7_width_c hz hx, X7_table_c, X7_card_c, h3]
      · simp (disch := omega) only [↓reduceIte, Int.reduceEq, Int.reduceNe, Int.reduceLT, Int.reduceLE, Int.reduceNeg, Int.reduceMod, Int.reduceDiv, Int.reduceAdd, Int.reduceSub, Int.reduceMul, not_true_eq_false, not_false_eq_true, true_or, or_true, false_or, or_false, true_and, and_true, false_and, and_false, b2_T, b2_F, if_true, if_false, ↓mjn_b, ↓mjn0_b, ↓mjn2_b, iv_lit, iv_add, iv_sub, iv_mul, iv_neg, iv_le_t, iv_le_f, iv_lt_t, iv_lt_f, iv_eq_t, iv_eq_f, iv_div, iv_mod, mretT_p, mretT_b, e_mret, ↓e_bret, ↓m_mon, ↓m_oI0, m_pI0, ↓m_oI3, m_pI3, ↓m_oI5, m_pI5, ↓m_oI7, m_pI7, ↓m_oI11, m_pI11, ↓m_oI12, m_pI12, ↓m_oI13, m_pI13, ↓m_oI14, m_pI14, ↓m_oI15, m_pI15, ↓m_oI16, m_pI16, ↓m_oI17, m_pI17, m_pZ5, m_pZ12, ↓m_oR1, m_aI1, m_sI1, ↓m_oR2, m_aI2, m_sI2, ↓m_oR4, m_aI4, m_sI4, ↓m_oR6, m_aI6, m_sI6, ↓m_oR8, m_aI8, m_sI8, ↓m_oR9, m_aI9, m_sI9, ↓m_oR10, m_aI10, m_sI10, X7_sits_b hz hx, b2_f h1, h1, X7_sitter_c hz, h2, X7_width_c hz hx, X7_table_c, X7_card_c, h3]
    · simp (disch := omega) only [↓reduceIte, Int.reduceEq, Int.reduceNe, Int.reduceLT, Int.reduceLE, Int.reduceNeg, Int.reduceMod, Int.reduceDiv, Int.reduceAdd, Int.reduceSub, Int.reduceMul, not_true_eq_false, not_false_eq_true, true_or, or_true, false_or, or_false, true_and, and_true, false_and, and_false, b2_T, b2_F, if_true, if_false, ↓mjn_b, ↓mjn0_b, ↓mjn2_b, iv_lit, iv_add, iv_sub, iv_mul, iv_neg, iv_le_t, iv_le_f, iv_lt_t, iv_lt_f, iv_eq_t, iv_eq_f, iv_div, iv_mod, mretT_p, mretT_b, e_mret, ↓e_bret, ↓m_mon, ↓m_oI0, m_pI0, ↓m_oI3, m_pI3, ↓m_oI5, m_pI5, ↓m_oI7, m_pI7, ↓m_oI11, m_pI11, ↓m_oI12, m_pI12, ↓m_oI13, m_pI13, ↓m_oI14, m_pI14, ↓m_oI15, m_pI15, ↓m_oI16, m_pI16, ↓m_oI17, m_pI17, m_pZ5, m_pZ12, ↓m_oR1, m_aI1, m_sI1, ↓m_oR2, m_aI2, m_sI2, ↓m_oR4, m_aI4, m_sI4, ↓m_oR6, m_aI6, m_sI6, ↓m_oR8, m_aI8, m_sI8, ↓m_oR9, m_aI9, m_sI9, ↓m_oR10, m_aI10, m_sI10, X7_sits_b hz hx, b2_f h1, h1, X7_sitter_c hz, h2]
theorem X7_noSeat_c {β : Type} {K : Int32 → HM β} {g : Nat → Nat} {h : Nat → Option hC} {n w m : Nat} {M : Mm} {x t c : Int} (hz : wZ (M 1)) (hx : 0 ≤ x ∧ x < M 1 60) (ht : 0 ≤ t ∧ t < M 1 15) (hc : 0 ≤ c ∧ c < 8) : mb (mcall0 (fX7_noSeat g (some m) (iv x) (iv t) (iv c))) K (md m M h, n, w) = K (iv (nse (M 1) x t c)) (md m M h, n, w) := e_call0 (X7_noSeat_ev hz hx ht hc)
theorem nse_rg {z : Int → Int} {g t c : Int} : 0 ≤ nse z g t c ∧ nse z g t c ≤ 3 := by
  unfold nse
  split
  · omega
  · split
    · split <;> omega
    · omega
theorem nsw_rg {z : Int → Int} {g t : Int} : 0 ≤ nsw z g t ∧ nsw z g t ≤ 3 := by
  unfold nsw
  split
  · split
    · omega
    · split <;> omega
  · omega
theorem X7_noSwap_ev {g : Nat → Nat} {h : Nat → Option hC} {n w m : Nat} {M : Mm} {x y : Int} (hz : wZ (M 1)) (hx : 0 ≤ x ∧ x < M 1 60) (hy : 0 ≤ y ∧ y < M 1 60) : fX7_noSwap g (some m) (iv x) (iv y) (md m M h, n, w) = some (iv (nsw (M 1) x y), (md m M h, n, w)) := by
  have h60 := wZ_60 hz
  have h15 := wZ_15 hz
  have hg := wZ_graw hz hx
  have hg2 := wZ_graw hz hy
  have hwd := wid_rg (z := M 1) (g := x) (by unfold gl; omega)
  have hwd2 := wid_rg (z := M 1) (g := y) (by unfold gl; omega)
  unfold fX7_noSwap nsw
  by_cases h1 : sits (M 1) x
  · by_cases h2 : sits (M 1) y
    · by_cases h3 : x = y
      · simp (disch := omega) only [↓reduceIte, Int.reduceEq, Int.reduceNe, Int.reduceLT, Int.reduceLE, Int.reduceNeg, Int.reduceMod, Int.reduceDiv, Int.reduceAdd, Int.reduceSub, Int.reduceMul, not_true_eq_false, not_false_eq_true, true_or, or_true, false_or, or_false, true_and, and_true, false_and, and_false, b2_T, b2_F, if_true, if_false, ↓mjn_b, ↓mjn0_b, ↓mjn2_b, iv_lit, iv_add, iv_sub, iv_mul, iv_neg, iv_le_t, iv_le_f, iv_lt_t, iv_lt_f, iv_eq_t, iv_eq_f, iv_div, iv_mod, mretT_p, mretT_b, e_mret, ↓e_bret, ↓m_mon, ↓m_oI0, m_pI0, ↓m_oI3, m_pI3, ↓m_oI5, m_pI5, ↓m_oI7, m_pI7, ↓m_oI11, m_pI11, ↓m_oI12, m_pI12, ↓m_oI13, m_pI13, ↓m_oI14, m_pI14, ↓m_oI15, m_pI15, ↓m_oI16, m_pI16, ↓m_oI17, m_pI17, m_pZ5, m_pZ12, ↓m_oR1, m_aI1, m_sI1, ↓m_oR2, m_aI2, m_sI2, ↓m_oR4, m_aI4, m_sI4, ↓m_oR6, m_aI6, m_sI6, ↓m_oR8, m_aI8, m_sI8, ↓m_oR9, m_aI9, m_sI9, ↓m_oR10, m_aI10, m_sI10, X7_sits_b hz hx, X7_sits_b hz hy, b2_t h1, b2_t h2, h1, h2, h3]
      · have ha := (sits_at hz hx h1).1
        have hb := (sits_at hz hy h2).1
        have hwa := wZ_traw hz ha
        have hwb := wZ_traw hz hb
        have hca := caN_rg (zk (M 1) (ga (M 1) x))
        have hcb := caN_rg (zk (M 1) (ga (M 1) y))
        unfold ga at ha hb hwa hwb hca hcb ⊢
        unfold zk at hca hcb ⊢
        by_cases h4 : wid (M 1) x ≤ caN (M 1 (16 + 4 * M 1 (61 + 18 * y + 1) + 0))
        · by_cases h5 : wid (M 1) y ≤ caN (M 1 (16 + 4 * M 1 (61 + 18 * x + 1) + 0))
          · simp (disch := omega) only [↓reduceIte, Int.reduceEq, Int.reduceNe, Int.reduceLT, Int.reduceLE, Int.reduceNeg, Int.reduceMod, Int.reduceDiv, Int.reduceAdd, Int.reduceSub, Int.reduceMul, not_true_eq_false, not_false_eq_true, true_or, or_true, false_or, or_false, true_and, and_true, false_and, and_false, b2_T, b2_F, if_true, if_false, ↓mjn_b, ↓mjn0_b, ↓mjn2_b, iv_lit, iv_add, iv_sub, iv_mul, iv_neg, iv_le_t, iv_le_f, iv_lt_t, iv_lt_f, iv_eq_t, iv_eq_f, iv_div, iv_mod, mretT_p, mretT_b, e_mret, ↓e_bret, ↓m_mon, ↓m_oI0, m_pI0, ↓m_oI3, m_pI3, ↓m_oI5, m_pI5, ↓m_oI7, m_pI7, ↓m_oI11, m_pI11, ↓m_oI12, m_pI12, ↓m_oI13, m_pI13, ↓m_oI14, m_pI14, ↓m_oI15, m_pI15, ↓m_oI16, m_pI16, ↓m_oI17, m_pI17, m_pZ5, m_pZ12, ↓m_oR1, m_aI1, m_sI1, ↓m_oR2, m_aI2, m_sI2, ↓m_oR4, m_aI4, m_sI4, ↓m_oR6, m_aI6, m_sI6, ↓m_oR8, m_aI8, m_sI8, ↓m_oR9, m_aI9, m_sI9, ↓m_oR10, m_aI10, m_sI10, X7_sits_b hz hx, X7_sits_b hz hy, b2_t h1, b2_t h2, h1, h2, h3, X7_width_c hz hx, X7_width_c hz hy, X7_table_c, X7_card_c, X7_guest_c, h4, h5]
          · simp (disch := omega) only [↓reduceIte, Int.reduceEq, Int.reduceNe, Int.reduceLT, Int.reduceLE, Int.reduceNeg, Int.reduceMod, Int.reduceDiv, Int.reduceAdd, Int.reduceSub, Int.reduceMul, not_true_eq_false, not_false_eq_true, true_or, or_true, false_or, or_false, true_and, and_true, false_and, and_false, b2_T, b2_F, if_true, if_false, ↓mjn_b, ↓mjn0_b, ↓mjn2_b, iv_lit, iv_add, iv_sub, iv_mul, iv_neg, iv_le_t, iv_le_f, iv_lt_t, iv_lt_f, iv_eq_t, iv_eq_f, iv_div, iv_mod, mretT_p, mretT_b, e_mret, ↓e_bret, ↓m_mon, ↓m_oI0, m_pI0, ↓m_oI3, m_pI3, ↓m_oI5, m_pI5, ↓m_oI7, m_pI7, ↓m_oI11, m_pI11, ↓m_oI12, m_pI12, ↓m_oI13, m_pI13, ↓m_oI14, m_pI14, ↓m_oI15, m_pI15, ↓m_oI16, m_pI16, ↓m_oI17, m_pI17, m_pZ5, m_pZ12, ↓m_oR1, m_aI1, m_sI1, ↓m_oR2, m_aI2, m_sI2, ↓m_oR4, m_aI4, m_sI4, ↓m_oR6, m_aI6, m_sI6, ↓m_oR8, m_aI8, m_sI8, ↓m_oR9, m_aI9, m_sI9, ↓m_oR10, m_aI10, m_sI10, X7_sits_b hz hx, X7_sits_b hz hy, b2_t h1, b2_t h2, h1, h2, h3, X7_width_c hz hx, X7_width_c hz hy, X7_table_c, X7_card_c, X7_guest_c, h4, h5]
        · simp (disch := omega) only [↓reduceIte, Int.reduceEq, Int.reduceNe, Int.reduceLT, Int.reduceLE, Int.reduceNeg, Int.reduceMod, Int.reduceDiv, Int.reduceAdd, Int.reduceSub, Int.reduceMul, not_true_eq_false, not_false_eq_true, true_or, or_true, false_or, or_false, true_and, and_true, false_and, and_false, b2_T, b2_F, if_true, if_false, ↓mjn_b, ↓mjn0_b, ↓mjn2_b, iv_lit, iv_add, iv_sub, iv_mul, iv_neg, iv_le_t, iv_le_f, iv_lt_t, iv_lt_f, iv_eq_t, iv_eq_f, iv_div, iv_mod, mretT_p, mretT_b, e_mret, ↓e_bret, ↓m_mon, ↓m_oI0, m_pI0, ↓m_oI3, m_pI3, ↓m_oI5, m_pI5, ↓m_oI7, m_pI7, ↓m_oI11, m_pI11, ↓m_oI12, m_pI12, ↓m_oI13, m_pI13, ↓m_oI14, m_pI14, ↓m_oI15, m_pI15, ↓m_oI16, m_pI16, ↓m_oI17, m_pI17, m_pZ5, m_pZ12, ↓m_oR1, m_aI1, m_sI1, ↓m_oR2, m_aI2, m_sI2, ↓m_oR4, m_aI4, m_sI4, ↓m_oR6, m_aI6, m_sI6, ↓m_oR8, m_aI8, m_sI8, ↓m_oR9, m_aI9, m_sI9, ↓m_oR10, m_aI10, m_sI10, X7_sits_b hz hx, X7_sits_b hz hy, b2_t h1, b2_t h2, h1, h2, h3, X7_width_c hz hx, X7_table_c, X7_card_c, X7_guest_c, h4]
    · simp (disch := omega) only [↓reduceIte, Int.reduceEq, Int.reduceNe, Int.reduceLT, Int.reduceLE, Int.reduceNeg, Int.reduceMod, Int.reduceDiv, Int.reduceAdd, Int.reduceSub, Int.reduceMul, not_true_eq_false, not_false_eq_true, true_or, or_true, false_or, or_false, true_and, and_true, false_and, and_false, b2_T, b2_F, if_true, if_false, ↓mjn_b, ↓mjn0_b, ↓mjn2_b, iv_lit, iv_add, iv_sub, iv_mul, iv_neg, iv_le_t, iv_le_f, iv_lt_t, iv_lt_f, iv_eq_t, iv_eq_f, iv_div, iv_mod, mretT_p, mretT_b, e_mret, ↓e_bret, ↓m_mon, ↓m_oI0, m_pI0, ↓m_oI3, m_pI3, ↓m_oI5, m_pI5, ↓m_oI7, m_pI7, ↓m_oI11, m_pI11, ↓m_oI12, m_pI12, ↓m_oI13, m_pI13, ↓m_oI14, m_pI14, ↓m_oI15, m_pI15, ↓m_oI16, m_pI16, ↓m_oI17, m_pI17, m_pZ5, m_pZ12, ↓m_oR1, m_aI1, m_sI1, ↓m_oR2, m_aI2, m_sI2, ↓m_oR4, m_aI4, m_sI4, ↓m_oR6, m_aI6, m_sI6, ↓m_oR8, m_aI8, m_sI8, ↓m_oR9, m_aI9, m_sI9, ↓m_oR10, m_aI10, m_sI10, X7_sits_b hz hx, X7_sits_b hz hy, b2_t h1, b2_f h2, h1, h2]
  · simp (disch := omega) only [↓reduceIte, Int.reduceEq, Int.reduceNe, Int.reduceLT, Int.reduceLE, Int.reduceNeg, Int.reduceMod, Int.reduceDiv, Int.reduceAdd, Int.reduceSub, Int.reduceMul, not_true_eq_false, not_false_eq_true, true_or, or_true, false_or, or_false, true_and, and_true, false_and, and_false, b2_T, b2_F, if_true, if_false, ↓mjn_b, ↓mjn0_b, ↓mjn2_b, iv_lit, iv_add, iv_sub, iv_mul, iv_neg, iv_le_t, iv_le_f, iv_lt_t, iv_lt_f, iv_eq_t, iv_eq_f, iv_div, iv_mod, mretT_p, mretT_b, e_mret, ↓e_bret, ↓m_mon, ↓m_oI0, m_pI0, ↓m_oI3, m_pI3, ↓m_oI5, m_pI5, ↓m_oI7, m_pI7, ↓m_oI11, m_pI11, ↓m_oI12, m_pI12, ↓m_oI13, m_pI13, ↓m_oI14, m_pI14, ↓m_oI15, m_pI15, ↓m_oI16, m_pI16, ↓m_oI17, m_pI17, m_pZ5, m_pZ12, ↓m_oR1, m_aI1, m_sI1, ↓m_oR2, m_aI2, m_sI2, ↓m_oR4, m_aI4, m_sI4, ↓m_oR6, m_aI6, m_sI6, ↓m_oR8, m_aI8, m_sI8, ↓m_oR9, m_aI9, m_sI9, ↓m_oR10, m_aI10, m_sI10, X7_sits_b hz hx, b2_f h1, h1]
theorem X7_noSwap_c {β : Type} {K : Int32 → HM β} {g : Nat → Nat} {h : Nat → Option hC} {n w m : Nat} {M : Mm} {x y : Int} (hz : wZ (M 1)) (hx : 0 ≤ x ∧ x < M 1 60) (hy : 0 ≤ y ∧ y < M 1 60) : mb (mcall0 (fX7_noSwap g (some m) (iv x) (iv y))) K (md m M h, n, w) = K (iv (nsw (M 1) x y)) (md m M h, n, w) := e_call0 (X7_noSwap_ev hz hx hy)
theorem X7_put_ev {g : Nat → Nat} {h : Nat → Option hC} {n w m : Nat} {M : Mm} {x t c : Int} (hx : 0 ≤ x ∧ x < 30) : fX7_put g (some m) (iv x) (iv t) (iv c) (md m M h, n, w) = some ((), (md m (mu (mu M 1 (61 + 18 * x + 1) t) 1 (61 + 18 * x + 2) c) h, n, w)) := by
  unfold fX7_put
  simp (disch := omega) only [↓reduceIte, Int.reduceEq, Int.reduceNe, Int.reduceLT, Int.reduceLE, Int.reduceNeg, Int.reduceMod, Int.reduceDiv, Int.reduceAdd, Int.reduceSub, Int.reduceMul, not_true_eq_false, not_false_eq_true, true_or, or_true, false_or, or_false, true_and, and_true, false_and, and_false, b2_T, b2_F, if_true, if_false, ↓mjn_b, ↓mjn0_b, ↓mjn2_b, iv_lit, iv_add, iv_sub, iv_mul, iv_neg, iv_le_t, iv_le_f, iv_lt_t, iv_lt_f, iv_eq_t, iv_eq_f, iv_div, iv_mod, mretT_p, mretT_b, e_mret, ↓e_bret, ↓m_mon, ↓m_oI0, m_pI0, ↓m_oI3, m_pI3, ↓m_oI5, m_pI5, ↓m_oI7, m_pI7, ↓m_oI11, m_pI11, ↓m_oI12, m_pI12, ↓m_oI13, m_pI13, ↓m_oI14, m_pI14, ↓m_oI15, m_pI15, ↓m_oI16, m_pI16, ↓m_oI17, m_pI17, m_pZ5, m_pZ12, ↓m_oR1, m_aI1, m_sI1, ↓m_oR2, m_aI2, m_sI2, ↓m_oR4, m_aI4, m_sI4, ↓m_oR6, m_aI6, m_sI6, ↓m_oR8, m_aI8, m_sI8, ↓m_oR9, m_aI9, m_sI9, ↓m_oR10, m_aI10, m_sI10, X7_setGuest_c]
theorem mu_put {M : Mm} {x t c : Int} : (mu (mu M 1 (61 + 18 * x + 1) t) 1 (61 + 18 * x + 2) c) 1 = zput (M 1) x t c := by rw [mu_iu, mu_iu]; rfl
theorem X7_swaps_ev {g : Nat → Nat} {h : Nat → Option hC} {n w m : Nat} {M : Mm} {x y : Int} (hx : 0 ≤ x ∧ x < 30) (hy : 0 ≤ y ∧ y < 30) : ∃ (M' : Mm), fX7_swaps g (some m) (iv x) (iv y) (md m M h, n, w) = some ((), (md m M' h, n, w)) ∧ (∀ b, b ≠ 1 → M' b = M b) ∧ M' 1 = zswp (M 1) x y := by
  refine ⟨mu (mu (mu (mu M 1 (61 + 18 * x + 1) (ga (M 1) y)) 1 (61 + 18 * x + 2) (gc (M 1) y)) 1 (61 + 18 * y + 1) (ga (M 1) x)) 1 (61 + 18 * y + 2) (gc (M 1) x), ?_, fun b b1 => by rw [mu_ob b1, mu_ob b1, mu_ob b1, mu_ob b1], by rw [mu_put, mu_put]; rfl⟩
  have e1 := fun (M : Mm) (u t c : Int) => X7_put_ev (g := g) (h := h) (n := n) (w := 0) (m := m) (M := M) (x := x) (t := t) (c := c) hx
  have e2 := fun (M : Mm) (u t c : Int) => X7_put_ev (g := g) (h := h) (n := n) (w := 0) (m := m) (M := M) (x := y) (t := t) (c := c) hy
  unfold fX7_swaps ga gc
  simp (disch := omega) only [iv_lit, ↓m_mon, X7_guest_c]
  rw [e_call0 (e1 M 0 _ _), m_mon, e_call0 (e2 _ 0 _ _)]
  rfl
/-- a table taken away -/
def zrem (z : Int → Int) (t : Int) : Int → Int := fun i => if i = 15 then z 15 - 1 else if 16 + 4 * t ≤ i ∧ i < 16 + 4 * (z 15 - 1) then z (i + 4) else if (61 ≤ i ∧ i < 61 + 18 * z 60) ∧ (i - 61) % 18 = 1 then (if t < z i then z i - 1 else z i) else z i
/-- the tables behind it move up -/
theorem X7_removeTable_L60_ev {g : Nat → Nat} {h : Nat → Option hC} {n w m : Nat} {K : HM Int32} {t s : Int} (hs : 0 ≤ s ∧ s ≤ 9) : ∀ (k nn : Nat) (M : Mm) (i : Int), k < nn → 16 ≤ i → i + k = 16 + 4 * s → M 1 15 = s → fX7_removeTable_L60 g nn (some m) (iv t) (iv i) K (md m M h, n, w) = K (md m (cpy M 1 i (16 + 4 * s) (fun j => M 1 (j + 4))) h, n, w) := by
  intro k
  induction k with
  | zero =>
    intro nn M i hn hi he hM
    obtain ⟨q, rfl⟩ : ∃ q, nn = q + 1 := ⟨nn - 1, by omega⟩
    rw [cpy_nil (by omega)]
    simp (disch := omega) only [↓reduceIte, Int.reduceEq, Int.reduceNe, Int.reduceLT, Int.reduceLE, Int.reduceNeg, Int.reduceMod, Int.reduceDiv, Int.reduceAdd, Int.reduceSub, Int.reduceMul, not_true_eq_false, not_false_eq_true, true_or, or_true, false_or, or_false, true_and, and_true, false_and, and_false, b2_T, b2_F, if_true, if_false, ↓mjn_b, ↓mjn0_b, ↓mjn2_b, iv_lit, iv_add, iv_sub, iv_mul, iv_neg, iv_le_t, iv_le_f, iv_lt_t, iv_lt_f, iv_eq_t, iv_eq_f, iv_div, iv_mod, mretT_p, mretT_b, e_mret, ↓e_bret, ↓m_mon, ↓m_oI0, m_pI0, ↓m_oI3, m_pI3, ↓m_oI5, m_pI5, ↓m_oI7, m_pI7, ↓m_oI11, m_pI11, ↓m_oI12, m_pI12, ↓m_oI13, m_pI13, ↓m_oI14, m_pI14, ↓m_oI15, m_pI15, ↓m_oI16, m_pI16, ↓m_oI17, m_pI17, m_pZ5, m_pZ12, ↓m_oR1, m_aI1, m_sI1, ↓m_oR2, m_aI2, m_sI2, ↓m_oR4, m_aI4, m_sI4, ↓m_oR6, m_aI6, m_sI6, ↓m_oR8, m_aI8, m_sI8, ↓m_oR9, m_aI9, m_sI9, ↓m_oR10, m_aI10, m_sI10, fX7_removeTable_L60, hM]
  | succ k ih =>
    intro nn M i hn hi he hM
    obtain ⟨q, rfl⟩ : ∃ q, nn = q + 1 := ⟨nn - 1, by omega⟩
    have hstep : cpy (mu M 1 i (M 1 (i + 4))) 1 (i + 1) (16 + 4 * s) (fun j => (mu M 1 i (M 1 (i + 4))) 1 (j + 4)) = cpy M 1 i (16 + 4 * s) (fun j => M 1 (j + 4)) := cpy_cons (by omega) rfl rfl (fun j a b => mu_ni (by omega))
    rw [← hstep, ← ih q (mu M 1 i (M 1 (i + 4))) (i + 1) (by omega) (by omega) (by omega) (by rw [mu_ni (by omega)]; exact hM)]
    simp (disch := omega) only [↓reduceIte, Int.reduceEq, Int.reduceNe, Int.reduceLT, Int.reduceLE, Int.reduceNeg, Int.reduceMod, Int.reduceDiv, Int.reduceAdd, Int.reduceSub, Int.reduceMul, not_true_eq_false, not_false_eq_true, true_or, or_true, false_or, or_false, true_and, and_true, false_and, and_false, b2_T, b2_F, if_true, if_false, ↓mjn_b, ↓mjn0_b, ↓mjn2_b, iv_lit, iv_add, iv_sub, iv_mul, iv_neg, iv_le_t, iv_le_f, iv_lt_t, iv_lt_f, iv_eq_t, iv_eq_f, iv_div, iv_mod, mretT_p, mretT_b, e_mret, ↓e_bret, ↓m_mon, ↓m_oI0, m_pI0, ↓m_oI3, m_pI3, ↓m_oI5, m_pI5, ↓m_oI7, m_pI7, ↓m_oI11, m_pI11, ↓m_oI12, m_pI12, ↓m_oI13, m_pI13, ↓m_oI14, m_pI14, ↓m_oI15, m_pI15, ↓m_oI16, m_pI16, ↓m_oI17, m_pI17, m_pZ5, m_pZ12, ↓m_oR1, m_aI1, m_sI1, ↓m_oR2, m_aI2, m_sI2, ↓m_oR4, m_aI4, m_sI4, ↓m_oR6, m_aI6, m_sI6, ↓m_oR8, m_aI8, m_sI8, ↓m_oR9, m_aI9, m_sI9, ↓m_oR10, m_aI10, m_sI10, fX7_removeTable_L60, hM]
def dec (t v : Int) : Int := if t < v then v - 1 else v
def gdec (M : Mm) (t lo hi : Int) : Mm := fun b j => if b = 1 ∧ (61 + 18 * lo ≤ j ∧ j < 61 + 18 * hi) ∧ (j - 61) % 18 = 1 then dec t (M 1 j) else M b j
theorem gdec_nil {M : Mm} {t lo hi : Int} (h : hi ≤ lo) : gdec M t lo hi = M := by
  funext b j
  exact if_neg (fun q => by omega)
theorem gdec_cons {M : Mm} {t lo hi : Int} (h : lo < hi) : gdec (mu M 1 (61 + 18 * lo + 1) (dec t (M 1 (61 + 18 * lo + 1)))) t (lo + 1) hi = gdec M t lo hi := by
  funext b j
  unfold gdec
  by_cases hb : b = 1
  · by_cases h1 : (61 + 18 * (lo + 1) ≤ j ∧ j < 61 + 18 * hi) ∧ (j - 61) % 18 = 1
    · rw [if_pos ⟨hb, h1⟩, if_pos ⟨hb, by omega, h1.2⟩, mu_ni (by omega)]
    · rw [if_neg (fun q => h1 q.2)]
      by_cases h2 : j = 61 + 18 * lo + 1
      · rw [if_pos ⟨hb, by omega, by omega⟩, hb, h2, mu_eq]
      · rw [if_neg (fun q => by omega), mu_ni h2]
  · rw [if_neg (fun q => hb q.1), if_neg (fun q => hb q.1), mu_nb hb]
theorem gdec_ob {M : Mm} {t lo hi : Int} {b : Nat} (h : b ≠ 1) : gdec M t lo hi b = M b := by
  funext j
  exact if_neg (fun q => h q.1)
theorem X7_removeTable_L98_ev {g : Nat → Nat} {h : Nat → Option hC} {n w m : Nat} {K : HM Int32} {t ng : Int} (ht : 0 ≤ t ∧ t ≤ 10) (hn : 0 ≤ ng ∧ ng ≤ 30) : ∀ (k nn : Nat) (M : Mm) (i : Int), k < nn → 0 ≤ i → i + k = ng → M 1 60 = ng → (∀ x, 0 ≤ x → x < ng → -1 ≤ M 1 (61 + 18 * x + 1) ∧ M 1 (61 + 18 * x + 1) ≤ 10) →
    fX7_removeTable_L98 g nn (some m) (iv t) (iv i) K (md m M h, n, w) = K (md m (gdec M t i ng) h, n, w) := by
  intro k
  induction k with
  | zero =>
    intro nn M i hnn hi he hM hr
    obtain ⟨q, rfl⟩ : ∃ q, nn = q + 1 := ⟨nn - 1, by omega⟩
    rw [gdec_nil (by omega)]
    simp (disch := omega) only [↓reduceIte, Int.reduceEq, Int.reduceNe, Int.reduceLT, Int.reduceLE, Int.reduceNeg, Int.reduceMod, Int.reduceDiv, Int.reduceAdd, Int.reduceSub, Int.reduceMul, not_true_eq_false, not_false_eq_true, true_or, or_true, false_or, or_false, true_and, and_true, false_and, and_false, b2_T, b2_F, if_true, if_false, ↓mjn_b, ↓mjn0_b, ↓mjn2_b, iv_lit, iv_add, iv_sub, iv_mul, iv_neg, iv_le_t, iv_le_f, iv_lt_t, iv_lt_f, iv_eq_t, iv_eq_f, iv_div, iv_mod, mretT_p, mretT_b, e_mret, ↓e_bret, ↓m_mon, ↓m_oI0, m_pI0, ↓m_oI3, m_pI3, ↓m_oI5, m_pI5, ↓m_oI7, m_pI7, ↓m_oI11, m_pI11, ↓m_oI12, m_pI12, ↓m_oI13, m_pI13, ↓m_oI14, m_pI14, ↓m_oI15, m_pI15, ↓m_oI16, m_pI16, ↓m_oI17, m_pI17, m_pZ5, m_pZ12, ↓m_oR1, m_aI1, m_sI1, ↓m_oR2, m_aI2, m_sI2, ↓m_oR4, m_aI4, m_sI4, ↓m_oR6, m_aI6, m_sI6, ↓m_oR8, m_aI8, m_sI8, ↓m_oR9, m_aI9, m_sI9, ↓m_oR10, m_aI10, m_sI10, fX7_removeTable_L98, hM]
  | succ k ih =>
    intro nn M i hnn hi he hM hr
    obtain ⟨q, rfl⟩ : ∃ q, nn = q + 1 := ⟨nn - 1, by omega⟩
    have hri := hr i hi (by omega)
    rw [← gdec_cons (by omega)]
    rw [← ih q (mu M 1 (61 + 18 * i + 1) (dec t (M 1 (61 + 18 * i + 1)))) (i + 1) (by omega) (by omega) (by omega) (by rw [mu_ni (by omega)]; exact hM) (fun x a b => by
        by_cases e : x = i
        · subst e
          rw [mu_eq]
          unfold dec
          split <;> omega
        · rw [mu_ni (by omega)]; exact hr x a b)]
    unfold dec
    by_cases h1 : M 1 (61 + 18 * i + 1) ≤ t
    · rw [if_neg (show ¬ t < M 1 (61 + 18 * i + 1) by omega)]
      simp (disch := omega) only [↓reduceIte, Int.reduceEq, Int.reduceNe, Int.reduceLT, Int.reduceLE, Int.reduceNeg, Int.reduceMod, Int.reduceDiv, Int.reduceAdd, Int.reduceSub, Int.reduceMul, not_true_eq_false, not_false_eq_true, true_or, or_true, false_or, or_false, true_and, and_true, false_and, and_false, b2_T, b2_F, if_true, if_false, ↓mjn_b, ↓mjn0_b, ↓mjn2_b, iv_lit, iv_add, iv_sub, iv_mul, iv_neg, iv_le_t, iv_le_f, iv_lt_t, iv_lt_f, iv_eq_t, iv_eq_f, iv_div, iv_mod, mretT_p, mretT_b, e_mret, ↓e_bret, ↓m_mon, ↓m_oI0, m_pI0, ↓m_oI3, m_pI3, ↓m_oI5, m_pI5, ↓m_oI7, m_pI7, ↓m_oI11, m_pI11, ↓m_oI12, m_pI12, ↓m_oI13, m_pI13, ↓m_oI14, m_pI14, ↓m_oI15, m_pI15, ↓m_oI16, m_pI16, ↓m_oI17, m_pI17, m_pZ5, m_pZ12, ↓m_oR1, m_aI1, m_sI1, ↓m_oR2, m_aI2, m_sI2, ↓m_oR4, m_aI4, m_sI4, ↓m_oR6, m_aI6, m_sI6, ↓m_oR8, m_aI8, m_sI8, ↓m_oR9, m_aI9, m_sI9, ↓m_oR10, m_aI10, m_sI10, fX7_removeTable_L98, hM, X7_guest_c, X7_setGuest_c]
    · rw [if_pos (show t < M 1 (61 + 18 * i + 1) by omega)]
      simp (disch := omega) only [↓reduceIte, Int.reduceEq, Int.reduceNe, Int.reduceLT, Int.reduceLE, Int.reduceNeg, Int.reduceMod, Int.reduceDiv, Int.reduceAdd, Int.reduceSub, Int.reduceMul, not_true_eq_false, not_false_eq_true, true_or, or_true, false_or, or_false, true_and, and_true, false_and, and_false, b2_T, b2_F, if_true, if_false, ↓mjn_b, ↓mjn0_b, ↓mjn2_b, iv_lit, iv_add, iv_sub, iv_mul, iv_neg, iv_le_t, iv_le_f, iv_lt_t, iv_lt_f, iv_eq_t, iv_eq_f, iv_div, iv_mod, mretT_p, mretT_b, e_mret, ↓e_bret, ↓m_mon, ↓m_oI0, m_pI0, ↓m_oI3, m_pI3, ↓m_oI5, m_pI5, ↓m_oI7, m_pI7, ↓m_oI11, m_pI11, ↓m_oI12, m_pI12, ↓m_oI13, m_pI13, ↓m_oI14, m_pI14, ↓m_oI15, m_pI15, ↓m_oI16, m_pI16, ↓m_oI17, m_pI17, m_pZ5, m_pZ12, ↓m_oR1, m_aI1, m_sI1, ↓m_oR2, m_aI2, m_sI2, ↓m_oR4, m_aI4, m_sI4, ↓m_oR6, m_aI6, m_sI6, ↓m_oR8, m_aI8, m_sI8, ↓m_oR9, m_aI9, m_sI9, ↓m_oR10, m_aI10, m_sI10, fX7_removeTable_L98, hM, X7_guest_c, X7_setGuest_c]
