/-! ===== the model: its history ===== -/
/-- a run of a bank copied -/
def cpy (M : Mm) (b : Nat) (lo hi : Int) (f : Int → Int) : Mm := fun b' j => if b' = b ∧ lo ≤ j ∧ j < hi then f j else M b' j
theorem cpy_nil {M : Mm} {b : Nat} {lo hi : Int} {f : Int → Int} (h : hi ≤ lo) : cpy M b lo hi f = M := by
  funext b' j
  unfold cpy
  exact if_neg (fun q => by omega)
theorem cpy_cons {M : Mm} {b : Nat} {lo lo' hi : Int} {f f' : Int → Int} {x : Int} (h : lo < hi) (hl : lo' = lo + 1) (hx : x = f lo) (hf : ∀ j, lo < j → j < hi → f' j = f j) : cpy (mu M b lo x) b lo' hi f' = cpy M b lo hi f := by
  subst hl hx
  funext b' j
  unfold cpy mu
  by_cases hb : b' = b
  · subst hb
    by_cases h1 : lo + 1 ≤ j ∧ j < hi
    · rw [if_pos ⟨rfl, h1⟩, if_pos ⟨rfl, by omega, by omega⟩, hf j (by omega) (by omega)]
    · rw [if_neg (fun q => h1 q.2)]
      by_cases h2 : j = lo
      · subst h2
        rw [if_pos ⟨rfl, rfl⟩, if_pos ⟨rfl, by omega, by omega⟩]
      · rw [if_neg (fun q => h2 q.2), if_neg (fun q => by omega)]
  · rw [if_neg (fun q => hb q.1), if_neg (fun q => hb q.1), if_neg (fun q => hb q.1)]
theorem cpy_ob {M : Mm} {b c : Nat} {lo hi : Int} {f : Int → Int} (h : c ≠ b) : cpy M b lo hi f c = M c := by
  funext j
  exact if_neg (fun q => h q.1)
theorem cpy_at {M : Mm} {b : Nat} {lo hi j : Int} {f : Int → Int} (h : lo ≤ j ∧ j < hi) : cpy M b lo hi f b j = f j := if_pos ⟨rfl, h⟩
theorem cpy_out {M : Mm} {b : Nat} {lo hi j : Int} {f : Int → Int} (h : ¬ (lo ≤ j ∧ j < hi)) : cpy M b lo hi f b j = M b j := if_neg (fun q => h q.2)

theorem X7_takeSnapshot_L7_ev {g : Nat → Nat} {h : Nat → Option hC} {n w m : Nat} {K : HM Int32} {s : Int} : ∀ (k nn : Nat) (M : Mm) (i : Int), k < nn → 0 ≤ i → i + k = 631 → fX7_takeSnapshot_L7 g nn (some m) (iv i) K (md m M h, n, w) = K (md m (cpy M 4 (i) (631) (fun j => M 1 j)) h, n, w) := by
  intro k
  induction k with
  | zero =>
    intro nn M i hn hi he 
    obtain ⟨q, rfl⟩ : ∃ q, nn = q + 1 := ⟨nn - 1, by omega⟩
    rw [cpy_nil (by omega)]
    simp (disch := omega) only [↓reduceIte, Int.reduceEq, Int.reduceNe, Int.reduceLT, Int.reduceLE, Int.reduceNeg, Int.reduceMod, Int.reduceDiv, Int.reduceAdd, Int.reduceSub, Int.reduceMul, not_true_eq_false, not_false_eq_true, true_or, or_true, false_or, or_false, true_and, and_true, false_and, and_false, b2_T, b2_F, if_true, if_false, ↓mjn_b, ↓mjn0_b, ↓mjn2_b, iv_lit, iv_add, iv_sub, iv_mul, iv_neg, iv_le_t, iv_le_f, iv_lt_t, iv_lt_f, iv_eq_t, iv_eq_f, iv_div, iv_mod, mretT_p, mretT_b, e_mret, ↓e_bret, ↓m_mon, ↓m_oI0, m_pI0, ↓m_oI3, m_pI3, ↓m_oI5, m_pI5, ↓m_oI7, m_pI7, ↓m_oI11, m_pI11, ↓m_oI12, m_pI12, ↓m_oI13, m_pI13, ↓m_oI14, m_pI14, ↓m_oI15, m_pI15, ↓m_oI16, m_pI16, ↓m_oI17, m_pI17, m_pZ5, m_pZ12, ↓m_oR1, m_aI1, m_sI1, ↓m_oR2, m_aI2, m_sI2, ↓m_oR4, m_aI4, m_sI4, ↓m_oR6, m_aI6, m_sI6, ↓m_oR8, m_aI8, m_sI8, ↓m_oR9, m_aI9, m_sI9, ↓m_oR10, m_aI10, m_sI10, fX7_takeSnapshot_L7]
  | succ k ih =>
    intro nn M i hn hi he 
    obtain ⟨q, rfl⟩ : ∃ q, nn = q + 1 := ⟨nn - 1, by omega⟩
    have hstep : ∀ x, x = (fun j => M 1 j) (i) → cpy (mu M 4 (i) x) 4 ((i + 1)) (631) (fun j => (mu M 4 (i) x) 1 j) = cpy M 4 (i) (631) (fun j => M 1 j) := fun x hx => cpy_cons (by omega) (by omega) hx (fun j a b => mu_nb (by decide))
    rw [← hstep _ rfl]
    have hi2 : ∀ x, fX7_takeSnapshot_L7 g q (some m) (iv (i + 1)) K (md m (mu M 4 (i) x) h, n, w) = K (md m (cpy (mu M 4 (i) x) 4 ((i + 1)) (631) (fun j => (mu M 4 (i) x) 1 j)) h, n, w) := fun x => ih q (mu M 4 (i) x) (i + 1) (by omega) (by omega) (by omega)
    rw [← hi2]
    simp (disch := omega) only [↓reduceIte, Int.reduceEq, Int.reduceNe, Int.reduceLT, Int.reduceLE, Int.reduceNeg, Int.reduceMod, Int.reduceDiv, Int.reduceAdd, Int.reduceSub, Int.reduceMul, not_true_eq_false, not_false_eq_true, true_or, or_true, false_or, or_false, true_and, and_true, false_and, and_false, b2_T, b2_F, if_true, if_false, ↓mjn_b, ↓mjn0_b, ↓mjn2_b, iv_lit, iv_add, iv_sub, iv_mul, iv_neg, iv_le_t, iv_le_f, iv_lt_t, iv_lt_f, iv_eq_t, iv_eq_f, iv_div, iv_mod, mretT_p, mretT_b, e_mret, ↓e_bret, ↓m_mon, ↓m_oI0, m_pI0, ↓m_oI3, m_pI3, ↓m_oI5, m_pI5, ↓m_oI7, m_pI7, ↓m_oI11, m_pI11, ↓m_oI12, m_pI12, ↓m_oI13, m_pI13, ↓m_oI14, m_pI14, ↓m_oI15, m_pI15, ↓m_oI16, m_pI16, ↓m_oI17, m_pI17, m_pZ5, m_pZ12, ↓m_oR1, m_aI1, m_sI1, ↓m_oR2, m_aI2, m_sI2, ↓m_oR4, m_aI4, m_sI4, ↓m_oR6, m_aI6, m_sI6, ↓m_oR8, m_aI8, m_sI8, ↓m_oR9, m_aI9, m_sI9, ↓m_oR10, m_aI10, m_sI10, fX7_takeSnapshot_L7]
theorem X7_restoreSnapshot_L31_ev {g : Nat → Nat} {h : Nat → Option hC} {n w m : Nat} {K : HM Int32} {s : Int} : ∀ (k nn : Nat) (M : Mm) (i : Int), k < nn → 0 ≤ i → i + k = 631 → fX7_restoreSnapshot_L31 g nn (some m) (iv i) K (md m M h, n, w) = K (md m (cpy M 1 (i) (631) (fun j => M 4 j)) h, n, w) := by
  intro k
  induction k with
  | zero =>
    intro nn M i hn hi he 
    obtain ⟨q, rfl⟩ : ∃ q, nn = q + 1 := ⟨nn - 1, by omega⟩
    rw [cpy_nil (by omega)]
    simp (disch := omega) only [↓reduceIte, Int.reduceEq, Int.reduceNe, Int.reduceLT, Int.reduceLE, Int.reduceNeg, Int.reduceMod, Int.reduceDiv, Int.reduceAdd, Int.reduceSub, Int.reduceMul, not_true_eq_false, not_false_eq_true, true_or, or_true, false_or, or_false, true_and, and_true, false_and, and_false, b2_T, b2_F, if_true, if_false, ↓mjn_b, ↓mjn0_b, ↓mjn2_b, iv_lit, iv_add, iv_sub, iv_mul, iv_neg, iv_le_t, iv_le_f, iv_lt_t, iv_lt_f, iv_eq_t, iv_eq_f, iv_div, iv_mod, mretT_p, mretT_b, e_mret, ↓e_bret, ↓m_mon, ↓m_oI0, m_pI0, ↓m_oI3, m_pI3, ↓m_oI5, m_pI5, ↓m_oI7, m_pI7, ↓m_oI11, m_pI11, ↓m_oI12, m_pI12, ↓m_oI13, m_pI13, ↓m_oI14, m_pI14, ↓m_oI15, m_pI15, ↓m_oI16, m_pI16, ↓m_oI17, m_pI17, m_pZ5, m_pZ12, ↓m_oR1, m_aI1, m_sI1, ↓m_oR2, m_aI2, m_sI2, ↓m_oR4, m_aI4, m_sI4, ↓m_oR6, m_aI6, m_sI6, ↓m_oR8, m_aI8, m_sI8, ↓m_oR9, m_aI9, m_sI9, ↓m_oR10, m_aI10, m_sI10, fX7_restoreSnapshot_L31]
  | succ k ih =>
    intro nn M i hn hi he 
    obtain ⟨q, rfl⟩ : ∃ q, nn = q + 1 := ⟨nn - 1, by omega⟩
    have hstep : ∀ x, x = (fun j => M 4 j) (i) → cpy (mu M 1 (i) x) 1 ((i + 1)) (631) (fun j => (mu M 1 (i) x) 4 j) = cpy M 1 (i) (631) (fun j => M 4 j) := fun x hx => cpy_cons (by omega) (by omega) hx (fun j a b => mu_nb (by decide))
    rw [← hstep _ rfl]
    have hi2 : ∀ x, fX7_restoreSnapshot_L31 g q (some m) (iv (i + 1)) K (md m (mu M 1 (i) x) h, n, w) = K (md m (cpy (mu M 1 (i) x) 1 ((i + 1)) (631) (fun j => (mu M 1 (i) x) 4 j)) h, n, w) := fun x => ih q (mu M 1 (i) x) (i + 1) (by omega) (by omega) (by omega)
    rw [← hi2]
    simp (disch := omega) only [↓reduceIte, Int.reduceEq, Int.reduceNe, Int.reduceLT, Int.reduceLE, Int.reduceNeg, Int.reduceMod, Int.reduceDiv, Int.reduceAdd, Int.reduceSub, Int.reduceMul, not_true_eq_false, not_false_eq_true, true_or, or_true, false_or, or_false, true_and, and_true, false_and, and_false, b2_T, b2_F, if_true, if_false, ↓mjn_b, ↓mjn0_b, ↓mjn2_b, iv_lit, iv_add, iv_sub, iv_mul, iv_neg, iv_le_t, iv_le_f, iv_lt_t, iv_lt_f, iv_eq_t, iv_eq_f, iv_div, iv_mod, mretT_p, mretT_b, e_mret, ↓e_bret, ↓m_mon, ↓m_oI0, m_pI0, ↓m_oI3, m_pI3, ↓m_oI5, m_pI5, ↓m_oI7, m_pI7, ↓m_oI11, m_pI11, ↓m_oI12, m_pI12, ↓m_oI13, m_pI13, ↓m_oI14, m_pI14, ↓m_oI15, m_pI15, ↓m_oI16, m_pI16, ↓m_oI17, m_pI17, m_pZ5, m_pZ12, ↓m_oR1, m_aI1, m_sI1, ↓m_oR2, m_aI2, m_sI2, ↓m_oR4, m_aI4, m_sI4, ↓m_oR6, m_aI6, m_sI6, ↓m_oR8, m_aI8, m_sI8, ↓m_oR9, m_aI9, m_sI9, ↓m_oR10, m_aI10, m_sI10, fX7_restoreSnapshot_L31]
theorem X7_undo_L37_ev {g : Nat → Nat} {h : Nat → Option hC} {n w m : Nat} {K : HM Int32} {s : Int} (hs0 : 0 ≤ s ∧ s ≤ 4) : ∀ (k nn : Nat) (M : Mm) (i : Int), k < nn → 0 ≤ i → i + k = 631 → M 0 3 = s → fX7_undo_L37 g nn (some m) (iv i) K (md m M h, n, w) = K (md m (cpy M 1 (i) (631) (fun j => M 2 (631 * s + j))) h, n, w) := by
  intro k
  induction k with
  | zero =>
    intro nn M i hn hi he hs
    obtain ⟨q, rfl⟩ : ∃ q, nn = q + 1 := ⟨nn - 1, by omega⟩
    rw [cpy_nil (by omega)]
    simp (disch := omega) only [↓reduceIte, Int.reduceEq, Int.reduceNe, Int.reduceLT, Int.reduceLE, Int.reduceNeg, Int.reduceMod, Int.reduceDiv, Int.reduceAdd, Int.reduceSub, Int.reduceMul, not_true_eq_false, not_false_eq_true, true_or, or_true, false_or, or_false, true_and, and_true, false_and, and_false, b2_T, b2_F, if_true, if_false, ↓mjn_b, ↓mjn0_b, ↓mjn2_b, iv_lit, iv_add, iv_sub, iv_mul, iv_neg, iv_le_t, iv_le_f, iv_lt_t, iv_lt_f, iv_eq_t, iv_eq_f, iv_div, iv_mod, mretT_p, mretT_b, e_mret, ↓e_bret, ↓m_mon, ↓m_oI0, m_pI0, ↓m_oI3, m_pI3, ↓m_oI5, m_pI5, ↓m_oI7, m_pI7, ↓m_oI11, m_pI11, ↓m_oI12, m_pI12, ↓m_oI13, m_pI13, ↓m_oI14, m_pI14, ↓m_oI15, m_pI15, ↓m_oI16, m_pI16, ↓m_oI17, m_pI17, m_pZ5, m_pZ12, ↓m_oR1, m_aI1, m_sI1, ↓m_oR2, m_aI2, m_sI2, ↓m_oR4, m_aI4, m_sI4, ↓m_oR6, m_aI6, m_sI6, ↓m_oR8, m_aI8, m_sI8, ↓m_oR9, m_aI9, m_sI9, ↓m_oR10, m_aI10, m_sI10, fX7_undo_L37]
  | succ k ih =>
    intro nn M i hn hi he hs
    obtain ⟨q, rfl⟩ : ∃ q, nn = q + 1 := ⟨nn - 1, by omega⟩
    have hstep : ∀ x, x = (fun j => M 2 (631 * s + j)) (i) → cpy (mu M 1 (i) x) 1 ((i + 1)) (631) (fun j => (mu M 1 (i) x) 2 (631 * s + j)) = cpy M 1 (i) (631) (fun j => M 2 (631 * s + j)) := fun x hx => cpy_cons (by omega) (by omega) hx (fun j a b => mu_nb (by decide))
    rw [← hstep _ rfl]
    have hi2 : ∀ x, fX7_undo_L37 g q (some m) (iv (i + 1)) K (md m (mu M 1 (i) x) h, n, w) = K (md m (cpy (mu M 1 (i) x) 1 ((i + 1)) (631) (fun j => (mu M 1 (i) x) 2 (631 * s + j))) h, n, w) := fun x => ih q (mu M 1 (i) x) (i + 1) (by omega) (by omega) (by omega) (by rw [mu_ob (by decide)]; exact hs)
    rw [← hi2]
    simp (disch := omega) only [↓reduceIte, Int.reduceEq, Int.reduceNe, Int.reduceLT, Int.reduceLE, Int.reduceNeg, Int.reduceMod, Int.reduceDiv, Int.reduceAdd, Int.reduceSub, Int.reduceMul, not_true_eq_false, not_false_eq_true, true_or, or_true, false_or, or_false, true_and, and_true, false_and, and_false, b2_T, b2_F, if_true, if_false, ↓mjn_b, ↓mjn0_b, ↓mjn2_b, iv_lit, iv_add, iv_sub, iv_mul, iv_neg, iv_le_t, iv_le_f, iv_lt_t, iv_lt_f, iv_eq_t, iv_eq_f, iv_div, iv_mod, mretT_p, mretT_b, e_mret, ↓e_bret, ↓m_mon, ↓m_oI0, m_pI0, ↓m_oI3, m_pI3, ↓m_oI5, m_pI5, ↓m_oI7, m_pI7, ↓m_oI11, m_pI11, ↓m_oI12, m_pI12, ↓m_oI13, m_pI13, ↓m_oI14, m_pI14, ↓m_oI15, m_pI15, ↓m_oI16, m_pI16, ↓m_oI17, m_pI17, m_pZ5, m_pZ12, ↓m_oR1, m_aI1, m_sI1, ↓m_oR2, m_aI2, m_sI2, ↓m_oR4, m_aI4, m_sI4, ↓m_oR6, m_aI6, m_sI6, ↓m_oR8, m_aI8, m_sI8, ↓m_oR9, m_aI9, m_sI9, ↓m_oR10, m_aI10, m_sI10, fX7_undo_L37, hs]
theorem X7_record_L51_ev {g : Nat → Nat} {h : Nat → Option hC} {n w m : Nat} {K : HM Unit} {s : Int} (hs0 : 0 ≤ s ∧ s ≤ 4) : ∀ (k nn : Nat) (M : Mm) (i : Int), k < nn → 0 ≤ i → i + k = 631 → M 0 3 = s → fX7_record_L51 g nn (some m) (iv i) K (md m M h, n, w) = K (md m (cpy M 2 (631 * s + i) (631 * s + 631) (fun j => M 1 (j - 631 * s))) h, n, w) := by
  intro k
  induction k with
  | zero =>
    intro nn M i hn hi he hs
    obtain ⟨q, rfl⟩ : ∃ q, nn = q + 1 := ⟨nn - 1, by omega⟩
    rw [cpy_nil (by omega)]
    simp (disch := omega) only [↓reduceIte, Int.reduceEq, Int.reduceNe, Int.reduceLT, Int.reduceLE, Int.reduceNeg, Int.reduceMod, Int.reduceDiv, Int.reduceAdd, Int.reduceSub, Int.reduceMul, not_true_eq_false, not_false_eq_true, true_or, or_true, false_or, or_false, true_and, and_true, false_and, and_false, b2_T, b2_F, if_true, if_false, ↓mjn_b, ↓mjn0_b, ↓mjn2_b, iv_lit, iv_add, iv_sub, iv_mul, iv_neg, iv_le_t, iv_le_f, iv_lt_t, iv_lt_f, iv_eq_t, iv_eq_f, iv_div, iv_mod, mretT_p, mretT_b, e_mret, ↓e_bret, ↓m_mon, ↓m_oI0, m_pI0, ↓m_oI3, m_pI3, ↓m_oI5, m_pI5, ↓m_oI7, m_pI7, ↓m_oI11, m_pI11, ↓m_oI12, m_pI12, ↓m_oI13, m_pI13, ↓m_oI14, m_pI14, ↓m_oI15, m_pI15, ↓m_oI16, m_pI16, ↓m_oI17, m_pI17, m_pZ5, m_pZ12, ↓m_oR1, m_aI1, m_sI1, ↓m_oR2, m_aI2, m_sI2, ↓m_oR4, m_aI4, m_sI4, ↓m_oR6, m_aI6, m_sI6, ↓m_oR8, m_aI8, m_sI8, ↓m_oR9, m_aI9, m_sI9, ↓m_oR10, m_aI10, m_sI10, fX7_record_L51]
  | succ k ih =>
    intro nn M i hn hi he hs
    obtain ⟨q, rfl⟩ : ∃ q, nn = q + 1 := ⟨nn - 1, by omega⟩
    have hstep : ∀ x, x = (fun j => M 1 (j - 631 * s)) (631 * s + i) → cpy (mu M 2 (631 * s + i) x) 2 (631 * s + (i + 1)) (631 * s + 631) (fun j => (mu M 2 (631 * s + i) x) 1 (j - 631 * s)) = cpy M 2 (631 * s + i) (631 * s + 631) (fun j => M 1 (j - 631 * s)) := fun x hx => cpy_cons (by omega) (by omega) hx (fun j a b => mu_nb (by decide))
    rw [← hstep _ rfl]
    have hi2 : ∀ x, fX7_record_L51 g q (some m) (iv (i + 1)) K (md m (mu M 2 (631 * s + i) x) h, n, w) = K (md m (cpy (mu M 2 (631 * s + i) x) 2 (631 * s + (i + 1)) (631 * s + 631) (fun j => (mu M 2 (631 * s + i) x) 1 (j - 631 * s))) h, n, w) := fun x => ih q (mu M 2 (631 * s + i) x) (i + 1) (by omega) (by omega) (by omega) (by rw [mu_ob (by decide)]; exact hs)
    rw [← hi2]
    simp (disch := omega) only [↓reduceIte, Int.reduceEq, Int.reduceNe, Int.reduceLT, Int.reduceLE, Int.reduceNeg, Int.reduceMod, Int.reduceDiv, Int.reduceAdd, Int.reduceSub, Int.reduceMul, not_true_eq_false, not_false_eq_true, true_or, or_true, false_or, or_false, true_and, and_true, false_and, and_false, b2_T, b2_F, if_true, if_false, ↓mjn_b, ↓mjn0_b, ↓mjn2_b, iv_lit, iv_add, iv_sub, iv_mul, iv_neg, iv_le_t, iv_le_f, iv_lt_t, iv_lt_f, iv_eq_t, iv_eq_f, iv_div, iv_mod, mretT_p, mretT_b, e_mret, ↓e_bret, ↓m_mon, ↓m_oI0, m_pI0, ↓m_oI3, m_pI3, ↓m_oI5, m_pI5, ↓m_oI7, m_pI7, ↓m_oI11, m_pI11, ↓m_oI12, m_pI12, ↓m_oI13, m_pI13, ↓m_oI14, m_pI14, ↓m_oI15, m_pI15, ↓m_oI16, m_pI16, ↓m_oI17, m_pI17, m_pZ5, m_pZ12, ↓m_oR1, m_aI1, m_sI1, ↓m_oR2, m_aI2, m_sI2, ↓m_oR4, m_aI4, m_sI4, ↓m_oR6, m_aI6, m_sI6, ↓m_oR8, m_aI8, m_sI8, ↓m_oR9, m_aI9, m_sI9, ↓m_oR10, m_aI10, m_sI10, fX7_record_L51, hs, show 631 * s + i - 631 * s = i by omega]
theorem X7_record_L10_ev {g : Nat → Nat} {h : Nat → Option hC} {n w m : Nat} {K : HM Unit} {s : Int} : ∀ (k nn : Nat) (M : Mm) (i : Int), k < nn → 0 ≤ i → i + k = 2524 → fX7_record_L10 g nn (some m) (iv i) K (md m M h, n, w) = K (md m (cpy M 2 (i) (2524) (fun j => M 2 (631 + j))) h, n, w) := by
  intro k
  induction k with
  | zero =>
    intro nn M i hn hi he 
    obtain ⟨q, rfl⟩ : ∃ q, nn = q + 1 := ⟨nn - 1, by omega⟩
    rw [cpy_nil (by omega)]
    simp (disch := omega) only [↓reduceIte, Int.reduceEq, Int.reduceNe, Int.reduceLT, Int.reduceLE, Int.reduceNeg, Int.reduceMod, Int.reduceDiv, Int.reduceAdd, Int.reduceSub, Int.reduceMul, not_true_eq_false, not_false_eq_true, true_or, or_true, false_or, or_false, true_and, and_true, false_and, and_false, b2_T, b2_F, if_true, if_false, ↓mjn_b, ↓mjn0_b, ↓mjn2_b, iv_lit, iv_add, iv_sub, iv_mul, iv_neg, iv_le_t, iv_le_f, iv_lt_t, iv_lt_f, iv_eq_t, iv_eq_f, iv_div, iv_mod, mretT_p, mretT_b, e_mret, ↓e_bret, ↓m_mon, ↓m_oI0, m_pI0, ↓m_oI3, m_pI3, ↓m_oI5, m_pI5, ↓m_oI7, m_pI7, ↓m_oI11, m_pI11, ↓m_oI12, m_pI12, ↓m_oI13, m_pI13, ↓m_oI14, m_pI14, ↓m_oI15, m_pI15, ↓m_oI16, m_pI16, ↓m_oI17, m_pI17, m_pZ5, m_pZ12, ↓m_oR1, m_aI1, m_sI1, ↓m_oR2, m_aI2, m_sI2, ↓m_oR4, m_aI4, m_sI4, ↓m_oR6, m_aI6, m_sI6, ↓m_oR8, m_aI8, m_sI8, ↓m_oR9, m_aI9, m_sI9, ↓m_oR10, m_aI10, m_sI10, fX7_record_L10]
  | succ k ih =>
    intro nn M i hn hi he 
    obtain ⟨q, rfl⟩ : ∃ q, nn = q + 1 := ⟨nn - 1, by omega⟩
    have hstep : ∀ x, x = (fun j => M 2 (631 + j)) (i) → cpy (mu M 2 (i) x) 2 ((i + 1)) (2524) (fun j => (mu M 2 (i) x) 2 (631 + j)) = cpy M 2 (i) (2524) (fun j => M 2 (631 + j)) := fun x hx => cpy_cons (by omega) (by omega) hx (fun j a b => mu_ni (by omega))
    rw [← hstep _ rfl]
    have hi2 : ∀ x, fX7_record_L10 g q (some m) (iv (i + 1)) K (md m (mu M 2 (i) x) h, n, w) = K (md m (cpy (mu M 2 (i) x) 2 ((i + 1)) (2524) (fun j => (mu M 2 (i) x) 2 (631 + j))) h, n, w) := fun x => ih q (mu M 2 (i) x) (i + 1) (by omega) (by omega) (by omega)
    rw [← hi2]
    simp (disch := omega) only [↓reduceIte, Int.reduceEq, Int.reduceNe, Int.reduceLT, Int.reduceLE, Int.reduceNeg, Int.reduceMod, Int.reduceDiv, Int.reduceAdd, Int.reduceSub, Int.reduceMul, not_true_eq_false, not_false_eq_true, true_or, or_true, false_or, or_false, true_and, and_true, false_and, and_false, b2_T, b2_F, if_true, if_false, ↓mjn_b, ↓mjn0_b, ↓mjn2_b, iv_lit, iv_add, iv_sub, iv_mul, iv_neg, iv_le_t, iv_le_f, iv_lt_t, iv_lt_f, iv_eq_t, iv_eq_f, iv_div, iv_mod, mretT_p, mretT_b, e_mret, ↓e_bret, ↓m_mon, ↓m_oI0, m_pI0, ↓m_oI3, m_pI3, ↓m_oI5, m_pI5, ↓m_oI7, m_pI7, ↓m_oI11, m_pI11, ↓m_oI12, m_pI12, ↓m_oI13, m_pI13, ↓m_oI14, m_pI14, ↓m_oI15, m_pI15, ↓m_oI16, m_pI16, ↓m_oI17, m_pI17, m_pZ5, m_pZ12, ↓m_oR1, m_aI1, m_sI1, ↓m_oR2, m_aI2, m_sI2, ↓m_oR4, m_aI4, m_sI4, ↓m_oR6, m_aI6, m_sI6, ↓m_oR8, m_aI8, m_sI8, ↓m_oR9, m_aI9, m_sI9, ↓m_oR10, m_aI10, m_sI10, fX7_record_L10]
/-- the history's rows -/
def hrow (M : Mm) (j : Int) : Int → Int := fun i => M 2 (631 * j + i)
/-- the number of saved states behind another one -/
def hnx (s : Int) : Int := if s = 5 then 5 else s + 1
theorem X7_record_ev {g : Nat → Nat} {h : Nat → Option hC} {n w m : Nat} {M : Mm} (hs : 0 ≤ M 0 3 ∧ M 0 3 ≤ 5) :
    ∃ (M' : Mm), fX7_record g (some m) (md m M h, n, w) = some ((), (md m M' h, n, w)) ∧ (∀ b, b ≠ 0 → b ≠ 2 → M' b = M b) ∧ (∀ j, j ≠ 3 → M' 0 j = M 0 j) ∧ M' 0 3 = hnx (M 0 3) ∧
    (∀ i, 0 ≤ i → i < 631 → hrow M' (hnx (M 0 3) - 1) i = M 1 i) ∧ ∀ j i, 0 ≤ j → j < hnx (M 0 3) - 1 → 0 ≤ i → i < 631 → hrow M' j i = if M 0 3 = 5 then hrow M (j + 1) i else hrow M j i := by
  by_cases h5 : M 0 3 = 5
  · refine ⟨mu (cpy (mu (cpy M 2 0 2524 (fun j => M 2 (631 + j))) 0 3 4) 2 (631 * 4 + 0) (631 * 4 + 631) (fun j => (mu (cpy M 2 0 2524 (fun j => M 2 (631 + j))) 0 3 4) 1 (j - 631 * 4))) 0 3 5, ?_, fun b b0 b2 => ?_, fun j hj => ?_, ?_, fun i a b => ?_, fun j i a b c d => ?_⟩
    · have e1 := X7_record_L10_ev (g := g) (h := h) (n := n) (w := w) (m := m) (s := 0) (K := mb (oI 12 3 (some m)) fun x10 => mb (pI 12 3 (some m) (x10 - iv 1)) fun _ => fX7_record_L51 g 5000 (some m) (iv 0) (mb (oI 12 3 (some m)) fun x9 => mb (pI 12 3 (some m) (x9 + iv 1)) fun _ => mret ())) 2524 5000 M 0 (by omega) (by omega) (by omega)
      have e2 := X7_record_L51_ev (g := g) (h := h) (n := n) (w := w) (m := m) (s := 4) (K := mb (oI 12 3 (some m)) fun x9 => mb (pI 12 3 (some m) (x9 + iv 1)) fun _ => mret ()) (by omega) 631 5000 (mu (cpy M 2 0 2524 (fun j => M 2 (631 + j))) 0 3 4) 0 (by omega) (by omega) (by omega) mu_eq
      unfold fX7_record
      simp only [iv_lit, ↓mjn0_b]
      rw [m_oI3, h5, if_pos rfl, e1, m_oI3, cpy_ob (by decide), h5, iv_sub, m_pI3]
      rw [show (5 : Int) - 1 = 4 from rfl, e2, m_oI3, cpy_ob (by decide), mu_eq, iv_add, m_pI3]
      rfl
    · rw [mu_ob b0, cpy_ob b2, mu_ob b0, cpy_ob b2]
    · rw [mu_ni hj, cpy_ob (by decide), mu_ni hj, cpy_ob (by decide)]
    · rw [mu_eq, h5]; rfl
    · unfold hrow hnx
      rw [if_pos h5, mu_ob (by decide), cpy_at (by omega), mu_ob (by decide), cpy_ob (by decide)]
      exact congrArg (M 1) (by omega)
    · unfold hnx at b
      rw [if_pos h5] at b
      unfold hrow
      rw [if_pos h5, mu_ob (by decide), cpy_out (by omega), mu_ob (by decide), cpy_at (by omega)]
      exact congrArg (M 2) (by omega)
  · refine ⟨mu (cpy M 2 (631 * M 0 3 + 0) (631 * M 0 3 + 631) (fun j => M 1 (j - 631 * M 0 3))) 0 3 (M 0 3 + 1), ?_, fun b b0 b2 => ?_, fun j hj => ?_, ?_, fun i a b => ?_, fun j i a b c d => ?_⟩
    · have e2 := X7_record_L51_ev (g := g) (h := h) (n := n) (w := w) (m := m) (s := M 0 3) (K := mb (oI 12 3 (some m)) fun x9 => mb (pI 12 3 (some m) (x9 + iv 1)) fun _ => mret ()) (by omega) 631 5000 M 0 (by omega) (by omega) (by omega) rfl
      unfold fX7_record
      simp only [iv_lit, ↓mjn0_b]
      rw [m_oI3, if_neg (fun q => h5 ((iv_eq (by omega) (by omega)).1 q)), e2, m_oI3, cpy_ob (by decide), iv_add, m_pI3]
      rfl
    · rw [mu_ob b0, cpy_ob b2]
    · rw [mu_ni hj, cpy_ob (by decide)]
    · rw [mu_eq]; unfold hnx; rw [if_neg h5]
    · unfold hrow hnx
      rw [if_neg h5, mu_ob (by decide), cpy_at (by omega)]
      exact congrArg (M 1) (by omega)
    · unfold hnx at b
      rw [if_neg h5] at b
      unfold hrow
      have : 631 * j ≤ 631 * (M 0 3 - 1) := by omega
      rw [if_neg h5, mu_ob (by decide), cpy_out (by omega)]
