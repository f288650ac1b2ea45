/-! ===== reading a text ===== -/
def pH (T : Int → Int) (l a : Int) : Int := if a < l then T a else 0
def pT (T : Int → Int) (l c : Int) (s : Int × Int) : Int × Int := if s.2 = 0 ∧ pH T l s.1 = c then (s.1 + 1, 0) else (s.1, 1)
def h9 (H : Int) : Int := if 9 ≤ H then 9 else H
def pN (T : Int → Int) (l H : Int) (s : Int × Int) : (Int × Int) × Int :=
  if s.2 = 0 ∧ 0 ≤ pH T l s.1 - 48 ∧ pH T l s.1 - 48 ≤ h9 H then
    (if pH T l s.1 - 48 ≤ 0 then ((s.1 + 1, 0), pH T l s.1 - 48)
     else if (48 ≤ pH T l (s.1 + 1) ∧ pH T l (s.1 + 1) ≤ 57) ∧ 10 * (pH T l s.1 - 48) + pH T l (s.1 + 1) - 48 ≤ H then ((s.1 + 1 + 1, 0), 10 * (pH T l s.1 - 48) + pH T l (s.1 + 1) - 48)
     else ((s.1 + 1, 0), pH T l s.1 - 48))
  else ((s.1, 1), 0)
/-- the reader's state -/
def sok (l : Int) (s : Int × Int) : Prop := (0 ≤ s.1 ∧ s.1 ≤ l) ∧ (s.2 = 0 ∨ s.2 = 1)
def txt (T : Int → Int) (l : Int) : Prop := (0 ≤ l ∧ l ≤ 60) ∧ ∀ k, 0 ≤ k → k < l → 32 ≤ T k ∧ T k ≤ 126
theorem pH_rg {T : Int → Int} {l a : Int} (ht : txt T l) (ha : 0 ≤ a) : 0 ≤ pH T l a ∧ pH T l a ≤ 126 := by
  unfold pH
  split
  · have := ht.2 a ha (by assumption); omega
  · omega
theorem pT_ok {T : Int → Int} {l c : Int} {s : Int × Int} (hs : sok l s) (hc : c ≠ 0) : sok l (pT T l c s) := by
  unfold pT
  by_cases h : s.2 = 0 ∧ pH T l s.1 = c
  · rw [if_pos h]
    have h2 := h.2
    unfold pH at h2
    by_cases hl : s.1 < l
    · exact ⟨by have := hs.1; simp only; omega, Or.inl rfl⟩
    · rw [if_neg hl] at h2; omega
  · rw [if_neg h]
    exact ⟨hs.1, Or.inr rfl⟩
theorem pN_ok {T : Int → Int} {l H : Int} {s : Int × Int} (hs : sok l s) : sok l (pN T l H s).1 := by
  have h1 := hs.1
  have key : ∀ a, pH T l a ≠ 0 → a < l := fun a q => by
    unfold pH at q
    by_cases hl : a < l
    · exact hl
    · rw [if_neg hl] at q; omega
  unfold pN
  split
  · rename_i hh
    have k1 := key s.1 (by omega)
    split
    · exact ⟨by simp only; omega, Or.inl rfl⟩
    · split
      · rename_i h3
        have k2 := key (s.1 + 1) (by omega)
        exact ⟨by simp only; omega, Or.inl rfl⟩
      · exact ⟨by simp only; omega, Or.inl rfl⟩
  · exact ⟨h1, Or.inr rfl⟩
theorem pN_rg {T : Int → Int} {l H : Int} {s : Int × Int} (hH : 0 ≤ H ∧ H ≤ 29) : 0 ≤ (pN T l H s).2 ∧ (pN T l H s).2 ≤ H := by
  unfold pN
  split
  · rename_i hh
    have : h9 H ≤ H := by unfold h9; split <;> omega
    split
    · simp only; omega
    · split
      · simp only; omega
      · simp only; omega
  · simp only; omega
/-- a memory with the reader's state -/
def mst (M : Mm) (s : Int × Int) : Mm := fun b j => if b = 0 ∧ j = 11 then s.1 else if b = 0 ∧ j = 12 then s.2 else M b j
theorem mst_11 {M : Mm} {s : Int × Int} : mst M s 0 11 = s.1 := if_pos ⟨rfl, rfl⟩
theorem mst_12 {M : Mm} {s : Int × Int} : mst M s 0 12 = s.2 := by
  unfold mst
  rw [if_neg (by omega), if_pos ⟨rfl, rfl⟩]
theorem mst_b {M : Mm} {s : Int × Int} {b : Nat} {j : Int} (h : b ≠ 0) : mst M s b j = M b j := by
  unfold mst
  rw [if_neg (fun q => h q.1), if_neg (fun q => h q.1)]
theorem mst_ob {M : Mm} {s : Int × Int} {b : Nat} (h : b ≠ 0) : mst M s b = M b := by
  funext j
  exact mst_b h
theorem mst_j {M : Mm} {s : Int × Int} {b : Nat} {j : Int} (h : j ≠ 11 ∧ j ≠ 12) : mst M s b j = M b j := by
  unfold mst
  rw [if_neg (fun q => h.1 q.2), if_neg (fun q => h.2 q.2)]
theorem mst_m11 {M : Mm} {s : Int × Int} {x : Int} : mu (mst M s) 0 11 x = mst M (x, s.2) := by
  funext b j
  unfold mu mst
  by_cases h : b = 0 ∧ j = 11
  · rw [if_pos h, if_pos h]
  · rw [if_neg h, if_neg h, if_neg h]
theorem mst_m12 {M : Mm} {s : Int × Int} {x : Int} : mu (mst M s) 0 12 x = mst M (s.1, x) := by
  funext b j
  unfold mu mst
  by_cases h : b = 0 ∧ j = 12
  · rw [if_pos h, if_neg (by omega), if_pos h]
  · rw [if_neg h]
    by_cases h2 : b = 0 ∧ j = 11
    · rw [if_pos h2, if_pos h2]
    · rw [if_neg h2, if_neg h2, if_neg h, if_neg h]
theorem mu_no {M : Mm} {b c : Nat} {i j x : Int} (h : ¬ (c = b ∧ j = i)) : mu M b i x c j = M c j := if_neg h
theorem mst_mj {M : Mm} {s : Int × Int} {x j : Int} (h : j ≠ 11 ∧ j ≠ 12) : mu (mst M s) 0 j x = mst (mu M 0 j x) s := by
  funext b k
  by_cases h1 : b = 0 ∧ k = j
  · obtain ⟨rfl, rfl⟩ := h1
    rw [mu_eq, mst_j h, mu_eq]
  · rw [mu_no h1]
    unfold mst
    rw [mu_no h1]
theorem mst_id {M : Mm} : mst M (M 0 11, M 0 12) = M := by
  funext b j
  unfold mst
  by_cases h : b = 0 ∧ j = 11
  · rw [if_pos h, h.1, h.2]
  · rw [if_neg h]
    by_cases h2 : b = 0 ∧ j = 12
    · rw [if_pos h2, h2.1, h2.2]
    · rw [if_neg h2]

theorem X7_here_ev {g : Nat → Nat} {h : Nat → Option hC} {n w m : Nat} {M : Mm} {s : Int × Int} (ht : txt (M 6) (M 0 7)) (hs : sok (M 0 7) s) : fX7_here g (some m) (md m (mst M s) h, n, w) = some (iv (pH (M 6) (M 0 7) s.1), (md m (mst M s) h, n, w)) := by
  have h1 := ht.1
  have h2 := hs.1
  unfold fX7_here pH
  by_cases h3 : s.1 < M 0 7
  · simp (disch := omega) only [↓reduceIte, Int.reduceEq, Int.reduceNe, Int.reduceLT, Int.reduceLE, Int.reduceNeg, Int.reduceMod, Int.reduceDiv, Int.reduceAdd, Int.reduceSub, Int.reduceMul, not_true_eq_false, not_false_eq_true, Int.lt_irrefl, true_or, or_true, false_or, or_false, true_and, and_true, false_and, and_false, b2_T, b2_F, if_true, if_false, ↓mjn_b, ↓mjn0_b, ↓mjn2_b, iv_lit, iv_add, iv_sub, iv_mul, iv_neg, iv_le_t, iv_le_f, iv_lt_t, iv_lt_f, iv_eq_t, iv_eq_f, iv_div, iv_mod, mretT_p, mretT_b, e_mret, ↓e_bret, ↓m_mon, ↓m_oI0, m_pI0, ↓m_oI3, m_pI3, ↓m_oI5, m_pI5, ↓m_oI7, m_pI7, ↓m_oI11, m_pI11, ↓m_oI12, m_pI12, ↓m_oI13, m_pI13, ↓m_oI14, m_pI14, ↓m_oI15, m_pI15, ↓m_oI16, m_pI16, ↓m_oI17, m_pI17, m_pZ5, m_pZ12, ↓m_oR1, m_aI1, m_sI1, ↓m_oR2, m_aI2, m_sI2, ↓m_oR4, m_aI4, m_sI4, ↓m_oR6, m_aI6, m_sI6, ↓m_oR8, m_aI8, m_sI8, ↓m_oR9, m_aI9, m_sI9, ↓m_oR10, m_aI10, m_sI10, h3, mst_11, mst_12, mst_b, mst_j, mst_m11, mst_m12, mst_mj]
  · simp (disch := omega) only [↓reduceIte, Int.reduceEq, Int.reduceNe, Int.reduceLT, Int.reduceLE, Int.reduceNeg, Int.reduceMod, Int.reduceDiv, Int.reduceAdd, Int.reduceSub, Int.reduceMul, not_true_eq_false, not_false_eq_true, Int.lt_irrefl, true_or, or_true, false_or, or_false, true_and, and_true, false_and, and_false, b2_T, b2_F, if_true, if_false, ↓mjn_b, ↓mjn0_b, ↓mjn2_b, iv_lit, iv_add, iv_sub, iv_mul, iv_neg, iv_le_t, iv_le_f, iv_lt_t, iv_lt_f, iv_eq_t, iv_eq_f, iv_div, iv_mod, mretT_p, mretT_b, e_mret, ↓e_bret, ↓m_mon, ↓m_oI0, m_pI0, ↓m_oI3, m_pI3, ↓m_oI5, m_pI5, ↓m_oI7, m_pI7, ↓m_oI11, m_pI11, ↓m_oI12, m_pI12, ↓m_oI13, m_pI13, ↓m_oI14, m_pI14, ↓m_oI15, m_pI15, ↓m_oI16, m_pI16, ↓m_oI17, m_pI17, m_pZ5, m_pZ12, ↓m_oR1, m_aI1, m_sI1, ↓m_oR2, m_aI2, m_sI2, ↓m_oR4, m_aI4, m_sI4, ↓m_oR6, m_aI6, m_sI6, ↓m_oR8, m_aI8, m_sI8, ↓m_oR9, m_aI9, m_sI9, ↓m_oR10, m_aI10, m_sI10, h3, mst_11, mst_12, mst_b, mst_j, mst_m11, mst_m12, mst_mj]
theorem X7_here_c {β : Type} {K : Int32 → HM β} {g : Nat → Nat} {h : Nat → Option hC} {n w m : Nat} {M : Mm} {s : Int × Int} (ht : txt (M 6) (M 0 7)) (hs : sok (M 0 7) s) : mb (mcall0 (fX7_here g (some m))) K (md m (mst M s) h, n, w) = K (iv (pH (M 6) (M 0 7) s.1)) (md m (mst M s) h, n, w) := e_call0 (X7_here_ev ht hs)
theorem X7_take_ev {g : Nat → Nat} {h : Nat → Option hC} {n w m : Nat} {M : Mm} {s : Int × Int} {c : Int} (ht : txt (M 6) (M 0 7)) (hs : sok (M 0 7) s) (hc : 1 ≤ c ∧ c ≤ 126) : fX7_take g (some m) (iv c) (md m (mst M s) h, n, w) = some ((), (md m (mst M (pT (M 6) (M 0 7) c s)) h, n, w)) := by
  have h1 := ht.1
  have h2 := hs.1
  have h3 := pH_rg ht h2.1
  have h4 := hs.2
  unfold fX7_take pT
  by_cases h0 : s.2 = 0
  · by_cases h5 : pH (M 6) (M 0 7) s.1 = c
    · simp (disch := omega) only [↓reduceIte, Int.reduceEq, Int.reduceNe, Int.reduceLT, Int.reduceLE, Int.reduceNeg, Int.reduceMod, Int.reduceDiv, Int.reduceAdd, Int.reduceSub, Int.reduceMul, not_true_eq_false, not_false_eq_true, Int.lt_irrefl, true_or, or_true, false_or, or_false, true_and, and_true, false_and, and_false, b2_T, b2_F, if_true, if_false, ↓mjn_b, ↓mjn0_b, ↓mjn2_b, iv_lit, iv_add, iv_sub, iv_mul, iv_neg, iv_le_t, iv_le_f, iv_lt_t, iv_lt_f, iv_eq_t, iv_eq_f, iv_div, iv_mod, mretT_p, mretT_b, e_mret, ↓e_bret, ↓m_mon, ↓m_oI0, m_pI0, ↓m_oI3, m_pI3, ↓m_oI5, m_pI5, ↓m_oI7, m_pI7, ↓m_oI11, m_pI11, ↓m_oI12, m_pI12, ↓m_oI13, m_pI13, ↓m_oI14, m_pI14, ↓m_oI15, m_pI15, ↓m_oI16, m_pI16, ↓m_oI17, m_pI17, m_pZ5, m_pZ12, ↓m_oR1, m_aI1, m_sI1, ↓m_oR2, m_aI2, m_sI2, ↓m_oR4, m_aI4, m_sI4, ↓m_oR6, m_aI6, m_sI6, ↓m_oR8, m_aI8, m_sI8, ↓m_oR9, m_aI9, m_sI9, ↓m_oR10, m_aI10, m_sI10, h0, h5, X7_here_c ht hs, mst_11, mst_12, mst_b, mst_j, mst_m11, mst_m12, mst_mj]
    · simp (disch := omega) only [↓reduceIte, Int.reduceEq, Int.reduceNe, Int.reduceLT, Int.reduceLE, Int.reduceNeg, Int.reduceMod, Int.reduceDiv, Int.reduceAdd, Int.reduceSub, Int.reduceMul, not_true_eq_false, not_false_eq_true, Int.lt_irrefl, true_or, or_true, false_or, or_false, true_and, and_true, false_and, and_false, b2_T, b2_F, if_true, if_false, ↓mjn_b, ↓mjn0_b, ↓mjn2_b, iv_lit, iv_add, iv_sub, iv_mul, iv_neg, iv_le_t, iv_le_f, iv_lt_t, iv_lt_f, iv_eq_t, iv_eq_f, iv_div, iv_mod, mretT_p, mretT_b, e_mret, ↓e_bret, ↓m_mon, ↓m_oI0, m_pI0, ↓m_oI3, m_pI3, ↓m_oI5, m_pI5, ↓m_oI7, m_pI7, ↓m_oI11, m_pI11, ↓m_oI12, m_pI12, ↓m_oI13, m_pI13, ↓m_oI14, m_pI14, ↓m_oI15, m_pI15, ↓m_oI16, m_pI16, ↓m_oI17, m_pI17, m_pZ5, m_pZ12, ↓m_oR1, m_aI1, m_sI1, ↓m_oR2, m_aI2, m_sI2, ↓m_oR4, m_aI4, m_sI4, ↓m_oR6, m_aI6, m_sI6, ↓m_oR8, m_aI8, m_sI8, ↓m_oR9, m_aI9, m_sI9, ↓m_oR10, m_aI10, m_sI10, h0, h5, X7_here_c ht hs, Int.add_zero, mst_11, mst_12, mst_b, mst_j, mst_m11, mst_m12, mst_mj]
  · simp (disch := omega) only [↓reduceIte, Int.reduceEq, Int.reduceNe, Int.reduceLT, Int.reduceLE, Int.reduceNeg, Int.reduceMod, Int.reduceDiv, Int.reduceAdd, Int.reduceSub, Int.reduceMul, not_true_eq_false, not_false_eq_true, Int.lt_irrefl, true_or, or_true, false_or, or_false, true_and, and_true, false_and, and_false, b2_T, b2_F, if_true, if_false, ↓mjn_b, ↓mjn0_b, ↓mjn2_b, iv_lit, iv_add, iv_sub, iv_mul, iv_neg, iv_le_t, iv_le_f, iv_lt_t, iv_lt_f, iv_eq_t, iv_eq_f, iv_div, iv_mod, mretT_p, mretT_b, e_mret, ↓e_bret, ↓m_mon, ↓m_oI0, m_pI0, ↓m_oI3, m_pI3, ↓m_oI5, m_pI5, ↓m_oI7, m_pI7, ↓m_oI11, m_pI11, ↓m_oI12, m_pI12, ↓m_oI13, m_pI13, ↓m_oI14, m_pI14, ↓m_oI15, m_pI15, ↓m_oI16, m_pI16, ↓m_oI17, m_pI17, m_pZ5, m_pZ12, ↓m_oR1, m_aI1, m_sI1, ↓m_oR2, m_aI2, m_sI2, ↓m_oR4, m_aI4, m_sI4, ↓m_oR6, m_aI6, m_sI6, ↓m_oR8, m_aI8, m_sI8, ↓m_oR9, m_aI9, m_sI9, ↓m_oR10, m_aI10, m_sI10, h0, Int.add_zero, mst_11, mst_12, mst_b, mst_j, mst_m11, mst_m12, mst_mj]
theorem X7_take_c {β : Type} {K : Unit → HM β} {g : Nat → Nat} {h : Nat → Option hC} {n w m : Nat} {M : Mm} {s : Int × Int} {c : Int} (ht : txt (M 6) (M 0 7)) (hs : sok (M 0 7) s) (hc : 1 ≤ c ∧ c ≤ 126) : mb (mcall0 (fX7_take g (some m) (iv c))) K (md m (mst M s) h, n, w) = K () (md m (mst M (pT (M 6) (M 0 7) c s)) h, n, w) := e_call0 (X7_take_ev ht hs hc)
theorem X7_number_ev {g : Nat → Nat} {h : Nat → Option hC} {n w m : Nat} {M : Mm} {s : Int × Int} {H : Int} (ht : txt (M 6) (M 0 7)) (hs : sok (M 0 7) s) (hH : 0 ≤ H ∧ H ≤ 29) : fX7_number g (some m) (iv H) (md m (mst M s) h, n, w) = some (iv (pN (M 6) (M 0 7) H s).2, (md m (mst M (pN (M 6) (M 0 7) H s).1) h, n, w)) := by
  have h1 := ht.1
  have h2 := hs.1
  have h3 := pH_rg ht h2.1
  have h4 := hs.2
  have h99 : 0 ≤ h9 H ∧ h9 H ≤ 9 := by unfold h9; split <;> omega
  unfold fX7_number pN
  by_cases q9 : 9 ≤ H
  · rw [show h9 H = 9 from if_pos q9] at h99 ⊢
    by_cases h0 : s.2 = 0
    · by_cases h5 : 0 ≤ pH (M 6) (M 0 7) s.1 - 48 ∧ pH (M 6) (M 0 7) s.1 - 48 ≤ 9
      · have hl : s.1 < M 0 7 := by
          have q := h5.1
          unfold pH at q
          by_cases hl : s.1 < M 0 7
          · exact hl
          · rw [if_neg hl] at q; omega
        have hs1 : sok (M 0 7) (s.1 + 1, 0) := ⟨by simp only; omega, Or.inl rfl⟩
        have h31 := pH_rg ht (a := s.1 + 1) (by omega)
        have eh : ∀ (K : Int32 → HM Int32), mb (mcall0 (fX7_here g (some m))) K (md m (mst M (s.1 + 1, 0)) h, n, w) = K (iv (pH (M 6) (M 0 7) (s.1 + 1))) (md m (mst M (s.1 + 1, 0)) h, n, w) := fun K => X7_here_c ht hs1
        have hs0 : sok (M 0 7) (s.1, 0) := ⟨h2, Or.inl rfl⟩
        have eh0 : ∀ (K : Int32 → HM Int32), mb (mcall0 (fX7_here g (some m))) K (md m (mst M (s.1, 0)) h, n, w) = K (iv (pH (M 6) (M 0 7) s.1)) (md m (mst M (s.1, 0)) h, n, w) := fun K => X7_here_c ht hs0
        by_cases h6 : pH (M 6) (M 0 7) s.1 - 48 ≤ 0
        · simp (disch := omega) only [↓reduceIte, Int.reduceEq, Int.reduceNe, Int.reduceLT, Int.reduceLE, Int.reduceNeg, Int.reduceMod, Int.reduceDiv, Int.reduceAdd, Int.reduceSub, Int.reduceMul, not_true_eq_false, not_false_eq_true, Int.lt_irrefl, true_or, or_true, false_or, or_false, true_and, and_true, false_and, and_false, b2_T, b2_F, if_true, if_false, ↓mjn_b, ↓mjn0_b, ↓mjn2_b, iv_lit, iv_add, iv_sub, iv_mul, iv_neg, iv_le_t, iv_le_f, iv_lt_t, iv_lt_f, iv_eq_t, iv_eq_f, iv_div, iv_mod, mretT_p, mretT_b, e_mret, ↓e_bret, ↓m_mon, ↓m_oI0, m_pI0, ↓m_oI3, m_pI3, ↓m_oI5, m_pI5, ↓m_oI7, m_pI7, ↓m_oI11, m_pI11, ↓m_oI12, m_pI12, ↓m_oI13, m_pI13, ↓m_oI14, m_pI14, ↓m_oI15, m_pI15, ↓m_oI16, m_pI16, ↓m_oI17, m_pI17, m_pZ5, m_pZ12, ↓m_oR1, m_aI1, m_sI1, ↓m_oR2, m_aI2, m_sI2, ↓m_oR4, m_aI4, m_sI4, ↓m_oR6, m_aI6, m_sI6, ↓m_oR8, m_aI8, m_sI8, ↓m_oR9, m_aI9, m_sI9, ↓m_oR10, m_aI10, m_sI10, h0, h6, b2_t h5, h5, eh, eh0, q9, X7_here_c ht hs, X7_in_c, Int.add_zero, mst_11, mst_12, mst_b, mst_j, mst_m11, mst_m12, mst_mj]
        · by_cases h7 : 48 ≤ pH (M 6) (M 0 7) (s.1 + 1) ∧ pH (M 6) (M 0 7) (s.1 + 1) ≤ 57
          · by_cases h8 : 10 * (pH (M 6) (M 0 7) s.1 - 48) + pH (M 6) (M 0 7) (s.1 + 1) - 48 ≤ H
            · first | (exfalso; omega) | simp (disch := omega) only [↓reduceIte, Int.reduceEq, Int.reduceNe, Int.reduceLT, Int.reduceLE, Int.reduceNeg, Int.reduceMod, Int.reduceDiv, Int.reduceAdd, Int.reduceSub, Int.reduceMul, not_true_eq_false, not_false_eq_true, Int.lt_irrefl, true_or, or_true, false_or, or_false, true_and, and_true, false_and, and_false, b2_T, b2_F, if_true, if_false, ↓mjn_b, ↓mjn0_b, ↓mjn2_b, iv_lit, iv_add, iv_sub, iv_mul, iv_neg, iv_le_t, iv_le_f, iv_lt_t, iv_lt_f, iv_eq_t, iv_eq_f, iv_div, iv_mod, mretT_p, mretT_b, e_mret, ↓e_bret, ↓m_mon, ↓m_oI0, m_pI0, ↓m_oI3, m_pI3, ↓m_oI5, m_pI5, ↓m_oI7, m_pI7, ↓m_oI11, m_pI11, ↓m_oI12, m_pI12, ↓m_oI13, m_pI13, ↓m_oI14, m_pI14, ↓m_oI15, m_pI15, ↓m_oI16, m_pI16, ↓m_oI17, m_pI17, m_pZ5, m_pZ12, ↓m_oR1, m_aI1, m_sI1, ↓m_oR2, m_aI2, m_sI2, ↓m_oR4, m_aI4, m_sI4, ↓m_oR6, m_aI6, m_sI6, ↓m_oR8, m_aI8, m_sI8, ↓m_oR9, m_aI9, m_sI9, ↓m_oR10, m_aI10, m_sI10, h0, h6, b2_t h5, h5, h7, b2_t h7, h8, eh, eh0, q9, X7_here_c ht hs, X7_in_c, Int.add_zero, mst_11, mst_12, mst_b, mst_j, mst_m11, mst_m12, mst_mj]
            · simp (disch := omega) only [↓reduceIte, Int.reduceEq, Int.reduceNe, Int.reduceLT, Int.reduceLE, Int.reduceNeg, Int.reduceMod, Int.reduceDiv, Int.reduceAdd, Int.reduceSub, Int.reduceMul, not_true_eq_false, not_false_eq_true, Int.lt_irrefl, true_or, or_true, false_or, or_false, true_and, and_true, false_and, and_false, b2_T, b2_F, if_true, if_false, ↓mjn_b, ↓mjn0_b, ↓mjn2_b, iv_lit, iv_add, iv_sub, iv_mul, iv_neg, iv_le_t, iv_le_f, iv_lt_t, iv_lt_f, iv_eq_t, iv_eq_f, iv_div, iv_mod, mretT_p, mretT_b, e_mret, ↓e_bret, ↓m_mon, ↓m_oI0, m_pI0, ↓m_oI3, m_pI3, ↓m_oI5, m_pI5, ↓m_oI7, m_pI7, ↓m_oI11, m_pI11, ↓m_oI12, m_pI12, ↓m_oI13, m_pI13, ↓m_oI14, m_pI14, ↓m_oI15, m_pI15, ↓m_oI16, m_pI16, ↓m_oI17, m_pI17, m_pZ5, m_pZ12, ↓m_oR1, m_aI1, m_sI1, ↓m_oR2, m_aI2, m_sI2, ↓m_oR4, m_aI4, m_sI4, ↓m_oR6, m_aI6, m_sI6, ↓m_oR8, m_aI8, m_sI8, ↓m_oR9, m_aI9, m_sI9, ↓m_oR10, m_aI10, m_sI10, h0, h6, b2_t h5, h5, h7, b2_t h7, h8, eh, eh0, q9, X7_here_c ht hs, X7_in_c, Int.add_zero, mst_11, mst_12, mst_b, mst_j, mst_m11, mst_m12, mst_mj]
          · simp (disch := omega) only [↓reduceIte, Int.reduceEq, Int.reduceNe, Int.reduceLT, Int.reduceLE, Int.reduceNeg, Int.reduceMod, Int.reduceDiv, Int.reduceAdd, Int.reduceSub, Int.reduceMul, not_true_eq_false, not_false_eq_true, Int.lt_irrefl, true_or, or_true, false_or, or_false, true_and, and_true, false_and, and_false, b2_T, b2_F, if_true, if_false, ↓mjn_b, ↓mjn0_b, ↓mjn2_b, iv_lit, iv_add, iv_sub, iv_mul, iv_neg, iv_le_t, iv_le_f, iv_lt_t, iv_lt_f, iv_eq_t, iv_eq_f, iv_div, iv_mod, mretT_p, mretT_b, e_mret, ↓e_bret, ↓m_mon, ↓m_oI0, m_pI0, ↓m_oI3, m_pI3, ↓m_oI5, m_pI5, ↓m_oI7, m_pI7, ↓m_oI11, m_pI11, ↓m_oI12, m_pI12, ↓m_oI13, m_pI13, ↓m_oI14, m_pI14, ↓m_oI15, m_pI15, ↓m_oI16, m_pI16, ↓m_oI17, m_pI17, m_pZ5, m_pZ12, ↓m_oR1, m_aI1, m_sI1, ↓m_oR2, m_aI2, m_sI2, ↓m_oR4, m_aI4, m_sI4, ↓m_oR6, m_aI6, m_sI6, ↓m_oR8, m_aI8, m_sI8, ↓m_oR9, m_aI9, m_sI9, ↓m_oR10, m_aI10, m_sI10, h0, h6, b2_t h5, h5, h7, b2_f h7, eh, eh0, q9, X7_here_c ht hs, X7_in_c, Int.add_zero, mst_11, mst_12, mst_b, mst_j, mst_m11, mst_m12, mst_mj]
      · simp (disch := omega) only [↓reduceIte, Int.reduceEq, Int.reduceNe, Int.reduceLT, Int.reduceLE, Int.reduceNeg, Int.reduceMod, Int.reduceDiv, Int.reduceAdd, Int.reduceSub, Int.reduceMul, not_true_eq_false, not_false_eq_true, Int.lt_irrefl, true_or, or_true, false_or, or_false, true_and, and_true, false_and, and_false, b2_T, b2_F, if_true, if_false, ↓mjn_b, ↓mjn0_b, ↓mjn2_b, iv_lit, iv_add, iv_sub, iv_mul, iv_neg, iv_le_t, iv_le_f, iv_lt_t, iv_lt_f, iv_eq_t, iv_eq_f, iv_div, iv_mod, mretT_p, mretT_b, e_mret, ↓e_bret, ↓m_mon, ↓m_oI0, m_pI0, ↓m_oI3, m_pI3, ↓m_oI5, m_pI5, ↓m_oI7, m_pI7, ↓m_oI11, m_pI11, ↓m_oI12, m_pI12, ↓m_oI13, m_pI13, ↓m_oI14, m_pI14, ↓m_oI15, m_pI15, ↓m_oI16, m_pI16, ↓m_oI17, m_pI17, m_pZ5, m_pZ12, ↓m_oR1, m_aI1, m_sI1, ↓m_oR2, m_aI2, m_sI2, ↓m_oR4, m_aI4, m_sI4, ↓m_oR6, m_aI6, m_sI6, ↓m_oR8, m_aI8, m_sI8, ↓m_oR9, m_aI9, m_sI9, ↓m_oR10, m_aI10, m_sI10, h0, b2_f h5, h5, q9, X7_here_c ht hs, X7_in_c, Int.add_zero, mst_11, mst_12, mst_b, mst_j, mst_m11, mst_m12, mst_mj]
    · simp (disch := omega) only [↓reduceIte, Int.reduceEq, Int.reduceNe, Int.reduceLT, Int.reduceLE, Int.reduceNeg, Int.reduceMod, Int.reduceDiv, Int.reduceAdd, Int.reduceSub, Int.reduceMul, not_true_eq_false, not_false_eq_true, Int.lt_irrefl, true_or, or_true, false_or, or_false, true_and, and_true, false_and, and_false, b2_T, b2_F, if_true, if_false, ↓mjn_b, ↓mjn0_b, ↓mjn2_b, iv_lit, iv_add, iv_sub, iv_mul, iv_neg, iv_le_t, iv_le_f, iv_lt_t, iv_lt_f, iv_eq_t, iv_eq_f, iv_div, iv_mod, mretT_p, mretT_b, e_mret, ↓e_bret, ↓m_mon, ↓m_oI0, m_pI0, ↓m_oI3, m_pI3, ↓m_oI5, m_pI5, ↓m_oI7, m_pI7, ↓m_oI11, m_pI11, ↓m_oI12, m_pI12, ↓m_oI13, m_pI13, ↓m_oI14, m_pI14, ↓m_oI15, m_pI15, ↓m_oI16, m_pI16, ↓m_oI17, m_pI17, m_pZ5, m_pZ12, ↓m_oR1, m_aI1, m_sI1, ↓m_oR2, m_aI2, m_sI2, ↓m_oR4, m_aI4, m_sI4, ↓m_oR6, m_aI6, m_sI6, ↓m_oR8, m_aI8, m_sI8, ↓m_oR9, m_aI9, m_sI9, ↓m_oR10, m_aI10, m_sI10, h0, q9, X7_here_c ht hs, X7_in_c, Int.add_zero, mst_11, mst_12, mst_b, mst_j, mst_m11, mst_m12, mst_mj]
  · rw [show h9 H = H from if_neg q9] at h99 ⊢
    by_cases h0 : s.2 = 0
    · by_cases h5 : 0 ≤ pH (M 6) (M 0 7) s.1 - 48 ∧ pH (M 6) (M 0 7) s.1 - 48 ≤ H
      · have hl : s.1 < M 0 7 := by
          have q := h5.1
          unfold pH at q
          by_cases hl : s.1 < M 0 7
          · exact hl
          · rw [if_neg hl] at q; omega
        have hs1 : sok (M 0 7) (s.1 + 1, 0) := ⟨by simp only; omega, Or.inl rfl⟩
        have h31 := pH_rg ht (a := s.1 + 1) (by omega)
        have eh : ∀ (K : Int32 → HM Int32), mb (mcall0 (fX7_here g (some m))) K (md m (mst M (s.1 + 1, 0)) h, n, w) = K (iv (pH (M 6) (M 0 7) (s.1 + 1))) (md m (mst M (s.1 + 1, 0)) h, n, w) := fun K => X7_here_c ht hs1
        have hs0 : sok (M 0 7) (s.1, 0) := ⟨h2, Or.inl rfl⟩
        have eh0 : ∀ (K : Int32 → HM Int32), mb (mcall0 (fX7_here g (some m))) K (md m (mst M (s.1, 0)) h, n, w) = K (iv (pH (M 6) (M 0 7) s.1)) (md m (mst M (s.1, 0)) h, n, w) := fun K => X7_here_c ht hs0
        by_cases h6 : pH (M 6) (M 0 7) s.1 - 48 ≤ 0
        · simp (disch := omega) only [↓reduceIte, Int.reduceEq, Int.reduceNe, Int.reduceLT, Int.reduceLE, Int.reduceNeg, Int.reduceMod, Int.reduceDiv, Int.reduceAdd, Int.reduceSub, Int.reduceMul, not_true_eq_false, not_false_eq_true, Int.lt_irrefl, true_or, or_true, false_or, or_false, true_and, and_true, false_and, and_false, b2_T, b2_F, if_true, if_false, ↓mjn_b, ↓mjn0_b, ↓mjn2_b, iv_lit, iv_add, iv_sub, iv_mul, iv_neg, iv_le_t, iv_le_f, iv_lt_t, iv_lt_f, iv_eq_t, iv_eq_f, iv_div, iv_mod, mretT_p, mretT_b, e_mret, ↓e_bret, ↓m_mon, ↓m_oI0, m_pI0, ↓m_oI3, m_pI3, ↓m_oI5, m_pI5, ↓m_oI7, m_pI7, ↓m_oI11, m_pI11, ↓m_oI12, m_pI12, ↓m_oI13, m_pI13, ↓m_oI14, m_pI14, ↓m_oI15, m_pI15, ↓m_oI16, m_pI16, ↓m_oI17, m_pI17, m_pZ5, m_pZ12, ↓m_oR1, m_aI1, m_sI1, ↓m_oR2, m_aI2, m_sI2, ↓m_oR4, m_aI4, m_sI4, ↓m_oR6, m_aI6, m_sI6, ↓m_oR8, m_aI8, m_sI8, ↓m_oR9, m_aI9, m_sI9, ↓m_oR10, m_aI10, m_sI10, h0, h6, b2_t h5, h5, eh, eh0, q9, X7_here_c ht hs, X7_in_c, Int.add_zero, mst_11, mst_12, mst_b, mst_j, mst_m11, mst_m12, mst_mj]
        · by_cases h7 : 48 ≤ pH (M 6) (M 0 7) (s.1 + 1) ∧ pH (M 6) (M 0 7) (s.1 + 1) ≤ 57
          · by_cases h8 : 10 * (pH (M 6) (M 0 7) s.1 - 48) + pH (M 6) (M 0 7) (s.1 + 1) - 48 ≤ H
            · first | (exfalso; omega) | simp (disch := omega) only [↓reduceIte, Int.reduceEq, Int.reduceNe, Int.reduceLT, Int.reduceLE, Int.reduceNeg, Int.reduceMod, Int.reduceDiv, Int.reduceAdd, Int.reduceSub, Int.reduceMul, not_true_eq_false, not_false_eq_true, Int.lt_irrefl, true_or, or_true, false_or, or_false, true_and, and_true, false_and, and_false, b2_T, b2_F, if_true, if_false, ↓mjn_b, ↓mjn0_b, ↓mjn2_b, iv_lit, iv_add, iv_sub, iv_mul, iv_neg, iv_le_t, iv_le_f, iv_lt_t, iv_lt_f, iv_eq_t, iv_eq_f, iv_div, iv_mod, mretT_p, mretT_b, e_mret, ↓e_bret, ↓m_mon, ↓m_oI0, m_pI0, ↓m_oI3, m_pI3, ↓m_oI5, m_pI5, ↓m_oI7, m_pI7, ↓m_oI11, m_pI11, ↓m_oI12, m_pI12, ↓m_oI13, m_pI13, ↓m_oI14, m_pI14, ↓m_oI15, m_pI15, ↓m_oI16, m_pI16, ↓m_oI17, m_pI17, m_pZ5, m_pZ12, ↓m_oR1, m_aI1, m_sI1, ↓m_oR2, m_aI2, m_sI2, ↓m_oR4, m_aI4, m_sI4, ↓m_oR6, m_aI6, m_sI6, ↓m_oR8, m_aI8, m_sI8, ↓m_oR9, m_aI9, m_sI9, ↓m_oR10, m_aI10, m_sI10, h0, h6, b2_t h5, h5, h7, b2_t h7, h8, eh, eh0, q9, X7_here_c ht hs, X7_in_c, Int.add_zero, mst_11, mst_12, mst_b, mst_j, mst_m11, mst_m12, mst_mj]
            · simp (disch := omega) only [↓reduceIte, Int.reduceEq, Int.reduceNe, Int.reduceLT, Int.reduceLE, Int.reduceNeg, Int.reduceMod, Int.reduceDiv, Int.reduceAdd, Int.reduceSub, Int.reduceMul, not_true_eq_false, not_false_eq_true, Int.lt_irrefl, true_or, or_true, false_or, or_false, true_and, and_true, false_and, and_false, b2_T, b2_F, if_true, if_false, ↓mjn_b, ↓mjn0_b, ↓mjn2_b, iv_lit, iv_add, iv_sub, iv_mul, iv_neg, iv_le_t, iv_le_f, iv_lt_t, iv_lt_f, iv_eq_t, iv_eq_f, iv_div, iv_mod, mretT_p, mretT_b, e_mret, ↓e_bret, ↓m_mon, ↓m_oI0, m_pI0, ↓m_oI3, m_pI3, ↓m_oI5, m_pI5, ↓m_oI7, m_pI7, ↓m_oI11, m_pI11, ↓m_oI12, m_pI12, ↓m_oI13, m_pI13, ↓m_oI14, m_pI14, ↓m_oI15, m_pI15, ↓m_oI16, m_pI16, ↓m_oI17, m_pI17, m_pZ5, m_pZ12, ↓m_oR1, m_aI1, m_sI1, ↓m_oR2, m_aI2, m_sI2, ↓m_oR4, m_aI4, m_sI4, ↓m_oR6, m_aI6, m_sI6, ↓m_oR8, m_aI8, m_sI8, ↓m_oR9, m_aI9, m_sI9, ↓m_oR10, m_aI10, m_sI10, h0, h6, b2_t h5, h5, h7, b2_t h7, h8, eh, eh0, q9, X7_here_c ht hs, X7_in_c, Int.add_zero, mst_11, mst_12, mst_b, mst_j, mst_m11, mst_m12, mst_mj]
          · simp (disch := omega) only [↓reduceIte, Int.reduceEq, Int.reduceNe, Int.reduceLT, Int.reduceLE, Int.reduceNeg, Int.reduceMod, Int.reduceDiv, Int.reduceAdd, Int.reduceSub, Int.reduceMul, not_true_eq_false, not_false_eq_true, Int.lt_irrefl, true_or, or_true, false_or, or_false, true_and, and_true, false_and, and_false, b2_T, b2_F, if_true, if_false, ↓mjn_b, ↓mjn0_b, ↓mjn2_b, iv_lit, iv_add, iv_sub, iv_mul, iv_neg, iv_le_t, iv_le_f, iv_lt_t, iv_lt_f, iv_eq_t, iv_eq_f, iv_div, iv_mod, mretT_p, mretT_b, e_mret, ↓e_bret, ↓m_mon, ↓m_oI0, m_pI0, ↓m_oI3, m_pI3, ↓m_oI5, m_pI5, ↓m_oI7, m_pI7, ↓m_oI11, m_pI11, ↓m_oI12, m_pI12, ↓m_oI13, m_pI13, ↓m_oI14, m_pI14, ↓m_oI15, m_pI15, ↓m_oI16, m_pI16, ↓m_oI17, m_pI17, m_pZ5, m_pZ12, ↓m_oR1, m_aI1, m_sI1, ↓m_oR2, m_aI2, m_sI2, ↓m_oR4, m_aI4, m_sI4, ↓m_oR6, m_aI6, m_sI6, ↓m_oR8, m_aI8, m_sI8, ↓m_oR9, m_aI9, m_sI9, ↓m_oR10, m_aI10, m_sI10, h0, h6, b2_t h5, h5, h7, b2_f h7, eh, eh0, q9, X7_here_c ht hs, X7_in_c, Int.add_zero, mst_11, mst_12, mst_b, mst_j, mst_m11, mst_m12, mst_mj]
      · simp (disch := omega) only [↓reduceIte, Int.reduceEq, Int.reduceNe, Int.reduceLT, Int.reduceLE, Int.reduceNeg, Int.reduceMod, Int.reduceDiv, Int.reduceAdd, Int.reduceSub, Int.reduceMul, not_true_eq_false, not_false_eq_true, Int.lt_irrefl, true_or, or_true, false_or, or_false, true_and, and_true, false_and, and_false, b2_T, b2_F, if_true, if_false, ↓mjn_b, ↓mjn0_b, ↓mjn2_b, iv_lit, iv_add, iv_sub, iv_mul, iv_neg, iv_le_t, iv_le_f, iv_lt_t, iv_lt_f, iv_eq_t, iv_eq_f, iv_div, iv_mod, mretT_p, mretT_b, e_mret, ↓e_bret, ↓m_mon, ↓m_oI0, m_pI0, ↓m_oI3, m_pI3, ↓m_oI5, m_pI5, ↓m_oI7, m_pI7, ↓m_oI11, m_pI11, ↓m_oI12, m_pI12, ↓m_oI13, m_pI13, ↓m_oI14, m_pI14, ↓m_oI15, m_pI15, ↓m_oI16, m_pI16, ↓m_oI17, m_pI17, m_pZ5, m_pZ12, ↓m_oR1, m_aI1, m_sI1, ↓m_oR2, m_aI2, m_sI2, ↓m_oR4, m_aI4, m_sI4, ↓m_oR6, m_aI6, m_sI6, ↓m_oR8, m_aI8, m_sI8, ↓m_oR9, m_aI9, m_sI9, ↓m_oR10, m_aI10, m_sI10, h0, b2_f h5, h5, q9, X7_here_c ht hs, X7_in_c, Int.add_zero, mst_11, mst_12, mst_b, mst_j, mst_m11, mst_m12, mst_mj]
    · simp (disch := omega) only [↓reduceIte, Int.reduceEq, Int.reduceNe, Int.reduceLT, Int.reduceLE, Int.reduceNeg, Int.reduceMod, Int.reduceDiv, Int.reduceAdd, Int.reduceSub, Int.reduceMul, not_true_eq_false, not_false_eq_true, Int.lt_irrefl, true_or, or_true, false_or, or_false, true_and, and_true, false_and, and_false, b2_T, b2_F, if_true, if_false, ↓mjn_b, ↓mjn0_b, ↓mjn2_b, iv_lit, iv_add, iv_sub, iv_mul, iv_neg, iv_le_t, iv_le_f, iv_lt_t, iv_lt_f, iv_eq_t, iv_eq_f, iv_div, iv_mod, mretT_p, mretT_b, e_mret, ↓e_bret, ↓m_mon, ↓m_oI0, m_pI0, ↓m_oI3, m_pI3, ↓m_oI5, m_pI5, ↓m_oI7, m_pI7, ↓m_oI11, m_pI11, ↓m_oI12, m_pI12, ↓m_oI13, m_pI13, ↓m_oI14, m_pI14, ↓m_oI15, m_pI15, ↓m_oI16, m_pI16, ↓m_oI17, m_pI17, m_pZ5, m_pZ12, ↓m_oR1, m_aI1, m_sI1, ↓m_oR2, m_aI2, m_sI2, ↓m_oR4, m_aI4, m_sI4, ↓m_oR6, m_aI6, m_sI6, ↓m_oR8, m_aI8, m_sI8, ↓m_oR9, m_aI9, m_sI9, ↓m_oR10, m_aI10, m_sI10, h0, q9, X7_here_c ht hs, X7_in_c, Int.add_zero, mst_11, mst_12, mst_b, mst_j, mst_m11, mst_m12, mst_mj]
theorem X7_number_c {β : Type} {K : Int32 → HM β} {g : Nat → Nat} {h : Nat → Option hC} {n w m : Nat} {M : Mm} {s : Int × Int} {H : Int} (ht : txt (M 6) (M 0 7)) (hs : sok (M 0 7) s) (hH : 0 ≤ H ∧ H ≤ 29) : mb (mcall0 (fX7_number g (some m) (iv H))) K (md m (mst M s) h, n, w) = K (iv (pN (M 6) (M 0 7) H s).2) (md m (mst M (pN (M 6) (M 0 7) H s).1) h, n, w) := e_call0 (X7_number_ev ht hs hH)
/-- a text's order: the state behind it and its numbers -/
def pK (c : Int) : Prop := c = 116 ∨ c = 109 ∨ c = 114 ∨ c = 112 ∨ c = 115 ∨ c = 117 ∨ c = 120
noncomputable def pS0 (T : Int → Int) (l a : Int) : Int × Int := @ite (Int × Int) (pK (pH T l a)) (Classical.propDecidable _) (a + 1, 0) (a, 1)
def pHi (c : Int) : Int := if c = 116 then 2 else if c = 109 ∨ c = 114 then 9 else if c = 112 then 15 else 29
theorem pS0_ok {T : Int → Int} {l a : Int} (ha : 0 ≤ a ∧ a ≤ l) : sok l (pS0 T l a) := by
  unfold pS0
  split
  · rename_i h
    unfold pK pH at h
    by_cases hl : a < l
    · exact ⟨by simp only; omega, Or.inl rfl⟩
    · rw [if_neg hl] at h; omega
  · exact ⟨ha, Or.inr rfl⟩
/-- two steps: a sign, then a number -/
def pTN (T : Int → Int) (l c H : Int) (s : Int × Int) : (Int × Int) × Int := pN T l H (pT T l c s)
theorem pTN_ok {T : Int → Int} {l c H : Int} {s : Int × Int} (hs : sok l s) (hc : c ≠ 0) : sok l (pTN T l c H s).1 := pN_ok (pT_ok hs hc)
noncomputable def pO (T : Int → Int) (l a : Int) : (Int × Int) × Int × Int × Int × Int :=
  let c := pH T l a
  let s1 := pN T l (pHi c) (pS0 T l a)
  if c = 116 then
    let s2 := pTN T l 64 15 s1.1
    let s3 := pTN T l 44 11 s2.1
    let s4 := pTN T l 58 3 s3.1
    (s4.1, s1.2, s2.2, s3.2, s4.2)
  else if c = 109 then
    let s2 := pTN T l 64 15 s1.1
    let s3 := pTN T l 44 11 s2.1
    (s3.1, s1.2, s2.2, s3.2, 0)
  else if c = 114 then let s2 := pTN T l 58 3 s1.1; (s2.1, s1.2, s2.2, 0, 0)
  else if c = 112 then let s2 := pTN T l 44 11 s1.1; (s2.1, s1.2, s2.2, 0, 0)
  else if c = 115 then
    let s2 := pTN T l 64 9 s1.1
    let s3 := pTN T l 46 7 s2.1
    (s3.1, s1.2, s2.2, s3.2, 0)
  else if c = 120 then let s2 := pTN T l 44 29 s1.1; (s2.1, s1.2, s2.2, 0, 0)
  else (s1.1, s1.2, 0, 0, 0)
theorem pO_ok {T : Int → Int} {l a : Int} (ha : 0 ≤ a ∧ a ≤ l) : sok l (pO T l a).1 := by
  have h0 := pN_ok (T := T) (H := pHi (pH T l a)) (pS0_ok (T := T) ha)
  unfold pO
  simp only
  split
  · exact pTN_ok (pTN_ok (pTN_ok h0 (by decide)) (by decide)) (by decide)
  · split
    · exact pTN_ok (pTN_ok h0 (by decide)) (by decide)
    · split
      · exact pTN_ok h0 (by decide)
      · split
        · exact pTN_ok h0 (by decide)
        · split
          · exact pTN_ok (pTN_ok h0 (by decide)) (by decide)
          · split
            · exact pTN_ok h0 (by decide)
            · exact h0
