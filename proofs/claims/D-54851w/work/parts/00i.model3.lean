/-! ===== the model: the steps from the door ===== -/
theorem mu_iu {M : Mm} {b : Nat} {i x : Int} : (mu M b i x) b = iu (M b) i x := by
  funext j
  unfold mu iu
  by_cases h : j = i
  · rw [if_pos ⟨rfl, h⟩, if_pos h]
  · rw [if_neg (fun q => h q.2), if_neg h]
theorem mu_ob {M : Mm} {b c : Nat} {i x : Int} (h : c ≠ b) : (mu M b i x) c = M c := by
  funext j
  exact mu_nb h
/-- a run of a bank filled -/
def mfl (M : Mm) (b : Nat) (i e v : Int) : Mm := fun b' j => if b' = b ∧ i ≤ j ∧ j < e then v else M b' j
theorem mfl_nil {M : Mm} {b : Nat} {i e v : Int} (h : e ≤ i) : mfl M b i e v = M := by
  funext b' j
  unfold mfl
  exact if_neg (fun q => by omega)
theorem mfl_cons {M : Mm} {b : Nat} {i e v : Int} (h : i < e) : mfl (mu M b i v) b (i + 1) e v = mfl M b i e v := by
  funext b' j
  unfold mfl mu
  by_cases hb : b' = b
  · subst hb
    by_cases h1 : i + 1 ≤ j ∧ j < e
    · rw [if_pos ⟨rfl, h1⟩, if_pos ⟨rfl, by omega, by omega⟩]
    · rw [if_neg (fun q => h1 q.2)]
      by_cases h2 : j = i
      · rw [if_pos ⟨rfl, h2⟩, if_pos ⟨rfl, by omega, by omega⟩]
      · rw [if_neg (fun q => h2 q.2), if_neg (fun q => by omega)]
  · rw [if_neg (fun q => hb q.1), if_neg (fun q => hb q.1), if_neg (fun q => hb q.1)]
theorem mfl_ob {M : Mm} {b c : Nat} {i e v : Int} (h : c ≠ b) : mfl M b i e v c = M c := by
  funext j
  exact if_neg (fun q => h q.1)
theorem mfl_at {M : Mm} {b : Nat} {i e v j : Int} (h : i ≤ j ∧ j < e) : mfl M b i e v b j = v := if_pos ⟨rfl, h⟩

theorem X7_spread_L2_ev {g : Nat → Nat} {h : Nat → Option hC} {n w m : Nat} {K : HM Unit} : ∀ (k nn : Nat) (M : Mm) (i : Int), k < nn → 0 ≤ i → i + k = 192 → fX7_spread_L2 g nn (some m) (iv i) K (md m M h, n, w) = K (md m (mfl M 9 i 192 (-1)) h, n, w) := by
  intro k
  induction k with
  | zero =>
    intro nn M i hn hi he
    obtain ⟨q, rfl⟩ : ∃ q, nn = q + 1 := ⟨nn - 1, by omega⟩
    rw [mfl_nil (by omega)]
    simp (disch := omega) only [↓reduceIte, Int.reduceEq, Int.reduceNe, Int.reduceLT, Int.reduceLE, Int.reduceNeg, Int.reduceMod, Int.reduceDiv, Int.reduceAdd, Int.reduceSub, Int.reduceMul, not_true_eq_false, not_false_eq_true, true_or, or_true, false_or, or_false, true_and, and_true, false_and, and_false, b2_T, b2_F, if_true, if_false, ↓mjn_b, ↓mjn0_b, ↓mjn2_b, iv_lit, iv_add, iv_sub, iv_mul, iv_neg, iv_le_t, iv_le_f, iv_lt_t, iv_lt_f, iv_eq_t, iv_eq_f, iv_div, iv_mod, mretT_p, mretT_b, e_mret, ↓e_bret, ↓m_mon, ↓m_oI0, m_pI0, ↓m_oI3, m_pI3, ↓m_oI5, m_pI5, ↓m_oI7, m_pI7, ↓m_oI11, m_pI11, ↓m_oI12, m_pI12, ↓m_oI13, m_pI13, ↓m_oI14, m_pI14, ↓m_oI15, m_pI15, ↓m_oI16, m_pI16, ↓m_oI17, m_pI17, m_pZ5, m_pZ12, ↓m_oR1, m_aI1, m_sI1, ↓m_oR2, m_aI2, m_sI2, ↓m_oR4, m_aI4, m_sI4, ↓m_oR6, m_aI6, m_sI6, ↓m_oR8, m_aI8, m_sI8, ↓m_oR9, m_aI9, m_sI9, ↓m_oR10, m_aI10, m_sI10, fX7_spread_L2]
  | succ k ih =>
    intro nn M i hn hi he
    obtain ⟨q, rfl⟩ : ∃ q, nn = q + 1 := ⟨nn - 1, by omega⟩
    rw [← mfl_cons (by omega)]
    simp (disch := omega) only [↓reduceIte, Int.reduceEq, Int.reduceNe, Int.reduceLT, Int.reduceLE, Int.reduceNeg, Int.reduceMod, Int.reduceDiv, Int.reduceAdd, Int.reduceSub, Int.reduceMul, not_true_eq_false, not_false_eq_true, true_or, or_true, false_or, or_false, true_and, and_true, false_and, and_false, b2_T, b2_F, if_true, if_false, ↓mjn_b, ↓mjn0_b, ↓mjn2_b, iv_lit, iv_add, iv_sub, iv_mul, iv_neg, iv_le_t, iv_le_f, iv_lt_t, iv_lt_f, iv_eq_t, iv_eq_f, iv_div, iv_mod, mretT_p, mretT_b, e_mret, ↓e_bret, ↓m_mon, ↓m_oI0, m_pI0, ↓m_oI3, m_pI3, ↓m_oI5, m_pI5, ↓m_oI7, m_pI7, ↓m_oI11, m_pI11, ↓m_oI12, m_pI12, ↓m_oI13, m_pI13, ↓m_oI14, m_pI14, ↓m_oI15, m_pI15, ↓m_oI16, m_pI16, ↓m_oI17, m_pI17, m_pZ5, m_pZ12, ↓m_oR1, m_aI1, m_sI1, ↓m_oR2, m_aI2, m_sI2, ↓m_oR4, m_aI4, m_sI4, ↓m_oR6, m_aI6, m_sI6, ↓m_oR8, m_aI8, m_sI8, ↓m_oR9, m_aI9, m_sI9, ↓m_oR10, m_aI10, m_sI10, fX7_spread_L2, ih]
theorem X7_check_L31_ev {g : Nat → Nat} {h : Nat → Option hC} {n w m : Nat} {K : HM Int32} : ∀ (k nn : Nat) (M : Mm) (i : Int), k < nn → 0 ≤ i → i + k = 192 → fX7_check_L31 g nn (some m) (iv i) K (md m M h, n, w) = K (md m (mfl M 8 i 192 (0)) h, n, w) := by
  intro k
  induction k with
  | zero =>
    intro nn M i hn hi he
    obtain ⟨q, rfl⟩ : ∃ q, nn = q + 1 := ⟨nn - 1, by omega⟩
    rw [mfl_nil (by omega)]
    simp (disch := omega) only [↓reduceIte, Int.reduceEq, Int.reduceNe, Int.reduceLT, Int.reduceLE, Int.reduceNeg, Int.reduceMod, Int.reduceDiv, Int.reduceAdd, Int.reduceSub, Int.reduceMul, not_true_eq_false, not_false_eq_true, true_or, or_true, false_or, or_false, true_and, and_true, false_and, and_false, b2_T, b2_F, if_true, if_false, ↓mjn_b, ↓mjn0_b, ↓mjn2_b, iv_lit, iv_add, iv_sub, iv_mul, iv_neg, iv_le_t, iv_le_f, iv_lt_t, iv_lt_f, iv_eq_t, iv_eq_f, iv_div, iv_mod, mretT_p, mretT_b, e_mret, ↓e_bret, ↓m_mon, ↓m_oI0, m_pI0, ↓m_oI3, m_pI3, ↓m_oI5, m_pI5, ↓m_oI7, m_pI7, ↓m_oI11, m_pI11, ↓m_oI12, m_pI12, ↓m_oI13, m_pI13, ↓m_oI14, m_pI14, ↓m_oI15, m_pI15, ↓m_oI16, m_pI16, ↓m_oI17, m_pI17, m_pZ5, m_pZ12, ↓m_oR1, m_aI1, m_sI1, ↓m_oR2, m_aI2, m_sI2, ↓m_oR4, m_aI4, m_sI4, ↓m_oR6, m_aI6, m_sI6, ↓m_oR8, m_aI8, m_sI8, ↓m_oR9, m_aI9, m_sI9, ↓m_oR10, m_aI10, m_sI10, fX7_check_L31]
  | succ k ih =>
    intro nn M i hn hi he
    obtain ⟨q, rfl⟩ : ∃ q, nn = q + 1 := ⟨nn - 1, by omega⟩
    rw [← mfl_cons (by omega)]
    simp (disch := omega) only [↓reduceIte, Int.reduceEq, Int.reduceNe, Int.reduceLT, Int.reduceLE, Int.reduceNeg, Int.reduceMod, Int.reduceDiv, Int.reduceAdd, Int.reduceSub, Int.reduceMul, not_true_eq_false, not_false_eq_true, true_or, or_true, false_or, or_false, true_and, and_true, false_and, and_false, b2_T, b2_F, if_true, if_false, ↓mjn_b, ↓mjn0_b, ↓mjn2_b, iv_lit, iv_add, iv_sub, iv_mul, iv_neg, iv_le_t, iv_le_f, iv_lt_t, iv_lt_f, iv_eq_t, iv_eq_f, iv_div, iv_mod, mretT_p, mretT_b, e_mret, ↓e_bret, ↓m_mon, ↓m_oI0, m_pI0, ↓m_oI3, m_pI3, ↓m_oI5, m_pI5, ↓m_oI7, m_pI7, ↓m_oI11, m_pI11, ↓m_oI12, m_pI12, ↓m_oI13, m_pI13, ↓m_oI14, m_pI14, ↓m_oI15, m_pI15, ↓m_oI16, m_pI16, ↓m_oI17, m_pI17, m_pZ5, m_pZ12, ↓m_oR1, m_aI1, m_sI1, ↓m_oR2, m_aI2, m_sI2, ↓m_oR4, m_aI4, m_sI4, ↓m_oR6, m_aI6, m_sI6, ↓m_oR8, m_aI8, m_sI8, ↓m_oR9, m_aI9, m_sI9, ↓m_oR10, m_aI10, m_sI10, fX7_check_L31, ih]
/-- the w-th neighbour of a cell, as spread() looks for it -/
def dX (w : Int) : Int := if w = 0 then 1 else if w = 1 then -1 else 0
def dY (w : Int) : Int := if w = 2 then 1 else if w = 3 then -1 else 0
def nbS (c w x : Int) : Prop := inR (c % 16 + dX w) (c / 16 + dY w) ∧ x = 16 * (c / 16 + dY w) + (c % 16 + dX w)
theorem nbS_adj {c w x : Int} (hc : cin c) (hw : 0 ≤ w ∧ w < 4) (h : nbS c w x) : adj c x := by
  unfold nbS inR dX dY at h
  unfold cin at hc
  unfold adj
  have : w = 0 ∨ w = 1 ∨ w = 2 ∨ w = 3 := by omega
  rcases this with rfl | rfl | rfl | rfl <;> simp only [Int.reduceEq, if_true, if_false] at h <;> omega
theorem adj_nbS {c x : Int} (hc : cin c) (h : adj c x) : ∃ w, (0 ≤ w ∧ w < 4) ∧ nbS c w x := by
  unfold cin at hc
  unfold adj at h
  obtain ⟨h1, h2 | h2 | h2 | h2⟩ := h
  · refine ⟨3, by omega, ?_⟩
    unfold nbS inR dX dY
    simp only [Int.reduceEq, if_true, if_false]
    omega
  · refine ⟨2, by omega, ?_⟩
    unfold nbS inR dX dY
    simp only [Int.reduceEq, if_true, if_false]
    omega
  · refine ⟨0, by omega, ?_⟩
    unfold nbS inR dX dY
    simp only [Int.reduceEq, if_true, if_false]
    omega
  · refine ⟨1, by omega, ?_⟩
    unfold nbS inR dX dY
    simp only [Int.reduceEq, if_true, if_false]
    omega
def wS (c y : Int) : Int → Prop := fun x => ∃ w, (0 ≤ w ∧ w < y) ∧ nbS c w x
theorem wS_s {c y x nx : Int} (h : wS c (y + 1) x) (hn : ∀ x, nbS c y x → x = nx) : wS c y x ∨ x = nx := by
  obtain ⟨w, h1, h2⟩ := h
  by_cases e : w = y
  · subst e; exact Or.inr (hn x h2)
  · exact Or.inl ⟨w, by omega, h2⟩
/-- what the map may hold -/
def mrg (f : Int → Int) : Prop := ∀ c, cin c → 0 ≤ f c ∧ f c ≤ 60

theorem X7_spread_s0 {g : Nat → Nat} {h : Nat → Option hC} {n w m : Nat} {K : Int32 → HM Unit} {d i cell : Int} {f : Int → Int} (hf : mrg f) (hcell : cin cell) (q : Nat) (M : Mm) (cnt : Int) (hM : M 8 = f) (hB : BJ (entD f 30) (expD f d) d (M 9) (M 10) cnt i (wS cell 0)) (hi : i < cnt) (hq : M 10 i = cell) :
    ∃ (M' : Mm) (cnt' : Int), fX7_spread_L65 g (q + 1) (some m) (iv cnt) (iv i) (iv cell) (iv 0) K (md m M h, n, w) = fX7_spread_L65 g q (some m) (iv cnt') (iv i) (iv cell) (iv (0 + 1)) K (md m M' h, n, w) ∧ BJ (entD f 30) (expD f d) d (M' 9) (M' 10) cnt' i (wS cell (0 + 1)) ∧ i < cnt' ∧ M' 10 i = cell ∧ ∀ b, b ≠ 9 → b ≠ 10 → M' b = M b := by
    have hlen := BI_len hB.1
    have hi0 := hB.1.1
    have hc := hcell
    unfold cin at hc
    have hnx : ∀ x, nbS cell 0 x → x = (16 * (cell / 16 + 0) + (cell % 16 + 1)) := fun x hx => hx.2
    by_cases hP : (0 ≤ cell % 16 + 1 ∧ cell % 16 + 1 ≤ 15) ∧ 0 ≤ cell / 16 + 0 ∧ cell / 16 + 0 ≤ 11
    · have hnc : cin (16 * (cell / 16 + 0) + (cell % 16 + 1)) := by unfold cin; omega
      have hadj : adj cell (16 * (cell / 16 + 0) + (cell % 16 + 1)) := nbS_adj hcell (w := 0) (by omega) ⟨hP, rfl⟩
      have hr9 := BJ_rg hB hnc
      have hr9c := BJ_rg hB hcell
      have hr8 := hf _ hnc
      rw [← hM] at hr8
      have hcn := hnc
      unfold cin at hcn
      by_cases hu : M 9 (16 * (cell / 16 + 0) + (cell % 16 + 1)) = -1
      · have hroom := BI_room hB.1 hnc hu
        have hnd : (16 * (cell / 16 + 0) + (cell % 16 + 1)) ≠ d := fun e => by
          have := hB.1.2.2.1
          rw [← e] at this
          omega
        by_cases h0 : M 8 (16 * (cell / 16 + 0) + (cell % 16 + 1)) = 0
        · have hB2 : BJ (entD f 30) (expD f d) d ((mu (mu M 9 (16 * (cell / 16 + 0) + (cell % 16 + 1)) (M 9 cell + 1)) 10 cnt (16 * (cell / 16 + 0) + (cell % 16 + 1))) 9) ((mu (mu M 9 (16 * (cell / 16 + 0) + (cell % 16 + 1)) (M 9 cell + 1)) 10 cnt (16 * (cell / 16 + 0) + (cell % 16 + 1))) 10) (cnt + 1) i (wS cell (0 + 1)) := by
            rw [mu_ob (by decide), mu_iu, mu_iu, mu_ob (by decide)]
            have ht := BJ_take (x := (16 * (cell / 16 + 0) + (cell % 16 + 1))) (Q' := iu (M 10) cnt (16 * (cell / 16 + 0) + (cell % 16 + 1))) (m' := cnt + 1) (W' := wS cell (0 + 1)) hB hi (by rw [hq]; exact hadj) (Or.inl (by rw [← hM]; exact h0)) hu (fun j a b => iu_ne (by omega)) (Or.inl ⟨Or.inr (by rw [← hM]; exact h0), rfl, iu_at rfl⟩) (fun c hc => wS_s hc hnx)
            rw [hq] at ht
            exact ht
          refine ⟨mu (mu M 9 (16 * (cell / 16 + 0) + (cell % 16 + 1)) (M 9 cell + 1)) 10 cnt (16 * (cell / 16 + 0) + (cell % 16 + 1)), cnt + 1, ?_, hB2, by omega, by rw [mu_iu, iu_ne (by omega), mu_ob (by decide)]; exact hq, fun b b9 b10 => by rw [mu_ob b10, mu_ob b9]⟩
          simp (disch := omega) only [↓reduceIte, Int.reduceEq, Int.reduceNe, Int.reduceLT, Int.reduceLE, Int.reduceNeg, Int.reduceMod, Int.reduceDiv, Int.reduceAdd, Int.reduceSub, Int.reduceMul, not_true_eq_false, not_false_eq_true, true_or, or_true, false_or, or_false, true_and, and_true, false_and, and_false, b2_T, b2_F, if_true, if_false, ↓mjn_b, ↓mjn0_b, ↓mjn2_b, iv_lit, iv_add, iv_sub, iv_mul, iv_neg, iv_le_t, iv_le_f, iv_lt_t, iv_lt_f, iv_eq_t, iv_eq_f, iv_div, iv_mod, mretT_p, mretT_b, e_mret, ↓e_bret, ↓m_mon, ↓m_oI0, m_pI0, ↓m_oI3, m_pI3, ↓m_oI5, m_pI5, ↓m_oI7, m_pI7, ↓m_oI11, m_pI11, ↓m_oI12, m_pI12, ↓m_oI13, m_pI13, ↓m_oI14, m_pI14, ↓m_oI15, m_pI15, ↓m_oI16, m_pI16, ↓m_oI17, m_pI17, m_pZ5, m_pZ12, ↓m_oR1, m_aI1, m_sI1, ↓m_oR2, m_aI2, m_sI2, ↓m_oR4, m_aI4, m_sI4, ↓m_oR6, m_aI6, m_sI6, ↓m_oR8, m_aI8, m_sI8, ↓m_oR9, m_aI9, m_sI9, ↓m_oR10, m_aI10, m_sI10, fX7_spread_L65, X7_isCell_c, b2_t hP, hu, h0, mu_nb, mu_at, mu_ni]
        · by_cases h30 : M 8 (16 * (cell / 16 + 0) + (cell % 16 + 1)) < 30
          · have hB2 : BJ (entD f 30) (expD f d) d (M 9) (M 10) cnt i (wS cell (0 + 1)) := BJ_skip hB hi (fun _ e => by
              exfalso
              unfold entD at e
              rw [← hM] at e
              omega) (fun c hc => wS_s hc hnx)
            refine ⟨M, cnt, ?_, hB2, hi, hq, fun b _ _ => rfl⟩
            simp (disch := omega) only [↓reduceIte, Int.reduceEq, Int.reduceNe, Int.reduceLT, Int.reduceLE, Int.reduceNeg, Int.reduceMod, Int.reduceDiv, Int.reduceAdd, Int.reduceSub, Int.reduceMul, not_true_eq_false, not_false_eq_true, true_or, or_true, false_or, or_false, true_and, and_true, false_and, and_false, b2_T, b2_F, if_true, if_false, ↓mjn_b, ↓mjn0_b, ↓mjn2_b, iv_lit, iv_add, iv_sub, iv_mul, iv_neg, iv_le_t, iv_le_f, iv_lt_t, iv_lt_f, iv_eq_t, iv_eq_f, iv_div, iv_mod, mretT_p, mretT_b, e_mret, ↓e_bret, ↓m_mon, ↓m_oI0, m_pI0, ↓m_oI3, m_pI3, ↓m_oI5, m_pI5, ↓m_oI7, m_pI7, ↓m_oI11, m_pI11, ↓m_oI12, m_pI12, ↓m_oI13, m_pI13, ↓m_oI14, m_pI14, ↓m_oI15, m_pI15, ↓m_oI16, m_pI16, ↓m_oI17, m_pI17, m_pZ5, m_pZ12, ↓m_oR1, m_aI1, m_sI1, ↓m_oR2, m_aI2, m_sI2, ↓m_oR4, m_aI4, m_sI4, ↓m_oR6, m_aI6, m_sI6, ↓m_oR8, m_aI8, m_sI8, ↓m_oR9, m_aI9, m_sI9, ↓m_oR10, m_aI10, m_sI10, fX7_spread_L65, X7_isCell_c, b2_t hP, hu]
          · have hB2 : BJ (entD f 30) (expD f d) d ((mu M 9 (16 * (cell / 16 + 0) + (cell % 16 + 1)) (M 9 cell + 1)) 9) ((mu M 9 (16 * (cell / 16 + 0) + (cell % 16 + 1)) (M 9 cell + 1)) 10) cnt i (wS cell (0 + 1)) := by
              rw [mu_iu, mu_ob (by decide)]
              have ht := BJ_take (x := (16 * (cell / 16 + 0) + (cell % 16 + 1))) (Q' := M 10) (m' := cnt) (W' := wS cell (0 + 1)) hB hi (by rw [hq]; exact hadj) (Or.inr (by rw [← hM]; omega)) hu (fun j a b => rfl) (Or.inr ⟨fun e => e.elim hnd (fun z => h0 (by rw [hM]; exact z)), rfl⟩) (fun c hc => wS_s hc hnx)
              rw [hq] at ht
              exact ht
            refine ⟨mu M 9 (16 * (cell / 16 + 0) + (cell % 16 + 1)) (M 9 cell + 1), cnt, ?_, hB2, hi, by rw [mu_ob (by decide)]; exact hq, fun b b9 b10 => by rw [mu_ob b9]⟩
            simp (disch := omega) only [↓reduceIte, Int.reduceEq, Int.reduceNe, Int.reduceLT, Int.reduceLE, Int.reduceNeg, Int.reduceMod, Int.reduceDiv, Int.reduceAdd, Int.reduceSub, Int.reduceMul, not_true_eq_false, not_false_eq_true, true_or, or_true, false_or, or_false, true_and, and_true, false_and, and_false, b2_T, b2_F, if_true, if_false, ↓mjn_b, ↓mjn0_b, ↓mjn2_b, iv_lit, iv_add, iv_sub, iv_mul, iv_neg, iv_le_t, iv_le_f, iv_lt_t, iv_lt_f, iv_eq_t, iv_eq_f, iv_div, iv_mod, mretT_p, mretT_b, e_mret, ↓e_bret, ↓m_mon, ↓m_oI0, m_pI0, ↓m_oI3, m_pI3, ↓m_oI5, m_pI5, ↓m_oI7, m_pI7, ↓m_oI11, m_pI11, ↓m_oI12, m_pI12, ↓m_oI13, m_pI13, ↓m_oI14, m_pI14, ↓m_oI15, m_pI15, ↓m_oI16, m_pI16, ↓m_oI17, m_pI17, m_pZ5, m_pZ12, ↓m_oR1, m_aI1, m_sI1, ↓m_oR2, m_aI2, m_sI2, ↓m_oR4, m_aI4, m_sI4, ↓m_oR6, m_aI6, m_sI6, ↓m_oR8, m_aI8, m_sI8, ↓m_oR9, m_aI9, m_sI9, ↓m_oR10, m_aI10, m_sI10, fX7_spread_L65, X7_isCell_c, b2_t hP, hu, mu_nb, mu_at, mu_ni]
      · have hB2 : BJ (entD f 30) (expD f d) d (M 9) (M 10) cnt i (wS cell (0 + 1)) := BJ_skip hB hi (fun _ _ => by omega) (fun c hc => wS_s hc hnx)
        refine ⟨M, cnt, ?_, hB2, hi, hq, fun b _ _ => rfl⟩
        simp (disch := omega) only [↓reduceIte, Int.reduceEq, Int.reduceNe, Int.reduceLT, Int.reduceLE, Int.reduceNeg, Int.reduceMod, Int.reduceDiv, Int.reduceAdd, Int.reduceSub, Int.reduceMul, not_true_eq_false, not_false_eq_true, true_or, or_true, false_or, or_false, true_and, and_true, false_and, and_false, b2_T, b2_F, if_true, if_false, ↓mjn_b, ↓mjn0_b, ↓mjn2_b, iv_lit, iv_add, iv_sub, iv_mul, iv_neg, iv_le_t, iv_le_f, iv_lt_t, iv_lt_f, iv_eq_t, iv_eq_f, iv_div, iv_mod, mretT_p, mretT_b, e_mret, ↓e_bret, ↓m_mon, ↓m_oI0, m_pI0, ↓m_oI3, m_pI3, ↓m_oI5, m_pI5, ↓m_oI7, m_pI7, ↓m_oI11, m_pI11, ↓m_oI12, m_pI12, ↓m_oI13, m_pI13, ↓m_oI14, m_pI14, ↓m_oI15, m_pI15, ↓m_oI16, m_pI16, ↓m_oI17, m_pI17, m_pZ5, m_pZ12, ↓m_oR1, m_aI1, m_sI1, ↓m_oR2, m_aI2, m_sI2, ↓m_oR4, m_aI4, m_sI4, ↓m_oR6, m_aI6, m_sI6, ↓m_oR8, m_aI8, m_sI8, ↓m_oR9, m_aI9, m_sI9, ↓m_oR10, m_aI10, m_sI10, fX7_spread_L65, X7_isCell_c, b2_t hP]
    · have hB2 : BJ (entD f 30) (expD f d) d (M 9) (M 10) cnt i (wS cell (0 + 1)) := ⟨BI_W hB.1 (fun c hc => by
        obtain ⟨w', a, b⟩ := hc
        by_cases e : w' = 0
        · subst e
          exfalso
          exact hP b.1
        · exact ⟨w', by omega, b⟩), hB.2⟩
      refine ⟨M, cnt, ?_, hB2, hi, hq, fun b _ _ => rfl⟩
      simp (disch := omega) only [↓reduceIte, Int.reduceEq, Int.reduceNe, Int.reduceLT, Int.reduceLE, Int.reduceNeg, Int.reduceMod, Int.reduceDiv, Int.reduceAdd, Int.reduceSub, Int.reduceMul, not_true_eq_false, not_false_eq_true, true_or, or_true, false_or, or_false, true_and, and_true, false_and, and_false, b2_T, b2_F, if_true, if_false, ↓mjn_b, ↓mjn0_b, ↓mjn2_b, iv_lit, iv_add, iv_sub, iv_mul, iv_neg, iv_le_t, iv_le_f, iv_lt_t, iv_lt_f, iv_eq_t, iv_eq_f, iv_div, iv_mod, mretT_p, mretT_b, e_mret, ↓e_bret, ↓m_mon, ↓m_oI0, m_pI0, ↓m_oI3, m_pI3, ↓m_oI5, m_pI5, ↓m_oI7, m_pI7, ↓m_oI11, m_pI11, ↓m_oI12, m_pI12, ↓m_oI13, m_pI13, ↓m_oI14, m_pI14, ↓m_oI15, m_pI15, ↓m_oI16, m_pI16, ↓m_oI17, m_pI17, m_pZ5, m_pZ12, ↓m_oR1, m_aI1, m_sI1, ↓m_oR2, m_aI2, m_sI2, ↓m_oR4, m_aI4, m_sI4, ↓m_oR6, m_aI6, m_sI6, ↓m_oR8, m_aI8, m_sI8, ↓m_oR9, m_aI9, m_sI9, ↓m_oR10, m_aI10, m_sI10, fX7_spread_L65, X7_isCell_c, b2_f hP]
theorem X7_spread_s1 {g : Nat → Nat} {h : Nat → Option hC} {n w m : Nat} {K : Int32 → HM Unit} {d i cell : Int} {f : Int → Int} (hf : mrg f) (hcell : cin cell) (q : Nat) (M : Mm) (cnt : Int) (hM : M 8 = f) (hB : BJ (entD f 30) (expD f d) d (M 9) (M 10) cnt i (wS cell 1)) (hi : i < cnt) (hq : M 10 i = cell) :
    ∃ (M' : Mm) (cnt' : Int), fX7_spread_L65 g (q + 1) (some m) (iv cnt) (iv i) (iv cell) (iv 1) K (md m M h, n, w) = fX7_spread_L65 g q (some m) (iv cnt') (iv i) (iv cell) (iv (1 + 1)) K (md m M' h, n, w) ∧ BJ (entD f 30) (expD f d) d (M' 9) (M' 10) cnt' i (wS cell (1 + 1)) ∧ i < cnt' ∧ M' 10 i = cell ∧ ∀ b, b ≠ 9 → b ≠ 10 → M' b = M b := by
    have hlen := BI_len hB.1
    have hi0 := hB.1.1
    have hc := hcell
    unfold cin at hc
    have hnx : ∀ x, nbS cell 1 x → x = (16 * (cell / 16 + 0) + (cell % 16 + (-1))) := fun x hx => hx.2
    by_cases hP : (0 ≤ cell % 16 + (-1) ∧ cell % 16 + (-1) ≤ 15) ∧ 0 ≤ cell / 16 + 0 ∧ cell / 16 + 0 ≤ 11
    · have hnc : cin (16 * (cell / 16 + 0) + (cell % 16 + (-1))) := by unfold cin; omega
      have hadj : adj cell (16 * (cell / 16 + 0) + (cell % 16 + (-1))) := nbS_adj hcell (w := 1) (by omega) ⟨hP, rfl⟩
      have hr9 := BJ_rg hB hnc
      have hr9c := BJ_rg hB hcell
      have hr8 := hf _ hnc
      rw [← hM] at hr8
      have hcn := hnc
      unfold cin at hcn
      by_cases hu : M 9 (16 * (cell / 16 + 0) + (cell % 16 + (-1))) = -1
      · have hroom := BI_room hB.1 hnc hu
        have hnd : (16 * (cell / 16 + 0) + (cell % 16 + (-1))) ≠ d := fun e => by
          have := hB.1.2.2.1
          rw [← e] at this
          omega
        by_cases h0 : M 8 (16 * (cell / 16 + 0) + (cell % 16 + (-1))) = 0
        · have hB2 : BJ (entD f 30) (expD f d) d ((mu (mu M 9 (16 * (cell / 16 + 0) + (cell % 16 + (-1))) (M 9 cell + 1)) 10 cnt (16 * (cell / 16 + 0) + (cell % 16 + (-1)))) 9) ((mu (mu M 9 (16 * (cell / 16 + 0) + (cell % 16 + (-1))) (M 9 cell + 1)) 10 cnt (16 * (cell / 16 + 0) + (cell % 16 + (-1)))) 10) (cnt + 1) i (wS cell (1 + 1)) := by
            rw [mu_ob (by decide), mu_iu, mu_iu, mu_ob (by decide)]
            have ht := BJ_take (x := (16 * (cell / 16 + 0) + (cell % 16 + (-1)))) (Q' := iu (M 10) cnt (16 * (cell / 16 + 0) + (cell % 16 + (-1)))) (m' := cnt + 1) (W' := wS cell (1 + 1)) hB hi (by rw [hq]; exact hadj) (Or.inl (by rw [← hM]; exact h0)) hu (fun j a b => iu_ne (by omega)) (Or.inl ⟨Or.inr (by rw [← hM]; exact h0), rfl, iu_at rfl⟩) (fun c hc => wS_s hc hnx)
            rw [hq] at ht
            exact ht
          refine ⟨mu (mu M 9 (16 * (cell / 16 + 0) + (cell % 16 + (-1))) (M 9 cell + 1)) 10 cnt (16 * (cell / 16 + 0) + (cell % 16 + (-1))), cnt + 1, ?_, hB2, by omega, by rw [mu_iu, iu_ne (by omega), mu_ob (by decide)]; exact hq, fun b b9 b10 => by rw [mu_ob b10, mu_ob b9]⟩
          simp (disch := omega) only [↓reduceIte, Int.reduceEq, Int.reduceNe, Int.reduceLT, Int.reduceLE, Int.reduceNeg, Int.reduceMod, Int.reduceDiv, Int.reduceAdd, Int.reduceSub, Int.reduceMul, not_true_eq_false, not_false_eq_true, true_or, or_true, false_or, or_false, true_and, and_true, false_and, and_false, b2_T, b2_F, if_true, if_false, ↓mjn_b, ↓mjn0_b, ↓mjn2_b, iv_lit, iv_add, iv_sub, iv_mul, iv_neg, iv_le_t, iv_le_f, iv_lt_t, iv_lt_f, iv_eq_t, iv_eq_f, iv_div, iv_mod, mretT_p, mretT_b, e_mret, ↓e_bret, ↓m_mon, ↓m_oI0, m_pI0, ↓m_oI3, m_pI3, ↓m_oI5, m_pI5, ↓m_oI7, m_pI7, ↓m_oI11, m_pI11, ↓m_oI12, m_pI12, ↓m_oI13, m_pI13, ↓m_oI14, m_pI14, ↓m_oI15, m_pI15, ↓m_oI16, m_pI16, ↓m_oI17, m_pI17, m_pZ5, m_pZ12, ↓m_oR1, m_aI1, m_sI1, ↓m_oR2, m_aI2, m_sI2, ↓m_oR4, m_aI4, m_sI4, ↓m_oR6, m_aI6, m_sI6, ↓m_oR8, m_aI8, m_sI8, ↓m_oR9, m_aI9, m_sI9, ↓m_oR10, m_aI10, m_sI10, fX7_spread_L65, X7_isCell_c, b2_t hP, hu, h0, mu_nb, mu_at, mu_ni]
        · by_cases h30 : M 8 (16 * (cell / 16 + 0) + (cell % 16 + (-1))) < 30
          · have hB2 : BJ (entD f 30) (expD f d) d (M 9) (M 10) cnt i (wS cell (1 + 1)) := BJ_skip hB hi (fun _ e => by
              exfalso
              unfold entD at e
              rw [← hM] at e
              omega) (fun c hc => wS_s hc hnx)
            refine ⟨M, cnt, ?_, hB2, hi, hq, fun b _ _ => rfl⟩
            simp (disch := omega) only [↓reduceIte, Int.reduceEq, Int.reduceNe, Int.reduceLT, Int.reduceLE, Int.reduceNeg, Int.reduceMod, Int.reduceDiv, Int.reduceAdd, Int.reduceSub, Int.reduceMul, not_true_eq_false, not_false_eq_true, true_or, or_true, false_or, or_false, true_and, and_true, false_and, and_false, b2_T, b2_F, if_true, if_false, ↓mjn_b, ↓mjn0_b, ↓mjn2_b, iv_lit, iv_add, iv_sub, iv_mul, iv_neg, iv_le_t, iv_le_f, iv_lt_t, iv_lt_f, iv_eq_t, iv_eq_f, iv_div, iv_mod, mretT_p, mretT_b, e_mret, ↓e_bret, ↓m_mon, ↓m_oI0, m_pI0, ↓m_oI3, m_pI3, ↓m_oI5, m_pI5, ↓m_oI7, m_pI7, ↓m_oI11, m_pI11, ↓m_oI12, m_pI12, ↓m_oI13, m_pI13, ↓m_oI14, m_pI14, ↓m_oI15, m_pI15, ↓m_oI16, m_pI16, ↓m_oI17, m_pI17, m_pZ5, m_pZ12, ↓m_oR1, m_aI1, m_sI1, ↓m_oR2, m_aI2, m_sI2, ↓m_oR4, m_aI4, m_sI4, ↓m_oR6, m_aI6, m_sI6, ↓m_oR8, m_aI8, m_sI8, ↓m_oR9, m_aI9, m_sI9, ↓m_oR10, m_aI10, m_sI10, fX7_spread_L65, X7_isCell_c, b2_t hP, hu]
          · have hB2 : BJ (entD f 30) (expD f d) d ((mu M 9 (16 * (cell / 16 + 0) + (cell % 16 + (-1))) (M 9 cell + 1)) 9) ((mu M 9 (16 * (cell / 16 + 0) + (cell % 16 + (-1))) (M 9 cell + 1)) 10) cnt i (wS cell (1 + 1)) := by
              rw [mu_iu, mu_ob (by decide)]
              have ht := BJ_take (x := (16 * (cell / 16 + 0) + (cell % 16 + (-1)))) (Q' := M 10) (m' := cnt) (W' := wS cell (1 + 1)) hB hi (by rw [hq]; exact hadj) (Or.inr (by rw [← hM]; omega)) hu (fun j a b => rfl) (Or.inr ⟨fun e => e.elim hnd (fun z => h0 (by rw [hM]; exact z)), rfl⟩) (fun c hc => wS_s hc hnx)
              rw [hq] at ht
              exact ht
            refine ⟨mu M 9 (16 * (cell / 16 + 0) + (cell % 16 + (-1))) (M 9 cell + 1), cnt, ?_, hB2, hi, by rw [mu_ob (by decide)]; exact hq, fun b b9 b10 => by rw [mu_ob b9]⟩
            simp (disch := omega) only [↓reduceIte, Int.reduceEq, Int.reduceNe, Int.reduceLT, Int.reduceLE, Int.reduceNeg, Int.reduceMod, Int.reduceDiv, Int.reduceAdd, Int.reduceSub, Int.reduceMul, not_true_eq_false, not_false_eq_true, true_or, or_true, false_or, or_false, true_and, and_true, false_and, and_false, b2_T, b2_F, if_true, if_false, ↓mjn_b, ↓mjn0_b, ↓mjn2_b, iv_lit, iv_add, iv_sub, iv_mul, iv_neg, iv_le_t, iv_le_f, iv_lt_t, iv_lt_f, iv_eq_t, iv_eq_f, iv_div, iv_mod, mretT_p, mretT_b, e_mret, ↓e_bret, ↓m_mon, ↓m_oI0, m_pI0, ↓m_oI3, m_pI3, ↓m_oI5, m_pI5, ↓m_oI7, m_pI7, ↓m_oI11, m_pI11, ↓m_oI12, m_pI12, ↓m_oI13, m_pI13, ↓m_oI14, m_pI14, ↓m_oI15, m_pI15, ↓m_oI16, m_pI16, ↓m_oI17, m_pI17, m_pZ5, m_pZ12, ↓m_oR1, m_aI1, m_sI1, ↓m_oR2, m_aI2, m_sI2, ↓m_oR4, m_aI4, m_sI4, ↓m_oR6, m_aI6, m_sI6, ↓m_oR8, m_aI8, m_sI8, ↓m_oR9, m_aI9, m_sI9, ↓m_oR10, m_aI10, m_sI10, fX7_spread_L65, X7_isCell_c, b2_t hP, hu, mu_nb, mu_at, mu_ni]
      · have hB2 : BJ (entD f 30) (expD f d) d (M 9) (M 10) cnt i (wS cell (1 + 1)) := BJ_skip hB hi (fun _ _ => by omega) (fun c hc => wS_s hc hnx)
        refine ⟨M, cnt, ?_, hB2, hi, hq, fun b _ _ => rfl⟩
        simp (disch := omega) only [↓reduceIte, Int.reduceEq, Int.reduceNe, Int.reduceLT, Int.reduceLE, Int.reduceNeg, Int.reduceMod, Int.reduceDiv, Int.reduceAdd, Int.reduceSub, Int.reduceMul, not_true_eq_false, not_false_eq_true, true_or, or_true, false_or, or_false, true_and, and_true, false_and, and_false, b2_T, b2_F, if_true, if_false, ↓mjn_b, ↓mjn0_b, ↓mjn2_b, iv_lit, iv_add, iv_sub, iv_mul, iv_neg, iv_le_t, iv_le_f, iv_lt_t, iv_lt_f, iv_eq_t, iv_eq_f, iv_div, iv_mod, mretT_p, mretT_b, e_mret, ↓e_bret, ↓m_mon, ↓m_oI0, m_pI0, ↓m_oI3, m_pI3, ↓m_oI5, m_pI5, ↓m_oI7, m_pI7, ↓m_oI11, m_pI11, ↓m_oI12, m_pI12, ↓m_oI13, m_pI13, ↓m_oI14, m_pI14, ↓m_oI15, m_pI15, ↓m_oI16, m_pI16, ↓m_oI17, m_pI17, m_pZ5, m_pZ12, ↓m_oR1, m_aI1, m_sI1, ↓m_oR2, m_aI2, m_sI2, ↓m_oR4, m_aI4, m_sI4, ↓m_oR6, m_aI6, m_sI6, ↓m_oR8, m_aI8, m_sI8, ↓m_oR9, m_aI9, m_sI9, ↓m_oR10, m_aI10, m_sI10, fX7_spread_L65, X7_isCell_c, b2_t hP]
    · have hB2 : BJ (entD f 30) (expD f d) d (M 9) (M 10) cnt i (wS cell (1 + 1)) := ⟨BI_W hB.1 (fun c hc => by
        obtain ⟨w', a, b⟩ := hc
        by_cases e : w' = 1
        · subst e
          exfalso
          exact hP b.1
        · exact ⟨w', by omega, b⟩), hB.2⟩
      refine ⟨M, cnt, ?_, hB2, hi, hq, fun b _ _ => rfl⟩
      simp (disch := omega) only [↓reduceIte, Int.reduceEq, Int.reduceNe, Int.reduceLT, Int.reduceLE, Int.reduceNeg, Int.reduceMod, Int.reduceDiv, Int.reduceAdd, Int.reduceSub, Int.reduceMul, not_true_eq_false, not_false_eq_true, true_or, or_true, false_or, or_false, true_and, and_true, false_and, and_false, b2_T, b2_F, if_true, if_false, ↓mjn_b, ↓mjn0_b, ↓mjn2_b, iv_lit, iv_add, iv_sub, iv_mul, iv_neg, iv_le_t, iv_le_f, iv_lt_t, iv_lt_f, iv_eq_t, iv_eq_f, iv_div, iv_mod, mretT_p, mretT_b, e_mret, ↓e_bret, ↓m_mon, ↓m_oI0, m_pI0, ↓m_oI3, m_pI3, ↓m_oI5, m_pI5, ↓m_oI7, m_pI7, ↓m_oI11, m_pI11, ↓m_oI12, m_pI12, ↓m_oI13, m_pI13, ↓m_oI14, m_pI14, ↓m_oI15, m_pI15, ↓m_oI16, m_pI16, ↓m_oI17, m_pI17, m_pZ5, m_pZ12, ↓m_oR1, m_aI1, m_sI1, ↓m_oR2, m_aI2, m_sI2, ↓m_oR4, m_aI4, m_sI4, ↓m_oR6, m_aI6, m_sI6, ↓m_oR8, m_aI8, m_sI8, ↓m_oR9, m_aI9, m_sI9, ↓m_oR10, m_aI10, m_sI10, fX7_spread_L65, X7_isCell_c, b2_f hP]
theorem X7_spread_s2 {g : Nat → Nat} {h : Nat → Option hC} {n w m : Nat} {K : Int32 → HM Unit} {d i cell : Int} {f : Int → Int} (hf : mrg f) (hcell : cin cell) (q : Nat) (M : Mm) (cnt : Int) (hM : M 8 = f) (hB : BJ (entD f 30) (expD f d) d (M 9) (M 10) cnt i (wS cell 2)) (hi : i < cnt) (hq : M 10 i = cell) :
    ∃ (M' : Mm) (cnt' : Int), fX7_spread_L65 g (q + 1) (some m) (iv cnt) (iv i) (iv cell) (iv 2) K (md m M h, n, w) = fX7_spread_L65 g q (some m) (iv cnt') (iv i) (iv cell) (iv (2 + 1)) K (md m M' h, n, w) ∧ BJ (entD f 30) (expD f d) d (M' 9) (M' 10) cnt' i (wS cell (2 + 1)) ∧ i < cnt' ∧ M' 10 i = cell ∧ ∀ b, b ≠ 9 → b ≠ 10 → M' b = M b := by
    have hlen := BI_len hB.1
    have hi0 := hB.1.1
    have hc := hcell
    unfold cin at hc
    have hnx : ∀ x, nbS cell 2 x → x = (16 * (cell / 16 + 1) + (cell % 16 + 0)) := fun x hx => hx.2
    by_cases hP : (0 ≤ cell % 16 + 0 ∧ cell % 16 + 0 ≤ 15) ∧ 0 ≤ cell / 16 + 1 ∧ cell / 16 + 1 ≤ 11
    · have hnc : cin (16 * (cell / 16 + 1) + (cell % 16 + 0)) := by unfold cin; omega
      have hadj : adj cell (16 * (cell / 16 + 1) + (cell % 16 + 0)) := nbS_adj hcell (w := 2) (by omega) ⟨hP, rfl⟩
      have hr9 := BJ_rg hB hnc
      have hr9c := BJ_rg hB hcell
      have hr8 := hf _ hnc
      rw [← hM] at hr8
      have hcn := hnc
      unfold cin at hcn
      by_cases hu : M 9 (16 * (cell / 16 + 1) + (cell % 16 + 0)) = -1
      · have hroom := BI_room hB.1 hnc hu
        have hnd : (16 * (cell / 16 + 1) + (cell % 16 + 0)) ≠ d := fun e => by
          have := hB.1.2.2.1
          rw [← e] at this
          omega
        by_cases h0 : M 8 (16 * (cell / 16 + 1) + (cell % 16 + 0)) = 0
        · have hB2 : BJ (entD f 30) (expD f d) d ((mu (mu M 9 (16 * (cell / 16 + 1) + (cell % 16 + 0)) (M 9 cell + 1)) 10 cnt (16 * (cell / 16 + 1) + (cell % 16 + 0))) 9) ((mu (mu M 9 (16 * (cell / 16 + 1) + (cell % 16 + 0)) (M 9 cell + 1)) 10 cnt (16 * (cell / 16 + 1) + (cell % 16 + 0))) 10) (cnt + 1) i (wS cell (2 + 1)) := by
            rw [mu_ob (by decide), mu_iu, mu_iu, mu_ob (by decide)]
            have ht := BJ_take (x := (16 * (cell / 16 + 1) + (cell % 16 + 0))) (Q' := iu (M 10) cnt (16 * (cell / 16 + 1) + (cell % 16 + 0))) (m' := cnt + 1) (W' := wS cell (2 + 1)) hB hi (by rw [hq]; exact hadj) (Or.inl (by rw [← hM]; exact h0)) hu (fun j a b => iu_ne (by omega)) (Or.inl ⟨Or.inr (by rw [← hM]; exact h0), rfl, iu_at rfl⟩) (fun c hc => wS_s hc hnx)
            rw [hq] at ht
            exact ht
          refine ⟨mu (mu M 9 (16 * (cell / 16 + 1) + (cell % 16 + 0)) (M 9 cell + 1)) 10 cnt (16 * (cell / 16 + 1) + (cell % 16 + 0)), cnt + 1, ?_, hB2, by omega, by rw [mu_iu, iu_ne (by omega), mu_ob (by decide)]; exact hq, fun b b9 b10 => by rw [mu_ob b10, mu_ob b9]⟩
          simp (disch := omega) only [↓reduceIte, Int.reduceEq, Int.reduceNe, Int.reduceLT, Int.reduceLE, Int.reduceNeg, Int.reduceMod, Int.reduceDiv, Int.reduceAdd, Int.reduceSub, Int.reduceMul, not_true_eq_false, not_false_eq_true, true_or, or_true, false_or, or_false, true_and, and_true, false_and, and_false, b2_T, b2_F, if_true, if_false, ↓mjn_b, ↓mjn0_b, ↓mjn2_b, iv_lit, iv_add, iv_sub, iv_mul, iv_neg, iv_le_t, iv_le_f, iv_lt_t, iv_lt_f, iv_eq_t, iv_eq_f, iv_div, iv_mod, mretT_p, mretT_b, e_mret, ↓e_bret, ↓m_mon, ↓m_oI0, m_pI0, ↓m_oI3, m_pI3, ↓m_oI5, m_pI5, ↓m_oI7, m_pI7, ↓m_oI11, m_pI11, ↓m_oI12, m_pI12, ↓m_oI13, m_pI13, ↓m_oI14, m_pI14, ↓m_oI15, m_pI15, ↓m_oI16, m_pI16, ↓m_oI17, m_pI17, m_pZ5, m_pZ12, ↓m_oR1, m_aI1, m_sI1, ↓m_oR2, m_aI2, m_sI2, ↓m_oR4, m_aI4, m_sI4, ↓m_oR6, m_aI6, m_sI6, ↓m_oR8, m_aI8, m_sI8, ↓m_oR9, m_aI9, m_sI9, ↓m_oR10, m_aI10, m_sI10, fX7_spread_L65, X7_isCell_c, b2_t hP, hu, h0, mu_nb, mu_at, mu_ni]
        · by_cases h30 : M 8 (16 * (cell / 16 + 1) + (cell % 16 + 0)) < 30
          · have hB2 : BJ (entD f 30) (expD f d) d (M 9) (M 10) cnt i (wS cell (2 + 1)) := BJ_skip hB hi (fun _ e => by
              exfalso
              unfold entD at e
              rw [← hM] at e
              omega) (fun c hc => wS_s hc hnx)
            refine ⟨M, cnt, ?_, hB2, hi, hq, fun b _ _ => rfl⟩
            simp (disch := omega) only [↓reduceIte, Int.reduceEq, Int.reduceNe, Int.reduceLT, Int.reduceLE, Int.reduceNeg, Int.reduceMod, Int.reduceDiv, Int.reduceAdd, Int.reduceSub, Int.reduceMul, not_true_eq_false, not_false_eq_true, true_or, or_true, false_or, or_false, true_and, and_true, false_and, and_false, b2_T, b2_F, if_true, if_false, ↓mjn_b, ↓mjn0_b, ↓mjn2_b, iv_lit, iv_add, iv_sub, iv_mul, iv_neg, iv_le_t, iv_le_f, iv_lt_t, iv_lt_f, iv_eq_t, iv_eq_f, iv_div, iv_mod, mretT_p, mretT_b, e_mret, ↓e_bret, ↓m_mon, ↓m_oI0, m_pI0, ↓m_oI3, m_pI3, ↓m_oI5, m_pI5, ↓m_oI7, m_pI7, ↓m_oI11, m_pI11, ↓m_oI12, m_pI12, ↓m_oI13, m_pI13, ↓m_oI14, m_pI14, ↓m_oI15, m_pI15, ↓m_oI16, m_pI16, ↓m_oI17, m_pI17, m_pZ5, m_pZ12, ↓m_oR1, m_aI1, m_sI1, ↓m_oR2, m_aI2, m_sI2, ↓m_oR4, m_aI4, m_sI4, ↓m_oR6, m_aI6, m_sI6, ↓m_oR8, m_aI8, m_sI8, ↓m_oR9, m_aI9, m_sI9, ↓m_oR10, m_aI10, m_sI10, fX7_spread_L65, X7_isCell_c, b2_t hP, hu]
          · have hB2 : BJ (entD f 30) (expD f d) d ((mu M 9 (16 * (cell / 16 + 1) + (cell % 16 + 0)) (M 9 cell + 1)) 9) ((mu M 9 (16 * (cell / 16 + 1) + (cell % 16 + 0)) (M 9 cell + 1)) 10) cnt i (wS cell (2 + 1)) := by
              rw [mu_iu, mu_ob (by decide)]
              have ht := BJ_take (x := (16 * (cell / 16 + 1) + (cell % 16 + 0))) (Q' := M 10) (m' := cnt) (W' := wS cell (2 + 1)) hB hi (by rw [hq]; exact hadj) (Or.inr (by rw [← hM]; omega)) hu (fun j a b => rfl) (Or.inr ⟨fun e => e.elim hnd (fun z => h0 (by rw [hM]; exact z)), rfl⟩) (fun c hc => wS_s hc hnx)
              rw [hq] at ht
              exact ht
            refine ⟨mu M 9 (16 * (cell / 16 + 1) + (cell % 16 + 0)) (M 9 cell + 1), cnt, ?_, hB2, hi, by rw [mu_ob (by decide)]; exact hq, fun b b9 b10 => by rw [mu_ob b9]⟩
            simp (disch := omega) only [↓reduceIte, Int.reduceEq, Int.reduceNe, Int.reduceLT, Int.reduceLE, Int.reduceNeg, Int.reduceMod, Int.reduceDiv, Int.reduceAdd, Int.reduceSub, Int.reduceMul, not_true_eq_false, not_false_eq_true, true_or, or_true, false_or, or_false, true_and, and_true, false_and, and_false, b2_T, b2_F, if_true, if_false, ↓mjn_b, ↓mjn0_b, ↓mjn2_b, iv_lit, iv_add, iv_sub, iv_mul, iv_neg, iv_le_t, iv_le_f, iv_lt_t, iv_lt_f, iv_eq_t, iv_eq_f, iv_div, iv_mod, mretT_p, mretT_b, e_mret, ↓e_bret, ↓m_mon, ↓m_oI0, m_pI0, ↓m_oI3, m_pI3, ↓m_oI5, m_pI5, ↓m_oI7, m_pI7, ↓m_oI11, m_pI11, ↓m_oI12, m_pI12, ↓m_oI13, m_pI13, ↓m_oI14, m_pI14, ↓m_oI15, m_pI15, ↓m_oI16, m_pI16, ↓m_oI17, m_pI17, m_pZ5, m_pZ12, ↓m_oR1, m_aI1, m_sI1, ↓m_oR2, m_aI2, m_sI2, ↓m_oR4, m_aI4, m_sI4, ↓m_oR6, m_aI6, m_sI6, ↓m_oR8, m_aI8, m_sI8, ↓m_oR9, m_aI9, m_sI9, ↓m_oR10, m_aI10, m_sI10, fX7_spread_L65, X7_isCell_c, b2_t hP, hu, mu_nb, mu_at, mu_ni]
      · have hB2 : BJ (entD f 30) (expD f d) d (M 9) (M 10) cnt i (wS cell (2 + 1)) := BJ_skip hB hi (fun _ _ => by omega) (fun c hc => wS_s hc hnx)
        refine ⟨M, cnt, ?_, hB2, hi, hq, fun b _ _ => rfl⟩
        simp (disch := omega) only [↓reduceIte, Int.reduceEq, Int.reduceNe, Int.reduceLT, Int.reduceLE, Int.reduceNeg, Int.reduceMod, Int.reduceDiv, Int.reduceAdd, Int.reduceSub, Int.reduceMul, not_true_eq_false, not_false_eq_true, true_or, or_true, false_or, or_false, true_and, and_true, false_and, and_false, b2_T, b2_F, if_true, if_false, ↓mjn_b, ↓mjn0_b, ↓mjn2_b, iv_lit, iv_add, iv_sub, iv_mul, iv_neg, iv_le_t, iv_le_f, iv_lt_t, iv_lt_f, iv_eq_t, iv_eq_f, iv_div, iv_mod, mretT_p, mretT_b, e_mret, ↓e_bret, ↓m_mon, ↓m_oI0, m_pI0, ↓m_oI3, m_pI3, ↓m_oI5, m_pI5, ↓m_oI7, m_pI7, ↓m_oI11, m_pI11, ↓m_oI12, m_pI12, ↓m_oI13, m_pI13, ↓m_oI14, m_pI14, ↓m_oI15, m_pI15, ↓m_oI16, m_pI16, ↓m_oI17, m_pI17, m_pZ5, m_pZ12, ↓m_oR1, m_aI1, m_sI1, ↓m_oR2, m_aI2, m_sI2, ↓m_oR4, m_aI4, m_sI4, ↓m_oR6, m_aI6, m_sI6, ↓m_oR8, m_aI8, m_sI8, ↓m_oR9, m_aI9, m_sI9, ↓m_oR10, m_aI10, m_sI10, fX7_spread_L65, X7_isCell_c, b2_t hP]
    · have hB2 : BJ (entD f 30) (expD f d) d (M 9) (M 10) cnt i (wS cell (2 + 1)) := ⟨BI_W hB.1 (fun c hc => by
        obtain ⟨w', a, b⟩ := hc
        by_cases e : w' = 2
        · subst e
          exfalso
          exact hP b.1
        · exact ⟨w', by omega, b⟩), hB.2⟩
      refine ⟨M, cnt, ?_, hB2, hi, hq, fun b _ _ => rfl⟩
      simp (disch := omega) only [↓reduceIte, Int.reduceEq, Int.reduceNe, Int.reduceLT, Int.reduceLE, Int.reduceNeg, Int.reduceMod, Int.reduceDiv, Int.reduceAdd, Int.reduceSub, Int.reduceMul, not_true_eq_false, not_false_eq_true, true_or, or_true, false_or, or_false, true_and, and_true, false_and, and_false, b2_T, b2_F, if_true, if_false, ↓mjn_b, ↓mjn0_b, ↓mjn2_b, iv_lit, iv_add, iv_sub, iv_mul, iv_neg, iv_le_t, iv_le_f, iv_lt_t, iv_lt_f, iv_eq_t, iv_eq_f, iv_div, iv_mod, mretT_p, mretT_b, e_mret, ↓e_bret, ↓m_mon, ↓m_oI0, m_pI0, ↓m_oI3, m_pI3, ↓m_oI5, m_pI5, ↓m_oI7, m_pI7, ↓m_oI11, m_pI11, ↓m_oI12, m_pI12, ↓m_oI13, m_pI13, ↓m_oI14, m_pI14, ↓m_oI15, m_pI15, ↓m_oI16, m_pI16, ↓m_oI17, m_pI17, m_pZ5, m_pZ12, ↓m_oR1, m_aI1, m_sI1, ↓m_oR2, m_aI2, m_sI2, ↓m_oR4, m_aI4, m_sI4, ↓m_oR6, m_aI6, m_sI6, ↓m_oR8, m_aI8, m_sI8, ↓m_oR9, m_aI9, m_sI9, ↓m_oR10, m_aI10, m_sI10, fX7_spread_L65, X7_isCell_c, b2_f hP]
theorem X7_spread_s3 {g : Nat → Nat} {h : Nat → Option hC} {n w m : Nat} {K : Int32 → HM Unit} {d i cell : Int} {f : Int → Int} (hf : mrg f) (hcell : cin cell) (q : Nat) (M : Mm) (cnt : Int) (hM : M 8 = f) (hB : BJ (entD f 30) (expD f d) d (M 9) (M 10) cnt i (wS cell 3)) (hi : i < cnt) (hq : M 10 i = cell) :
    ∃ (M' : Mm) (cnt' : Int), fX7_spread_L65 g (q + 1) (some m) (iv cnt) (iv i) (iv cell) (iv 3) K (md m M h, n, w) = fX7_spread_L65 g q (some m) (iv cnt') (iv i) (iv cell) (iv (3 + 1)) K (md m M' h, n, w) ∧ BJ (entD f 30) (expD f d) d (M' 9) (M' 10) cnt' i (wS cell (3 + 1)) ∧ i < cnt' ∧ M' 10 i = cell ∧ ∀ b, b ≠ 9 → b ≠ 10 → M' b = M b := by
    have hlen := BI_len hB.1
    have hi0 := hB.1.1
    have hc := hcell
    unfold cin at hc
    have hnx : ∀ x, nbS cell 3 x → x = (16 * (cell / 16 + (-1)) + (cell % 16 + 0)) := fun x hx => hx.2
    by_cases hP : (0 ≤ cell % 16 + 0 ∧ cell % 16 + 0 ≤ 15) ∧ 0 ≤ cell / 16 + (-1) ∧ cell / 16 + (-1) ≤ 11
    · have hnc : cin (16 * (cell / 16 + (-1)) + (cell % 16 + 0)) := by unfold cin; omega
      have hadj : adj cell (16 * (cell / 16 + (-1)) + (cell % 16 + 0)) := nbS_adj hcell (w := 3) (by omega) ⟨hP, rfl⟩
      have hr9 := BJ_rg hB hnc
      have hr9c := BJ_rg hB hcell
      have hr8 := hf _ hnc
      rw [← hM] at hr8
      have hcn := hnc
      unfold cin at hcn
      by_cases hu : M 9 (16 * (cell / 16 + (-1)) + (cell % 16 + 0)) = -1
      · have hroom := BI_room hB.1 hnc hu
        have hnd : (16 * (cell / 16 + (-1)) + (cell % 16 + 0)) ≠ d := fun e => by
          have := hB.1.2.2.1
          rw [← e] at this
          omega
        by_cases h0 : M 8 (16 * (cell / 16 + (-1)) + (cell % 16 + 0)) = 0
        · have hB2 : BJ (entD f 30) (expD f d) d ((mu (mu M 9 (16 * (cell / 16 + (-1)) + (cell % 16 + 0)) (M 9 cell + 1)) 10 cnt (16 * (cell / 16 + (-1)) + (cell % 16 + 0))) 9) ((mu (mu M 9 (16 * (cell / 16 + (-1)) + (cell % 16 + 0)) (M 9 cell + 1)) 10 cnt (16 * (cell / 16 + (-1)) + (cell % 16 + 0))) 10) (cnt + 1) i (wS cell (3 + 1)) := by
            rw [mu_ob (by decide), mu_iu, mu_iu, mu_ob (by decide)]
            have ht := BJ_take (x := (16 * (cell / 16 + (-1)) + (cell % 16 + 0))) (Q' := iu (M 10) cnt (16 * (cell / 16 + (-1)) + (cell % 16 + 0))) (m' := cnt + 1) (W' := wS cell (3 + 1)) hB hi (by rw [hq]; exact hadj) (Or.inl (by rw [← hM]; exact h0)) hu (fun j a b => iu_ne (by omega)) (Or.inl ⟨Or.inr (by rw [← hM]; exact h0), rfl, iu_at rfl⟩) (fun c hc => wS_s hc hnx)
            rw [hq] at ht
            exact ht
          refine ⟨mu (mu M 9 (16 * (cell / 16 + (-1)) + (cell % 16 + 0)) (M 9 cell + 1)) 10 cnt (16 * (cell / 16 + (-1)) + (cell % 16 + 0)), cnt + 1, ?_, hB2, by omega, by rw [mu_iu, iu_ne (by omega), mu_ob (by decide)]; exact hq, fun b b9 b10 => by rw [mu_ob b10, mu_ob b9]⟩
          simp (disch := omega) only [↓reduceIte, Int.reduceEq, Int.reduceNe, Int.reduceLT, Int.reduceLE, Int.reduceNeg, Int.reduceMod, Int.reduceDiv, Int.reduceAdd, Int.reduceSub, Int.reduceMul, not_true_eq_false, not_false_eq_true, true_or, or_true, false_or, or_false, true_and, and_true, false_and, and_false, b2_T, b2_F, if_true, if_false, ↓mjn_b, ↓mjn0_b, ↓mjn2_b, iv_lit, iv_add, iv_sub, iv_mul, iv_neg, iv_le_t, iv_le_f, iv_lt_t, iv_lt_f, iv_eq_t, iv_eq_f, iv_div, iv_mod, mretT_p, mretT_b, e_mret, ↓e_bret, ↓m_mon, ↓m_oI0, m_pI0, ↓m_oI3, m_pI3, ↓m_oI5, m_pI5, ↓m_oI7, m_pI7, ↓m_oI11, m_pI11, ↓m_oI12, m_pI12, ↓m_oI13, m_pI13, ↓m_oI14, m_pI14, ↓m_oI15, m_pI15, ↓m_oI16, m_pI16, ↓m_oI17, m_pI17, m_pZ5, m_pZ12, ↓m_oR1, m_aI1, m_sI1, ↓m_oR2, m_aI2, m_sI2, ↓m_oR4, m_aI4, m_sI4, ↓m_oR6, m_aI6, m_sI6, ↓m_oR8, m_aI8, m_sI8, ↓m_oR9, m_aI9, m_sI9, ↓m_oR10, m_aI10, m_sI10, fX7_spread_L65, X7_isCell_c, b2_t hP, hu, h0, mu_nb, mu_at, mu_ni]
        · by_cases h30 : M 8 (16 * (cell / 16 + (-1)) + (cell % 16 + 0)) < 30
          · have hB2 : BJ (entD f 30) (expD f d) d (M 9) (M 10) cnt i (wS cell (3 + 1)) := BJ_skip hB hi (fun _ e => by
              exfalso
              unfold entD at e
              rw [← hM] at e
              omega) (fun c hc => wS_s hc hnx)
            refine ⟨M, cnt, ?_, hB2, hi, hq, fun b _ _ => rfl⟩
            simp (disch := omega) only [↓reduceIte, Int.reduceEq, Int.reduceNe, Int.reduceLT, Int.reduceLE, Int.reduceNeg, Int.reduceMod, Int.reduceDiv, Int.reduceAdd, Int.reduceSub, Int.reduceMul, not_true_eq_false, not_false_eq_true, true_or, or_true, false_or, or_false, true_and, and_true, false_and, and_false, b2_T, b2_F, if_true, if_false, ↓mjn_b, ↓mjn0_b, ↓mjn2_b, iv_lit, iv_add, iv_sub, iv_mul, iv_neg, iv_le_t, iv_le_f, iv_lt_t, iv_lt_f, iv_eq_t, iv_eq_f, iv_div, iv_mod, mretT_p, mretT_b, e_mret, ↓e_bret, ↓m_mon, ↓m_oI0, m_pI0, ↓m_oI3, m_pI3, ↓m_oI5, m_pI5, ↓m_oI7, m_pI7, ↓m_oI11, m_pI11, ↓m_oI12, m_pI12, ↓m_oI13, m_pI13, ↓m_oI14, m_pI14, ↓m_oI15, m_pI15, ↓m_oI16, m_pI16, ↓m_oI17, m_pI17, m_pZ5, m_pZ12, ↓m_oR1, m_aI1, m_sI1, ↓m_oR2, m_aI2, m_sI2, ↓m_oR4, m_aI4, m_sI4, ↓m_oR6, m_aI6, m_sI6, ↓m_oR8, m_aI8, m_sI8, ↓m_oR9, m_aI9, m_sI9, ↓m_oR10, m_aI10, m_sI10, fX7_spread_L65, X7_isCell_c, b2_t hP, hu]
          · have hB2 : BJ (entD f 30) (expD f d) d ((mu M 9 (16 * (cell / 16 + (-1)) + (cell % 16 + 0)) (M 9 cell + 1)) 9) ((mu M 9 (16 * (cell / 16 + (-1)) + (cell % 16 + 0)) (M 9 cell + 1)) 10) cnt i (wS cell (3 + 1)) := by
              rw [mu_iu, mu_ob (by decide)]
              have ht := BJ_take (x := (16 * (cell / 16 + (-1)) + (cell % 16 + 0))) (Q' := M 10) (m' := cnt) (W' := wS cell (3 + 1)) hB hi (by rw [hq]; exact hadj) (Or.inr (by rw [← hM]; omega)) hu (fun j a b => rfl) (Or.inr ⟨fun e => e.elim hnd (fun z => h0 (by rw [hM]; exact z)), rfl⟩) (fun c hc => wS_s hc hnx)
              rw [hq] at ht
              exact ht
            refine ⟨mu M 9 (16 * (cell / 16 + (-1)) + (cell % 16 + 0)) (M 9 cell + 1), cnt, ?_, hB2, hi, by rw [mu_ob (by decide)]; exact hq, fun b b9 b10 => by rw [mu_ob b9]⟩
            simp (disch := omega) only [↓reduceIte, Int.reduceEq, Int.reduceNe, Int.reduceLT, Int.reduceLE, Int.reduceNeg, Int.reduceMod, Int.reduceDiv, Int.reduceAdd, Int.reduceSub, Int.reduceMul, not_true_eq_false, not_false_eq_true, true_or, or_true, false_or, or_false, true_and, and_true, false_and, and_false, b2_T, b2_F, if_true, if_false, ↓mjn_b, ↓mjn0_b, ↓mjn2_b, iv_lit, iv_add, iv_sub, iv_mul, iv_neg, iv_le_t, iv_le_f, iv_lt_t, iv_lt_f, iv_eq_t, iv_eq_f, iv_div, iv_mod, mretT_p, mretT_b, e_mret, ↓e_bret, ↓m_mon, ↓m_oI0, m_pI0, ↓m_oI3, m_pI3, ↓m_oI5, m_pI5, ↓m_oI7, m_pI7, ↓m_oI11, m_pI11, ↓m_oI12, m_pI12, ↓m_oI13, m_pI13, ↓m_oI14, m_pI14, ↓m_oI15, m_pI15, ↓m_oI16, m_pI16, ↓m_oI17, m_pI17, m_pZ5, m_pZ12, ↓m_oR1, m_aI1, m_sI1, ↓m_oR2, m_aI2, m_sI2, ↓m_oR4, m_aI4, m_sI4, ↓m_oR6, m_aI6, m_sI6, ↓m_oR8, m_aI8, m_sI8, ↓m_oR9, m_aI9, m_sI9, ↓m_oR10, m_aI10, m_sI10, fX7_spread_L65, X7_isCell_c, b2_t hP, hu, mu_nb, mu_at, mu_ni]
      · have hB2 : BJ (entD f 30) (expD f d) d (M 9) (M 10) cnt i (wS cell (3 + 1)) := BJ_skip hB hi (fun _ _ => by omega) (fun c hc => wS_s hc hnx)
        refine ⟨M, cnt, ?_, hB2, hi, hq, fun b _ _ => rfl⟩
        simp (disch := omega) only [↓reduceIte, Int.reduceEq, Int.reduceNe, Int.reduceLT, Int.reduceLE, Int.reduceNeg, Int.reduceMod, Int.reduceDiv, Int.reduceAdd, Int.reduceSub, Int.reduceMul, not_true_eq_false, not_false_eq_true, true_or, or_true, false_or, or_false, true_and, and_true, false_and, and_false, b2_T, b2_F, if_true, if_false, ↓mjn_b, ↓mjn0_b, ↓mjn2_b, iv_lit, iv_add, iv_sub, iv_mul, iv_neg, iv_le_t, iv_le_f, iv_lt_t, iv_lt_f, iv_eq_t, iv_eq_f, iv_div, iv_mod, mretT_p, mretT_b, e_mret, ↓e_bret, ↓m_mon, ↓m_oI0, m_pI0, ↓m_oI3, m_pI3, ↓m_oI5, m_pI5, ↓m_oI7, m_pI7, ↓m_oI11, m_pI11, ↓m_oI12, m_pI12, ↓m_oI13, m_pI13, ↓m_oI14, m_pI14, ↓m_oI15, m_pI15, ↓m_oI16, m_pI16, ↓m_oI17, m_pI17, m_pZ5, m_pZ12, ↓m_oR1, m_aI1, m_sI1, ↓m_oR2, m_aI2, m_sI2, ↓m_oR4, m_aI4, m_sI4, ↓m_oR6, m_aI6, m_sI6, ↓m_oR8, m_aI8, m_sI8, ↓m_oR9, m_aI9, m_sI9, ↓m_oR10, m_aI10, m_sI10, fX7_spread_L65, X7_isCell_c, b2_t hP]
    · have hB2 : BJ (entD f 30) (expD f d) d (M 9) (M 10) cnt i (wS cell (3 + 1)) := ⟨BI_W hB.1 (fun c hc => by
        obtain ⟨w', a, b⟩ := hc
        by_cases e : w' = 3
        · subst e
          exfalso
          exact hP b.1
        · exact ⟨w', by omega, b⟩), hB.2⟩
      refine ⟨M, cnt, ?_, hB2, hi, hq, fun b _ _ => rfl⟩
      simp (disch := omega) only [↓reduceIte, Int.reduceEq, Int.reduceNe, Int.reduceLT, Int.reduceLE, Int.reduceNeg, Int.reduceMod, Int.reduceDiv, Int.reduceAdd, Int.reduceSub, Int.reduceMul, not_true_eq_false, not_false_eq_true, true_or, or_true, false_or, or_false, true_and, and_true, false_and, and_false, b2_T, b2_F, if_true, if_false, ↓mjn_b, ↓mjn0_b, ↓mjn2_b, iv_lit, iv_add, iv_sub, iv_mul, iv_neg, iv_le_t, iv_le_f, iv_lt_t, iv_lt_f, iv_eq_t, iv_eq_f, iv_div, iv_mod, mretT_p, mretT_b, e_mret, ↓e_bret, ↓m_mon, ↓m_oI0, m_pI0, ↓m_oI3, m_pI3, ↓m_oI5, m_pI5, ↓m_oI7, m_pI7, ↓m_oI11, m_pI11, ↓m_oI12, m_pI12, ↓m_oI13, m_pI13, ↓m_oI14, m_pI14, ↓m_oI15, m_pI15, ↓m_oI16, m_pI16, ↓m_oI17, m_pI17, m_pZ5, m_pZ12, ↓m_oR1, m_aI1, m_sI1, ↓m_oR2, m_aI2, m_sI2, ↓m_oR4, m_aI4, m_sI4, ↓m_oR6, m_aI6, m_sI6, ↓m_oR8, m_aI8, m_sI8, ↓m_oR9, m_aI9, m_sI9, ↓m_oR10, m_aI10, m_sI10, fX7_spread_L65, X7_isCell_c, b2_f hP]
theorem X7_spread_L65_ev {g : Nat → Nat} {h : Nat → Option hC} {n w m : Nat} {K : Int32 → HM Unit} {d i cell : Int} {f : Int → Int} (hf : mrg f) (hcell : cin cell) : ∀ (k nn : Nat) (M : Mm) (cnt y : Int), k < nn → 0 ≤ y → y + k = 4 → M 8 = f → BJ (entD f 30) (expD f d) d (M 9) (M 10) cnt i (wS cell y) → i < cnt → M 10 i = cell →
    ∃ (M' : Mm) (cnt' : Int), fX7_spread_L65 g nn (some m) (iv cnt) (iv i) (iv cell) (iv y) K (md m M h, n, w) = K (iv cnt') (md m M' h, n, w) ∧ BJ (entD f 30) (expD f d) d (M' 9) (M' 10) cnt' i (wS cell 4) ∧ i < cnt' ∧ M' 10 i = cell ∧ ∀ b, b ≠ 9 → b ≠ 10 → M' b = M b := by
  intro k
  induction k with
  | zero =>
    intro nn M cnt y hn hy he hM hB hi hq
    obtain ⟨q, rfl⟩ : ∃ q, nn = q + 1 := ⟨nn - 1, by omega⟩
    have hy4 : y = 4 := by omega
    subst hy4
    refine ⟨M, cnt, ?_, hB, hi, hq, fun b _ _ => rfl⟩
    simp (disch := omega) only [↓reduceIte, Int.reduceEq, Int.reduceNe, Int.reduceLT, Int.reduceLE, Int.reduceNeg, Int.reduceMod, Int.reduceDiv, Int.reduceAdd, Int.reduceSub, Int.reduceMul, not_true_eq_false, not_false_eq_true, true_or, or_true, false_or, or_false, true_and, and_true, false_and, and_false, b2_T, b2_F, if_true, if_false, ↓mjn_b, ↓mjn0_b, ↓mjn2_b, iv_lit, iv_add, iv_sub, iv_mul, iv_neg, iv_le_t, iv_le_f, iv_lt_t, iv_lt_f, iv_eq_t, iv_eq_f, iv_div, iv_mod, mretT_p, mretT_b, e_mret, ↓e_bret, ↓m_mon, ↓m_oI0, m_pI0, ↓m_oI3, m_pI3, ↓m_oI5, m_pI5, ↓m_oI7, m_pI7, ↓m_oI11, m_pI11, ↓m_oI12, m_pI12, ↓m_oI13, m_pI13, ↓m_oI14, m_pI14, ↓m_oI15, m_pI15, ↓m_oI16, m_pI16, ↓m_oI17, m_pI17, m_pZ5, m_pZ12, ↓m_oR1, m_aI1, m_sI1, ↓m_oR2, m_aI2, m_sI2, ↓m_oR4, m_aI4, m_sI4, ↓m_oR6, m_aI6, m_sI6, ↓m_oR8, m_aI8, m_sI8, ↓m_oR9, m_aI9, m_sI9, ↓m_oR10, m_aI10, m_sI10, fX7_spread_L65]
  | succ k ih =>
    intro nn M cnt y hn hy he hM hB hi hq
    obtain ⟨q, rfl⟩ : ∃ q, nn = q + 1 := ⟨nn - 1, by omega⟩
    have hs : ∃ (M' : Mm) (cnt' : Int), fX7_spread_L65 g (q + 1) (some m) (iv cnt) (iv i) (iv cell) (iv y) K (md m M h, n, w) = fX7_spread_L65 g q (some m) (iv cnt') (iv i) (iv cell) (iv (y + 1)) K (md m M' h, n, w) ∧ BJ (entD f 30) (expD f d) d (M' 9) (M' 10) cnt' i (wS cell (y + 1)) ∧ i < cnt' ∧ M' 10 i = cell ∧ ∀ b, b ≠ 9 → b ≠ 10 → M' b = M b := by
      have h4 : y = 0 ∨ y = 1 ∨ y = 2 ∨ y = 3 := by omega
      rcases h4 with rfl | rfl | rfl | rfl
      · exact X7_spread_s0 hf hcell q M cnt hM hB hi hq
      · exact X7_spread_s1 hf hcell q M cnt hM hB hi hq
      · exact X7_spread_s2 hf hcell q M cnt hM hB hi hq
      · exact X7_spread_s3 hf hcell q M cnt hM hB hi hq
    obtain ⟨M1, cnt1, e1, e2, e3, e4, e5⟩ := hs
    obtain ⟨M', cnt', f1, f2, f3, f4, f5⟩ := ih q M1 cnt1 (y + 1) (by omega) (by omega) (by omega) (by rw [e5 8 (by decide) (by decide)]; exact hM) e2 e3 e4
    exact ⟨M', cnt', e1.trans f1, f2, f3, f4, fun b b9 b10 => by rw [f5 b b9 b10, e5 b b9 b10]⟩

theorem X7_spread_L50_ev {g : Nat → Nat} {h : Nat → Option hC} {n w m : Nat} {d : Int} {f : Int → Int} (hf : mrg f) : ∀ (k nn : Nat) (M : Mm) (cnt i : Int), k < nn → i + k = 192 → M 8 = f → BJ (entD f 30) (expD f d) d (M 9) (M 10) cnt i (fun _ => False) →
    ∃ (M' : Mm), fX7_spread_L50 g nn (some m) (iv cnt) (iv i) (md m M h, n, w) = some ((), (md m M' h, n, w)) ∧ (∀ c, cin c → dst (entD f 30) (expD f d) d (M' 9 c) c ∧ -1 ≤ M' 9 c ∧ M' 9 c ≤ 193) ∧ ∀ b, b ≠ 9 → b ≠ 10 → M' b = M b := by
  intro k
  induction k with
  | zero =>
    intro nn M cnt i hn he hM hB
    obtain ⟨q, rfl⟩ : ∃ q, nn = q + 1 := ⟨nn - 1, by omega⟩
    have hlen := BI_len hB.1
    have hi0 := hB.1.1
    refine ⟨M, ?_, fun c hc => ⟨BI_all hB.1 (by omega) hc, BJ_rg hB hc⟩, fun b _ _ => rfl⟩
    simp (disch := omega) only [↓reduceIte, Int.reduceEq, Int.reduceNe, Int.reduceLT, Int.reduceLE, Int.reduceNeg, Int.reduceMod, Int.reduceDiv, Int.reduceAdd, Int.reduceSub, Int.reduceMul, not_true_eq_false, not_false_eq_true, true_or, or_true, false_or, or_false, true_and, and_true, false_and, and_false, b2_T, b2_F, if_true, if_false, ↓mjn_b, ↓mjn0_b, ↓mjn2_b, iv_lit, iv_add, iv_sub, iv_mul, iv_neg, iv_le_t, iv_le_f, iv_lt_t, iv_lt_f, iv_eq_t, iv_eq_f, iv_div, iv_mod, mretT_p, mretT_b, e_mret, ↓e_bret, ↓m_mon, ↓m_oI0, m_pI0, ↓m_oI3, m_pI3, ↓m_oI5, m_pI5, ↓m_oI7, m_pI7, ↓m_oI11, m_pI11, ↓m_oI12, m_pI12, ↓m_oI13, m_pI13, ↓m_oI14, m_pI14, ↓m_oI15, m_pI15, ↓m_oI16, m_pI16, ↓m_oI17, m_pI17, m_pZ5, m_pZ12, ↓m_oR1, m_aI1, m_sI1, ↓m_oR2, m_aI2, m_sI2, ↓m_oR4, m_aI4, m_sI4, ↓m_oR6, m_aI6, m_sI6, ↓m_oR8, m_aI8, m_sI8, ↓m_oR9, m_aI9, m_sI9, ↓m_oR10, m_aI10, m_sI10, fX7_spread_L50]
  | succ k ih =>
    intro nn M cnt i hn he hM hB
    obtain ⟨q, rfl⟩ : ∃ q, nn = q + 1 := ⟨nn - 1, by omega⟩
    have hlen := BI_len hB.1
    have hi0 := hB.1.1
    by_cases hi : i < cnt
    · have hcell := (hB.1.2.2.2.2.1 i hi0.1 hi).1
      obtain ⟨M1, cnt1, e1, e2, e3, e4, e5⟩ := X7_spread_L65_ev (g := g) (h := h) (n := n) (w := w) (m := m) (K := fun x20 => fX7_spread_L50 g q (some m) x20 (iv (i + 1))) hf hcell 4 5000 M cnt 0 (by omega) (by omega) (by omega) hM ⟨BI_W hB.1 (fun c hc => by obtain ⟨w', a, -⟩ := hc; omega), hB.2⟩ hi rfl
      obtain ⟨M', e6, e7, e8⟩ := ih q M1 cnt1 (i + 1) (by omega) (by omega) (by rw [e5 8 (by decide) (by decide)]; exact hM) (BJ_next e2 e3 (fun c hc => by rw [e4] at hc; exact adj_nbS hcell hc))
      refine ⟨M', ?_, e7, fun b b9 b10 => by rw [e8 b b9 b10, e5 b b9 b10]⟩
      rw [← e6]
      simp (disch := omega) only [↓reduceIte, Int.reduceEq, Int.reduceNe, Int.reduceLT, Int.reduceLE, Int.reduceNeg, Int.reduceMod, Int.reduceDiv, Int.reduceAdd, Int.reduceSub, Int.reduceMul, not_true_eq_false, not_false_eq_true, true_or, or_true, false_or, or_false, true_and, and_true, false_and, and_false, b2_T, b2_F, if_true, if_false, ↓mjn_b, ↓mjn0_b, ↓mjn2_b, iv_lit, iv_add, iv_sub, iv_mul, iv_neg, iv_le_t, iv_le_f, iv_lt_t, iv_lt_f, iv_eq_t, iv_eq_f, iv_div, iv_mod, mretT_p, mretT_b, e_mret, ↓e_bret, ↓m_mon, ↓m_oI0, m_pI0, ↓m_oI3, m_pI3, ↓m_oI5, m_pI5, ↓m_oI7, m_pI7, ↓m_oI11, m_pI11, ↓m_oI12, m_pI12, ↓m_oI13, m_pI13, ↓m_oI14, m_pI14, ↓m_oI15, m_pI15, ↓m_oI16, m_pI16, ↓m_oI17, m_pI17, m_pZ5, m_pZ12, ↓m_oR1, m_aI1, m_sI1, ↓m_oR2, m_aI2, m_sI2, ↓m_oR4, m_aI4, m_sI4, ↓m_oR6, m_aI6, m_sI6, ↓m_oR8, m_aI8, m_sI8, ↓m_oR9, m_aI9, m_sI9, ↓m_oR10, m_aI10, m_sI10, fX7_spread_L50]
      exact e1
    · refine ⟨M, ?_, fun c hc => ⟨BI_all hB.1 hi hc, BJ_rg hB hc⟩, fun b _ _ => rfl⟩
      simp (disch := omega) only [↓reduceIte, Int.reduceEq, Int.reduceNe, Int.reduceLT, Int.reduceLE, Int.reduceNeg, Int.reduceMod, Int.reduceDiv, Int.reduceAdd, Int.reduceSub, Int.reduceMul, not_true_eq_false, not_false_eq_true, true_or, or_true, false_or, or_false, true_and, and_true, false_and, and_false, b2_T, b2_F, if_true, if_false, ↓mjn_b, ↓mjn0_b, ↓mjn2_b, iv_lit, iv_add, iv_sub, iv_mul, iv_neg, iv_le_t, iv_le_f, iv_lt_t, iv_lt_f, iv_eq_t, iv_eq_f, iv_div, iv_mod, mretT_p, mretT_b, e_mret, ↓e_bret, ↓m_mon, ↓m_oI0, m_pI0, ↓m_oI3, m_pI3, ↓m_oI5, m_pI5, ↓m_oI7, m_pI7, ↓m_oI11, m_pI11, ↓m_oI12, m_pI12, ↓m_oI13, m_pI13, ↓m_oI14, m_pI14, ↓m_oI15, m_pI15, ↓m_oI16, m_pI16, ↓m_oI17, m_pI17, m_pZ5, m_pZ12, ↓m_oR1, m_aI1, m_sI1, ↓m_oR2, m_aI2, m_sI2, ↓m_oR4, m_aI4, m_sI4, ↓m_oR6, m_aI6, m_sI6, ↓m_oR8, m_aI8, m_sI8, ↓m_oR9, m_aI9, m_sI9, ↓m_oR10, m_aI10, m_sI10, fX7_spread_L50]
theorem X7_spread_ev {g : Nat → Nat} {h : Nat → Option hC} {n w m : Nat} {M : Mm} (hf : mrg (M 8)) (hd : cin (M 1 1)) :
    ∃ (M' : Mm), fX7_spread g (some m) (md m M h, n, w) = some ((), (md m M' h, n, w)) ∧ (∀ c, cin c → dst (entD (M 8) 30) (expD (M 8) (M 1 1)) (M 1 1) (M' 9 c) c ∧ -1 ≤ M' 9 c ∧ M' 9 c ≤ 193) ∧ ∀ b, b ≠ 9 → b ≠ 10 → M' b = M b := by
  have hd2 := hd
  unfold cin at hd2
  have hS : ∀ c, cin c → c ≠ M 1 1 → (mu (mu (mfl M 9 0 192 (-1)) 10 0 (M 1 1)) 9 (M 1 1) 0) 9 c = -1 := fun c hc hne => by
    unfold cin at hc
    rw [mu_iu, iu_ne hne, mu_ob (by decide), mfl_at hc]
  have h0 : (mu (mu (mfl M 9 0 192 (-1)) 10 0 (M 1 1)) 9 (M 1 1) 0) 9 (M 1 1) = 0 := mu_eq
  have hq : (mu (mu (mfl M 9 0 192 (-1)) 10 0 (M 1 1)) 9 (M 1 1) 0) 10 0 = M 1 1 := by
    rw [mu_ob (by decide), mu_eq]
  obtain ⟨M', e1, e2, e3⟩ := X7_spread_L50_ev (g := g) (h := h) (n := n) (w := w) (m := m) (d := M 1 1) hf 192 5000 (mu (mu (mfl M 9 0 192 (-1)) 10 0 (M 1 1)) 9 (M 1 1) 0) 1 0 (by omega) (by omega) (by rw [mu_ob (by decide), mu_ob (by decide), mfl_ob (by decide)]) ⟨BI_init hd (Or.inl rfl) h0 hS hq, BB_init h0 hS hq⟩
  refine ⟨M', ?_, e2, fun b b9 b10 => by rw [e3 b b9 b10, mu_ob b9, mu_ob b10, mfl_ob b9]⟩
  unfold fX7_spread
  simp only [iv_lit]
  rw [X7_spread_L2_ev 192 5000 M 0 (by omega) (by omega) (by omega)]
  rw [← e1]
  simp (disch := omega) only [↓reduceIte, Int.reduceEq, Int.reduceNe, Int.reduceLT, Int.reduceLE, Int.reduceNeg, Int.reduceMod, Int.reduceDiv, Int.reduceAdd, Int.reduceSub, Int.reduceMul, not_true_eq_false, not_false_eq_true, true_or, or_true, false_or, or_false, true_and, and_true, false_and, and_false, b2_T, b2_F, if_true, if_false, ↓mjn_b, ↓mjn0_b, ↓mjn2_b, iv_lit, iv_add, iv_sub, iv_mul, iv_neg, iv_le_t, iv_le_f, iv_lt_t, iv_lt_f, iv_eq_t, iv_eq_f, iv_div, iv_mod, mretT_p, mretT_b, e_mret, ↓e_bret, ↓m_mon, ↓m_oI0, m_pI0, ↓m_oI3, m_pI3, ↓m_oI5, m_pI5, ↓m_oI7, m_pI7, ↓m_oI11, m_pI11, ↓m_oI12, m_pI12, ↓m_oI13, m_pI13, ↓m_oI14, m_pI14, ↓m_oI15, m_pI15, ↓m_oI16, m_pI16, ↓m_oI17, m_pI17, m_pZ5, m_pZ12, ↓m_oR1, m_aI1, m_sI1, ↓m_oR2, m_aI2, m_sI2, ↓m_oR4, m_aI4, m_sI4, ↓m_oR6, m_aI6, m_sI6, ↓m_oR8, m_aI8, m_sI8, ↓m_oR9, m_aI9, m_sI9, ↓m_oR10, m_aI10, m_sI10, mfl_ob (show (1 : Nat) ≠ 9 by decide), mu_nb, mu_at, mu_ni]
