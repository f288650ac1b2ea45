/-! ===== the steps from a chair ===== -/
def yl (h : Nat → Option hC) (p : Nat) (S Q : Int → Int) : Nat → Option hC := hset (hset h p (ari 0 192 (fun c => S c + 1))) (p + 1) (ari 0 192 Q)
def YB (h : Nat → Option hC) (a : Nat) (D : Nat → Nat) (p : Nat) (z F : Int → Int) : Prop := SO h a D z ∧ h (D 4) = some (ari 0 192 F) ∧ h p = none ∧ h (p + 1) = none
theorem yl_ne {h : Nat → Option hC} {p : Nat} {S Q : Int → Int} {q : Nat} {c : hC} (hn : h p = none) (hn1 : h (p + 1) = none) (hq : h q = some c) : yl h p S Q q = some c := by
  unfold yl
  rw [hset_ne (fun e => by rw [e, hn1] at hq; cases hq), hset_ne (fun e => by rw [e, hn] at hq; cases hq)]
  exact hq
theorem yl_S {h : Nat → Option hC} {p : Nat} {S Q : Int → Int} : yl h p S Q p = some (ari 0 192 (fun c => S c + 1)) := by
  unfold yl
  rw [hset_ne (by omega), hset_at]
theorem yl_Q {h : Nat → Option hC} {p : Nat} {S Q : Int → Int} : yl h p S Q (p + 1) = some (ari 0 192 Q) := hset_at
theorem yl_wS {h : Nat → Option hC} {p : Nat} {S Q : Int → Int} {x v : Int} : hset (yl h p S Q) p (ari 0 192 (iu (fun c => S c + 1) x (v + 1))) = yl h p (iu S x v) Q := by
  have e : iu (fun c => S c + 1) x (v + 1) = fun c => iu S x v c + 1 := by
    funext c
    unfold iu
    by_cases q : c = x
    · rw [if_pos q, if_pos q]
    · rw [if_neg q, if_neg q]
  rw [e]
  unfold yl
  rw [hset_cm (by omega), hset_hset]
theorem yl_wQ {h : Nat → Option hC} {p : Nat} {S Q Q' : Int → Int} : hset (yl h p S Q) (p + 1) (ari 0 192 Q') = yl h p S Q' := hset_hset
theorem X2_sfc_L51_ev {g : Nat → Nat} {h : Nat → Option hC} {n w a p : Nat} {D : Nat → Nat} {z F : Int → Int} {K : Int32 → HM Int32} {v4 : Int32} {d i cell : Int} (hb : YB h a D p z F) (hf : mrg F) (hcell : cin cell) : ∀ (k nn : Nat) (S Q : Int → Int) (cnt y : Int), k < nn → 0 ≤ y → y + k = 4 → BJ (entC F) (fun _ => True) d S Q cnt i (wB cell y) → i < cnt → Q i = cell →
    ∃ (S' Q' : Int → Int) (cnt' : Int), fX2_stepsFromChair_L51 g nn (some a) (some p) (some (p + 1)) v4 (iv cnt) (iv cell) (iv y) K (yl h p S Q, n, w) = K (iv cnt') (yl h p S' Q', n, w) ∧ BJ (entC F) (fun _ => True) d S' Q' cnt' i (wB cell 4) ∧ i < cnt' ∧ Q' i = cell := by
  obtain ⟨b1, b2, b3, b4⟩ := hb
  have hc := hcell
  unfold cin at hc
  intro k
  induction k with
  | zero =>
    intro nn S Q cnt y hn hy he hB hi hq
    obtain ⟨q, rfl⟩ : ∃ q, nn = q + 1 := ⟨nn - 1, by omega⟩
    have hy4 : y = 4 := by omega
    subst hy4
    refine ⟨S, Q, cnt, ?_, hB, hi, hq⟩
    simp (disch := omega) only [↓reduceIte, Int.reduceEq, Int.reduceNe, Int.reduceLT, Int.reduceLE, Int.reduceNeg, Int.reduceMod, Int.reduceDiv, Int.reduceAdd, Int.reduceSub, Int.reduceMul, not_true_eq_false, not_false_eq_true, Int.lt_irrefl, true_or, or_true, false_or, or_false, true_and, and_true, false_and, and_false, b2_T, b2_F, if_true, if_false, ↓mjn_b, ↓mjn0_b, ↓mjn2_b, iv_lit, iv_add, iv_sub, iv_mul, iv_neg, iv_le_t, iv_le_f, iv_lt_t, iv_lt_f, iv_eq_t, iv_eq_f, iv_div, iv_mod, mretT_p, mretT_b, e_mret, ↓e_bret, ↓m_mon, ↓m_oI0, m_pI0, ↓m_oI3, m_pI3, ↓m_oI5, m_pI5, ↓m_oI7, m_pI7, ↓m_oI11, m_pI11, ↓m_oI12, m_pI12, ↓m_oI13, m_pI13, ↓m_oI14, m_pI14, ↓m_oI15, m_pI15, ↓m_oI16, m_pI16, ↓m_oI17, m_pI17, m_pZ5, m_pZ12, ↓m_oR1, m_aI1, m_sI1, ↓m_oR2, m_aI2, m_sI2, ↓m_oR4, m_aI4, m_sI4, ↓m_oR6, m_aI6, m_sI6, ↓m_oR8, m_aI8, m_sI8, ↓m_oR9, m_aI9, m_sI9, ↓m_oR10, m_aI10, m_sI10, fX2_stepsFromChair_L51]
  | succ k ih =>
    intro nn S Q cnt y hn hy he hB hi hq
    obtain ⟨q, rfl⟩ : ∃ q, nn = q + 1 := ⟨nn - 1, by omega⟩
    have ho := yl_ne (S := S) (Q := Q) b3 b4 b1
    have hlen := BI_len hB.1
    have hi0 := hB.1.1
    have hy4 : 0 ≤ y ∧ y < 4 := by omega
    have hbr := bes_rg (y := y) hcell
    have r9c := BJ_rg hB hcell
    have eb := fun (K : Int32 → HM Int32) => X2_beside_c (g := g) (h := yl h p S Q) (n := n) (w := w) (K := K) hcell hy4
    have ih' := fun (S Q : Int → Int) (cnt : Int) => ih q S Q cnt (y + 1) (by omega) (by omega) (by omega)
    by_cases hneg : bes cell y < 0
    · obtain ⟨S', Q', cnt', f1, f2⟩ := ih' S Q cnt ⟨BI_W hB.1 (fun c hc => wB_n hneg hc), hB.2⟩ hi hq
      refine ⟨S', Q', cnt', ?_, f2⟩
      rw [← f1]
      simp (disch := omega) only [↓reduceIte, Int.reduceEq, Int.reduceNe, Int.reduceLT, Int.reduceLE, Int.reduceNeg, Int.reduceMod, Int.reduceDiv, Int.reduceAdd, Int.reduceSub, Int.reduceMul, not_true_eq_false, not_false_eq_true, Int.lt_irrefl, true_or, or_true, false_or, or_false, true_and, and_true, false_and, and_false, b2_T, b2_F, if_true, if_false, ↓mjn_b, ↓mjn0_b, ↓mjn2_b, iv_lit, iv_add, iv_sub, iv_mul, iv_neg, iv_le_t, iv_le_f, iv_lt_t, iv_lt_f, iv_eq_t, iv_eq_f, iv_div, iv_mod, mretT_p, mretT_b, e_mret, ↓e_bret, ↓m_mon, ↓m_oI0, m_pI0, ↓m_oI3, m_pI3, ↓m_oI5, m_pI5, ↓m_oI7, m_pI7, ↓m_oI11, m_pI11, ↓m_oI12, m_pI12, ↓m_oI13, m_pI13, ↓m_oI14, m_pI14, ↓m_oI15, m_pI15, ↓m_oI16, m_pI16, ↓m_oI17, m_pI17, m_pZ5, m_pZ12, ↓m_oR1, m_aI1, m_sI1, ↓m_oR2, m_aI2, m_sI2, ↓m_oR4, m_aI4, m_sI4, ↓m_oR6, m_aI6, m_sI6, ↓m_oR8, m_aI8, m_sI8, ↓m_oR9, m_aI9, m_sI9, ↓m_oR10, m_aI10, m_sI10, fX2_stepsFromChair_L51, ↓eb]
    · have hadj := bes_adj hcell hy4 (by omega)
      generalize hx : bes cell y = x at eb hneg hadj hbr
      have hwx : ∀ c, wB cell (y + 1) c → wB cell y c ∨ c = x := fun c hc => by rw [← hx]; exact wB_s hc
      have hnc : cin x := hadj.1
      have hcn := hnc
      unfold cin at hcn
      have r9 := BJ_rg hB hnc
      have r8 := hf x hnc
      have g9 := fun (K : Int32 → HM Int32) => c_aI (K := K) (n := n) (w := w) (i := x) (yl_S (h := h) (p := p) (S := S) (Q := Q)) (by decide) hcn
      have g9c := fun (K : Int32 → HM Int32) => c_aI (K := K) (n := n) (w := w) (i := cell) (yl_S (h := h) (p := p) (S := S) (Q := Q)) (by decide) hc
      have g8 := fun (K : Int32 → HM Int32) => c_aI (K := K) (n := n) (w := w) (i := x) (yl_ne (S := S) (Q := Q) b3 b4 b2) (by decide) hcn
      by_cases hu : S x = -1
      · have hroom := BI_room hB.1 hnc hu
        have hu1 : S x + 1 = 0 := by omega
        rw [hu1] at g9
        have s9 := fun (K : Unit → HM Int32) => c_sI (K := K) (n := n) (w := w) (i := x) (x := S cell + 1 + 1) (yl_S (h := h) (p := p) (S := S) (Q := Q)) (by decide) hcn
        rw [yl_wS] at s9
        have hm1 : 0 ≤ cnt ∧ cnt < ((192 : Nat) : Int) := by omega
        have s10 := fun (K : Unit → HM Int32) => c_sI (K := K) (n := n) (w := w) (i := cnt) (x := x) (yl_Q (h := h) (p := p) (S := iu S x (S cell + 1)) (Q := Q)) (by decide) hm1
        rw [yl_wQ] at s10
        by_cases hen : F x = 0 ∨ F x = 2
        · have ht := BJ_take (x := x) (Q' := iu Q cnt x) (m' := cnt + 1) (W' := wB cell (y + 1)) hB hi (by rw [hq]; exact hadj) hen hu (fun j a b => iu_ne (by omega)) (Or.inl ⟨trivial, rfl, iu_at rfl⟩) hwx
          rw [hq] at ht
          obtain ⟨S', Q', cnt', f1, f2⟩ := ih' _ _ (cnt + 1) ht (by omega) (by rw [iu_ne (by omega)]; exact hq)
          refine ⟨S', Q', cnt', ?_, f2⟩
          rw [← f1]
          rcases hen with h0 | h0
          · rw [h0] at g8
            simp (disch := omega) only [↓reduceIte, Int.reduceEq, Int.reduceNe, Int.reduceLT, Int.reduceLE, Int.reduceNeg, Int.reduceMod, Int.reduceDiv, Int.reduceAdd, Int.reduceSub, Int.reduceMul, not_true_eq_false, not_false_eq_true, Int.lt_irrefl, true_or, or_true, false_or, or_false, true_and, and_true, false_and, and_false, b2_T, b2_F, if_true, if_false, ↓mjn_b, ↓mjn0_b, ↓mjn2_b, iv_lit, iv_add, iv_sub, iv_mul, iv_neg, iv_le_t, iv_le_f, iv_lt_t, iv_lt_f, iv_eq_t, iv_eq_f, iv_div, iv_mod, mretT_p, mretT_b, e_mret, ↓e_bret, ↓m_mon, ↓m_oI0, m_pI0, ↓m_oI3, m_pI3, ↓m_oI5, m_pI5, ↓m_oI7, m_pI7, ↓m_oI11, m_pI11, ↓m_oI12, m_pI12, ↓m_oI13, m_pI13, ↓m_oI14, m_pI14, ↓m_oI15, m_pI15, ↓m_oI16, m_pI16, ↓m_oI17, m_pI17, m_pZ5, m_pZ12, ↓m_oR1, m_aI1, m_sI1, ↓m_oR2, m_aI2, m_sI2, ↓m_oR4, m_aI4, m_sI4, ↓m_oR6, m_aI6, m_sI6, ↓m_oR8, m_aI8, m_sI8, ↓m_oR9, m_aI9, m_sI9, ↓m_oR10, m_aI10, m_sI10, fX2_stepsFromChair_L51, ↓eb, ↓s_o7 ho, ↓g9, ↓g9c, ↓g8, ↓s9, ↓s10]
          · rw [h0] at g8
            simp (disch := omega) only [↓reduceIte, Int.reduceEq, Int.reduceNe, Int.reduceLT, Int.reduceLE, Int.reduceNeg, Int.reduceMod, Int.reduceDiv, Int.reduceAdd, Int.reduceSub, Int.reduceMul, not_true_eq_false, not_false_eq_true, Int.lt_irrefl, true_or, or_true, false_or, or_false, true_and, and_true, false_and, and_false, b2_T, b2_F, if_true, if_false, ↓mjn_b, ↓mjn0_b, ↓mjn2_b, iv_lit, iv_add, iv_sub, iv_mul, iv_neg, iv_le_t, iv_le_f, iv_lt_t, iv_lt_f, iv_eq_t, iv_eq_f, iv_div, iv_mod, mretT_p, mretT_b, e_mret, ↓e_bret, ↓m_mon, ↓m_oI0, m_pI0, ↓m_oI3, m_pI3, ↓m_oI5, m_pI5, ↓m_oI7, m_pI7, ↓m_oI11, m_pI11, ↓m_oI12, m_pI12, ↓m_oI13, m_pI13, ↓m_oI14, m_pI14, ↓m_oI15, m_pI15, ↓m_oI16, m_pI16, ↓m_oI17, m_pI17, m_pZ5, m_pZ12, ↓m_oR1, m_aI1, m_sI1, ↓m_oR2, m_aI2, m_sI2, ↓m_oR4, m_aI4, m_sI4, ↓m_oR6, m_aI6, m_sI6, ↓m_oR8, m_aI8, m_sI8, ↓m_oR9, m_aI9, m_sI9, ↓m_oR10, m_aI10, m_sI10, fX2_stepsFromChair_L51, ↓eb, ↓s_o7 ho, ↓g9, ↓g9c, ↓g8, ↓s9, ↓s10]
        · obtain ⟨S', Q', cnt', f1, f2⟩ := ih' S Q cnt (BJ_skip (x := x) hB hi (fun _ e => absurd e hen) hwx) hi hq
          refine ⟨S', Q', cnt', ?_, f2⟩
          rw [← f1]
          have h0 : F x ≠ 0 := fun e => hen (Or.inl e)
          have h2 : F x ≠ 2 := fun e => hen (Or.inr e)
          simp (disch := omega) only [↓reduceIte, Int.reduceEq, Int.reduceNe, Int.reduceLT, Int.reduceLE, Int.reduceNeg, Int.reduceMod, Int.reduceDiv, Int.reduceAdd, Int.reduceSub, Int.reduceMul, not_true_eq_false, not_false_eq_true, Int.lt_irrefl, true_or, or_true, false_or, or_false, true_and, and_true, false_and, and_false, b2_T, b2_F, if_true, if_false, ↓mjn_b, ↓mjn0_b, ↓mjn2_b, iv_lit, iv_add, iv_sub, iv_mul, iv_neg, iv_le_t, iv_le_f, iv_lt_t, iv_lt_f, iv_eq_t, iv_eq_f, iv_div, iv_mod, mretT_p, mretT_b, e_mret, ↓e_bret, ↓m_mon, ↓m_oI0, m_pI0, ↓m_oI3, m_pI3, ↓m_oI5, m_pI5, ↓m_oI7, m_pI7, ↓m_oI11, m_pI11, ↓m_oI12, m_pI12, ↓m_oI13, m_pI13, ↓m_oI14, m_pI14, ↓m_oI15, m_pI15, ↓m_oI16, m_pI16, ↓m_oI17, m_pI17, m_pZ5, m_pZ12, ↓m_oR1, m_aI1, m_sI1, ↓m_oR2, m_aI2, m_sI2, ↓m_oR4, m_aI4, m_sI4, ↓m_oR6, m_aI6, m_sI6, ↓m_oR8, m_aI8, m_sI8, ↓m_oR9, m_aI9, m_sI9, ↓m_oR10, m_aI10, m_sI10, fX2_stepsFromChair_L51, ↓eb, ↓s_o7 ho, ↓g9, ↓g8, h0, h2]
      · obtain ⟨S', Q', cnt', f1, f2⟩ := ih' S Q cnt (BJ_skip (x := x) hB hi (fun _ _ => by omega) hwx) hi hq
        refine ⟨S', Q', cnt', ?_, f2⟩
        rw [← f1]
        simp (disch := omega) only [↓reduceIte, Int.reduceEq, Int.reduceNe, Int.reduceLT, Int.reduceLE, Int.reduceNeg, Int.reduceMod, Int.reduceDiv, Int.reduceAdd, Int.reduceSub, Int.reduceMul, not_true_eq_false, not_false_eq_true, Int.lt_irrefl, true_or, or_true, false_or, or_false, true_and, and_true, false_and, and_false, b2_T, b2_F, if_true, if_false, ↓mjn_b, ↓mjn0_b, ↓mjn2_b, iv_lit, iv_add, iv_sub, iv_mul, iv_neg, iv_le_t, iv_le_f, iv_lt_t, iv_lt_f, iv_eq_t, iv_eq_f, iv_div, iv_mod, mretT_p, mretT_b, e_mret, ↓e_bret, ↓m_mon, ↓m_oI0, m_pI0, ↓m_oI3, m_pI3, ↓m_oI5, m_pI5, ↓m_oI7, m_pI7, ↓m_oI11, m_pI11, ↓m_oI12, m_pI12, ↓m_oI13, m_pI13, ↓m_oI14, m_pI14, ↓m_oI15, m_pI15, ↓m_oI16, m_pI16, ↓m_oI17, m_pI17, m_pZ5, m_pZ12, ↓m_oR1, m_aI1, m_sI1, ↓m_oR2, m_aI2, m_sI2, ↓m_oR4, m_aI4, m_sI4, ↓m_oR6, m_aI6, m_sI6, ↓m_oR8, m_aI8, m_sI8, ↓m_oR9, m_aI9, m_sI9, ↓m_oR10, m_aI10, m_sI10, fX2_stepsFromChair_L51, ↓eb, ↓g9]
theorem X2_sfc_L30_ev {g : Nat → Nat} {h : Nat → Option hC} {n w a p : Nat} {D : Nat → Nat} {z F : Int → Int} {K : HM Int32} {s : Int} (hb : YB h a D p z F) (hf : mrg F) (hd : cin (z 1)) (hex : ∃ m, wlk (entC F) (fun _ => True) s m (z 1)) : ∀ (k nn : Nat) (S Q : Int → Int) (cnt i : Int), k < nn → i + k = 192 → BJ (entC F) (fun _ => True) s S Q cnt i (fun _ => False) →
    ∃ (S' Q' : Int → Int), fX2_stepsFromChair_L30 g nn (some a) (some p) (some (p + 1)) (iv i) (iv cnt) K (yl h p S Q, n, w) = K (yl h p S' Q', n, w) ∧ dst (entC F) (fun _ => True) s (S' (z 1)) (z 1) ∧ 0 ≤ S' (z 1) ∧ S' (z 1) ≤ 193 := by
  have b1 := hb.1
  have b3 := hb.2.2.1
  have b4 := hb.2.2.2
  have hd2 := hd
  unfold cin at hd2
  intro k
  induction k with
  | zero =>
    intro nn S Q cnt i hn he hB
    obtain ⟨q, rfl⟩ : ∃ q, nn = q + 1 := ⟨nn - 1, by omega⟩
    have ho := yl_ne (S := S) (Q := Q) b3 b4 b1
    have hlen := BI_len hB.1
    have r9 := BJ_rg hB hd
    have g9 := fun (K : Int32 → HM Int32) => c_aI (K := K) (n := n) (w := w) (i := z 1) (yl_S (h := h) (p := p) (S := S) (Q := Q)) (by decide) hd2
    have hv : S (z 1) ≠ -1 := fun e => by
      rcases BI_all hB.1 (by omega) hd with ⟨_, v⟩ | ⟨m, u, _⟩
      · obtain ⟨m, hm⟩ := hex
        exact v m hm
      · omega
    refine ⟨S, Q, ?_, BI_dst hB.1 hd (by omega), by omega, r9.2⟩
    simp (disch := omega) only [↓reduceIte, Int.reduceEq, Int.reduceNe, Int.reduceLT, Int.reduceLE, Int.reduceNeg, Int.reduceMod, Int.reduceDiv, Int.reduceAdd, Int.reduceSub, Int.reduceMul, not_true_eq_false, not_false_eq_true, Int.lt_irrefl, true_or, or_true, false_or, or_false, true_and, and_true, false_and, and_false, b2_T, b2_F, if_true, if_false, ↓mjn_b, ↓mjn0_b, ↓mjn2_b, iv_lit, iv_add, iv_sub, iv_mul, iv_neg, iv_le_t, iv_le_f, iv_lt_t, iv_lt_f, iv_eq_t, iv_eq_f, iv_div, iv_mod, mretT_p, mretT_b, e_mret, ↓e_bret, ↓m_mon, ↓m_oI0, m_pI0, ↓m_oI3, m_pI3, ↓m_oI5, m_pI5, ↓m_oI7, m_pI7, ↓m_oI11, m_pI11, ↓m_oI12, m_pI12, ↓m_oI13, m_pI13, ↓m_oI14, m_pI14, ↓m_oI15, m_pI15, ↓m_oI16, m_pI16, ↓m_oI17, m_pI17, m_pZ5, m_pZ12, ↓m_oR1, m_aI1, m_sI1, ↓m_oR2, m_aI2, m_sI2, ↓m_oR4, m_aI4, m_sI4, ↓m_oR6, m_aI6, m_sI6, ↓m_oR8, m_aI8, m_sI8, ↓m_oR9, m_aI9, m_sI9, ↓m_oR10, m_aI10, m_sI10, fX2_stepsFromChair_L30, ↓s_o1 ho, ↓g9]
  | succ k ih =>
    intro nn S Q cnt i hn he hB
    obtain ⟨q, rfl⟩ : ∃ q, nn = q + 1 := ⟨nn - 1, by omega⟩
    have ho := yl_ne (S := S) (Q := Q) b3 b4 b1
    have hlen := BI_len hB.1
    have hi0 := hB.1.1
    have r9 := BJ_rg hB hd
    have g9 := fun (K : Int32 → HM Int32) => c_aI (K := K) (n := n) (w := w) (i := z 1) (yl_S (h := h) (p := p) (S := S) (Q := Q)) (by decide) hd2
    by_cases hv : S (z 1) = -1
    · have hi : i < cnt := by
        refine Classical.byContradiction (fun hi => ?_)
        rcases BI_all hB.1 hi hd with ⟨_, v⟩ | ⟨m, u, _⟩
        · obtain ⟨m, hm⟩ := hex
          exact v m hm
        · omega
      have hv1 : S (z 1) + 1 = 0 := by omega
      rw [hv1] at g9
      have hcell := (hB.1.2.2.2.2.1 i hi0.1 hi).1
      have hi2 : 0 ≤ i ∧ i < ((192 : Nat) : Int) := by omega
      have gq := fun (K : Int32 → HM Int32) => c_aI (K := K) (n := n) (w := w) (i := i) (yl_Q (h := h) (p := p) (S := S) (Q := Q)) (by decide) hi2
      have e51 := fun (K : Int32 → HM Int32) => X2_sfc_L51_ev (g := g) (n := n) (w := w) (K := K) (v4 := iv (i + 1)) (i := i) hb hf hcell 4 5000 S Q cnt 0 (by omega) (by omega) (by omega) ⟨BI_W hB.1 (fun c hc => by obtain ⟨-, w', a', -⟩ := hc; omega), hB.2⟩ hi rfl
      obtain ⟨S1, Q1, cnt1, f1, f2, f3, f4⟩ := e51 (fun x12 => fX2_stepsFromChair_L30 g q (some a) (some p) (some (p + 1)) (iv (i + 1)) x12 K)
      have hB2 := BJ_next f2 f3 (fun c hc => by
        rw [f4] at hc
        obtain ⟨y, hy, e⟩ := adj_bes hc
        exact ⟨hc.1.1, y, hy, e⟩)
      obtain ⟨S', Q', k1, k2⟩ := ih q S1 Q1 cnt1 (i + 1) (by omega) (by omega) hB2
      refine ⟨S', Q', ?_, k2⟩
      rw [← k1, ← f1]
      simp (disch := omega) only [↓reduceIte, Int.reduceEq, Int.reduceNe, Int.reduceLT, Int.reduceLE, Int.reduceNeg, Int.reduceMod, Int.reduceDiv, Int.reduceAdd, Int.reduceSub, Int.reduceMul, not_true_eq_false, not_false_eq_true, Int.lt_irrefl, true_or, or_true, false_or, or_false, true_and, and_true, false_and, and_false, b2_T, b2_F, if_true, if_false, ↓mjn_b, ↓mjn0_b, ↓mjn2_b, iv_lit, iv_add, iv_sub, iv_mul, iv_neg, iv_le_t, iv_le_f, iv_lt_t, iv_lt_f, iv_eq_t, iv_eq_f, iv_div, iv_mod, mretT_p, mretT_b, e_mret, ↓e_bret, ↓m_mon, ↓m_oI0, m_pI0, ↓m_oI3, m_pI3, ↓m_oI5, m_pI5, ↓m_oI7, m_pI7, ↓m_oI11, m_pI11, ↓m_oI12, m_pI12, ↓m_oI13, m_pI13, ↓m_oI14, m_pI14, ↓m_oI15, m_pI15, ↓m_oI16, m_pI16, ↓m_oI17, m_pI17, m_pZ5, m_pZ12, ↓m_oR1, m_aI1, m_sI1, ↓m_oR2, m_aI2, m_sI2, ↓m_oR4, m_aI4, m_sI4, ↓m_oR6, m_aI6, m_sI6, ↓m_oR8, m_aI8, m_sI8, ↓m_oR9, m_aI9, m_sI9, ↓m_oR10, m_aI10, m_sI10, fX2_stepsFromChair_L30, ↓s_o1 ho, ↓g9, ↓gq]
    · refine ⟨S, Q, ?_, BI_dst hB.1 hd (by omega), by omega, r9.2⟩
      simp (disch := omega) only [↓reduceIte, Int.reduceEq, Int.reduceNe, Int.reduceLT, Int.reduceLE, Int.reduceNeg, Int.reduceMod, Int.reduceDiv, Int.reduceAdd, Int.reduceSub, Int.reduceMul, not_true_eq_false, not_false_eq_true, Int.lt_irrefl, true_or, or_true, false_or, or_false, true_and, and_true, false_and, and_false, b2_T, b2_F, if_true, if_false, ↓mjn_b, ↓mjn0_b, ↓mjn2_b, iv_lit, iv_add, iv_sub, iv_mul, iv_neg, iv_le_t, iv_le_f, iv_lt_t, iv_lt_f, iv_eq_t, iv_eq_f, iv_div, iv_mod, mretT_p, mretT_b, e_mret, ↓e_bret, ↓m_mon, ↓m_oI0, m_pI0, ↓m_oI3, m_pI3, ↓m_oI5, m_pI5, ↓m_oI7, m_pI7, ↓m_oI11, m_pI11, ↓m_oI12, m_pI12, ↓m_oI13, m_pI13, ↓m_oI14, m_pI14, ↓m_oI15, m_pI15, ↓m_oI16, m_pI16, ↓m_oI17, m_pI17, m_pZ5, m_pZ12, ↓m_oR1, m_aI1, m_sI1, ↓m_oR2, m_aI2, m_sI2, ↓m_oR4, m_aI4, m_sI4, ↓m_oR6, m_aI6, m_sI6, ↓m_oR8, m_aI8, m_sI8, ↓m_oR9, m_aI9, m_sI9, ↓m_oR10, m_aI10, m_sI10, fX2_stepsFromChair_L30, ↓s_o1 ho, ↓g9]
theorem door_mpz {z : Int → Int} (hz : wZ z) : mpz z (z 1) = 2 := mpz_mem (wZ_nd hz) (by unfold laid; exact List.mem_append_left _ (List.mem_cons_self ..))
theorem mpz_door {z : Int → Int} (hz : wZ z) {c : Int} (h : mpz z c = 2) : c = z 1 := by
  have h15 := wZ_15 hz
  have hm := mpz_ex (z := z) (c := c) (by omega)
  rw [h] at hm
  unfold laid at hm
  rcases List.mem_append.mp hm with hm | hm
  · rcases List.mem_cons.mp hm with hm | hm
    · exact congrArg Prod.fst hm
    · unfold play at hm
      obtain ⟨k, a, b, e⟩ := (runL_mem _ _).1 hm
      have e2 : (2 : Int) = 1 := congrArg Prod.snd e
      omega
  · exfalso
    unfold tslay at hm
    obtain ⟨l, hl, hm⟩ := List.mem_flatten.mp hm
    obtain ⟨t, a, b, rfl⟩ := (runL_mem _ _).1 hl
    unfold tlay at hm
    rcases List.mem_append.mp hm with hm | hm
    · obtain ⟨j, _, _, e⟩ := (runL_mem _ _).1 hm
      have e2 : (2 : Int) = 10 + t := congrArg Prod.snd e
      omega
    · obtain ⟨j, _, _, e⟩ := (runL_mem _ _).1 hm
      have e2 : (2 : Int) = 30 + t := congrArg Prod.snd e
      omega
