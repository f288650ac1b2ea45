/-! ===== the best chair, in a state ===== -/
theorem X2_isBetter_c {β : Type} {K : Int32 → HM β} {g : Nat → Nat} {h : Nat → Option hC} {n w a : Nat} {D : Nat → Nat} {tb gb : Int → Nat} {z : Int → Int} {c d : Int} (hz : wZ z) (hs : ST g h a D tb gb z) (hc : cin c) (hd : cin d) : mb (mon 1 (some a) (mcall0 (fX2_isBetter g (some a) (iv c) (iv d)))) K (h, n, w) = K (iv (b2 (c / 16 < d / 16 ∨ (c / 16 = d / 16 ∧ stz z c < stz z d)))) (h, n, w) := by
  have ho := hs.1.1
  unfold SO at ho
  obtain ⟨T, hT, hT2⟩ := hs.2.2.2.2.1
  have r1 := stz_rg hz hc
  have r2 := stz_rg hz hd
  have e1 := fun (K : Int32 → HM Int32) => c_aI (K := K) (n := n) (w := 0) (i := c) hT (by decide) hc
  have e2 := fun (K : Int32 → HM Int32) => c_aI (K := K) (n := n) (w := 0) (i := d) hT (by decide) hd
  rw [hT2 _ hc] at e1
  rw [hT2 _ hd] at e2
  unfold cin at hc hd
  rw [c_mon ho]
  refine e_call0 (u' := 0) ?_
  unfold fX2_isBetter
  by_cases q : c / 16 = d / 16
  · by_cases u : stz z c < stz z d
    · rw [b2_t (Or.inr ⟨q, u⟩)]
      simp (disch := omega) only [↓reduceIte, Int.reduceEq, Int.reduceNe, Int.reduceLT, Int.reduceLE, Int.reduceNeg, Int.reduceMod, Int.reduceDiv, Int.reduceAdd, Int.reduceSub, Int.reduceMul, not_true_eq_false, not_false_eq_true, Int.lt_irrefl, true_or, or_true, false_or, or_false, true_and, and_true, false_and, and_false, b2_T, b2_F, if_true, if_false, ↓mjn_b, ↓mjn0_b, ↓mjn2_b, iv_lit, iv_add, iv_sub, iv_mul, iv_neg, iv_le_t, iv_le_f, iv_lt_t, iv_lt_f, iv_eq_t, iv_eq_f, iv_div, iv_mod, mretT_p, mretT_b, e_mret, ↓e_bret, ↓m_mon, ↓m_oI0, m_pI0, ↓m_oI3, m_pI3, ↓m_oI5, m_pI5, ↓m_oI7, m_pI7, ↓m_oI11, m_pI11, ↓m_oI12, m_pI12, ↓m_oI13, m_pI13, ↓m_oI14, m_pI14, ↓m_oI15, m_pI15, ↓m_oI16, m_pI16, ↓m_oI17, m_pI17, m_pZ5, m_pZ12, ↓m_oR1, m_aI1, m_sI1, ↓m_oR2, m_aI2, m_sI2, ↓m_oR4, m_aI4, m_sI4, ↓m_oR6, m_aI6, m_sI6, ↓m_oR8, m_aI8, m_sI8, ↓m_oR9, m_aI9, m_sI9, ↓m_oR10, m_aI10, m_sI10, ↓s_o8 ho, ↓e1, ↓e2, q]
    · rw [b2_f (fun w => w.elim (fun v => by omega) (fun v => u v.2))]
      simp (disch := omega) only [↓reduceIte, Int.reduceEq, Int.reduceNe, Int.reduceLT, Int.reduceLE, Int.reduceNeg, Int.reduceMod, Int.reduceDiv, Int.reduceAdd, Int.reduceSub, Int.reduceMul, not_true_eq_false, not_false_eq_true, Int.lt_irrefl, true_or, or_true, false_or, or_false, true_and, and_true, false_and, and_false, b2_T, b2_F, if_true, if_false, ↓mjn_b, ↓mjn0_b, ↓mjn2_b, iv_lit, iv_add, iv_sub, iv_mul, iv_neg, iv_le_t, iv_le_f, iv_lt_t, iv_lt_f, iv_eq_t, iv_eq_f, iv_div, iv_mod, mretT_p, mretT_b, e_mret, ↓e_bret, ↓m_mon, ↓m_oI0, m_pI0, ↓m_oI3, m_pI3, ↓m_oI5, m_pI5, ↓m_oI7, m_pI7, ↓m_oI11, m_pI11, ↓m_oI12, m_pI12, ↓m_oI13, m_pI13, ↓m_oI14, m_pI14, ↓m_oI15, m_pI15, ↓m_oI16, m_pI16, ↓m_oI17, m_pI17, m_pZ5, m_pZ12, ↓m_oR1, m_aI1, m_sI1, ↓m_oR2, m_aI2, m_sI2, ↓m_oR4, m_aI4, m_sI4, ↓m_oR6, m_aI6, m_sI6, ↓m_oR8, m_aI8, m_sI8, ↓m_oR9, m_aI9, m_sI9, ↓m_oR10, m_aI10, m_sI10, ↓s_o8 ho, ↓e1, ↓e2, q]
  · by_cases u : c / 16 < d / 16
    · rw [b2_t (Or.inl u)]
      simp (disch := omega) only [↓reduceIte, Int.reduceEq, Int.reduceNe, Int.reduceLT, Int.reduceLE, Int.reduceNeg, Int.reduceMod, Int.reduceDiv, Int.reduceAdd, Int.reduceSub, Int.reduceMul, not_true_eq_false, not_false_eq_true, Int.lt_irrefl, true_or, or_true, false_or, or_false, true_and, and_true, false_and, and_false, b2_T, b2_F, if_true, if_false, ↓mjn_b, ↓mjn0_b, ↓mjn2_b, iv_lit, iv_add, iv_sub, iv_mul, iv_neg, iv_le_t, iv_le_f, iv_lt_t, iv_lt_f, iv_eq_t, iv_eq_f, iv_div, iv_mod, mretT_p, mretT_b, e_mret, ↓e_bret, ↓m_mon, ↓m_oI0, m_pI0, ↓m_oI3, m_pI3, ↓m_oI5, m_pI5, ↓m_oI7, m_pI7, ↓m_oI11, m_pI11, ↓m_oI12, m_pI12, ↓m_oI13, m_pI13, ↓m_oI14, m_pI14, ↓m_oI15, m_pI15, ↓m_oI16, m_pI16, ↓m_oI17, m_pI17, m_pZ5, m_pZ12, ↓m_oR1, m_aI1, m_sI1, ↓m_oR2, m_aI2, m_sI2, ↓m_oR4, m_aI4, m_sI4, ↓m_oR6, m_aI6, m_sI6, ↓m_oR8, m_aI8, m_sI8, ↓m_oR9, m_aI9, m_sI9, ↓m_oR10, m_aI10, m_sI10, q]
    · rw [b2_f (fun w => w.elim u (fun v => q v.1))]
      simp (disch := omega) only [↓reduceIte, Int.reduceEq, Int.reduceNe, Int.reduceLT, Int.reduceLE, Int.reduceNeg, Int.reduceMod, Int.reduceDiv, Int.reduceAdd, Int.reduceSub, Int.reduceMul, not_true_eq_false, not_false_eq_true, Int.lt_irrefl, true_or, or_true, false_or, or_false, true_and, and_true, false_and, and_false, b2_T, b2_F, if_true, if_false, ↓mjn_b, ↓mjn0_b, ↓mjn2_b, iv_lit, iv_add, iv_sub, iv_mul, iv_neg, iv_le_t, iv_le_f, iv_lt_t, iv_lt_f, iv_eq_t, iv_eq_f, iv_div, iv_mod, mretT_p, mretT_b, e_mret, ↓e_bret, ↓m_mon, ↓m_oI0, m_pI0, ↓m_oI3, m_pI3, ↓m_oI5, m_pI5, ↓m_oI7, m_pI7, ↓m_oI11, m_pI11, ↓m_oI12, m_pI12, ↓m_oI13, m_pI13, ↓m_oI14, m_pI14, ↓m_oI15, m_pI15, ↓m_oI16, m_pI16, ↓m_oI17, m_pI17, m_pZ5, m_pZ12, ↓m_oR1, m_aI1, m_sI1, ↓m_oR2, m_aI2, m_sI2, ↓m_oR4, m_aI4, m_sI4, ↓m_oR6, m_aI6, m_sI6, ↓m_oR8, m_aI8, m_sI8, ↓m_oR9, m_aI9, m_sI9, ↓m_oR10, m_aI10, m_sI10, q]
def bo2 (p : Int × Int) : Prop := (-1 ≤ p.1 ∧ p.1 < 200) ∧ (-1 ≤ p.2 ∧ p.2 < 192) ∧ (p.1 ≠ -1 → cin p.2)
theorem bcs_o2 {z : Int → Int} {x t c : Int} {p : Int × Int} (hp : bo2 p) (ht : 0 ≤ t ∧ t ≤ 10) (hc : 0 ≤ c ∧ c < 8) (hi : cin (chT z t c)) : bo2 (bcs z x t p c) := by
  unfold bcs
  split
  · unfold cin at hi
    exact ⟨by dsimp only; omega, by dsimp only; omega, fun _ => hi⟩
  · exact hp
theorem X2_bestChair_L85_ev {g : Nat → Nat} {h : Nat → Option hC} {n w a : Nat} {D : Nat → Nat} {tb gb : Int → Nat} {z : Int → Int} {K : Int32 → Int32 → HM Int32} {x t : Int} (hg : gD g) (hz : wZ z) (hs : ST g h a D tb gb z) (hx : 0 ≤ x ∧ x < z 60) (ht : 0 ≤ t ∧ t < z 15) (hf : wid z x ≤ caN (zk z t)) : ∀ (k nn : Nat) (p : Int × Int) (c : Int), k < nn → 0 ≤ c → c + k = chN (zk z t) → bo2 p →
    fX2_bestChair_L85 g nn (some a) (iv x) (some (gb x)) (iv p.1) (iv p.2) (iv (z 15)) (iv t) (some (tb t)) (iv (chN (zk z t))) (iv c) K (h, n, w) = K (iv (foldI (bcs z x t) p c k).1) (iv (foldI (bcs z x t) p c k).2) (h, n, w) := by
  have ho := hs.1.1
  unfold SO at ho
  have h15 := wZ_15 hz
  have h60 := wZ_60 hz
  have hN := chN_rg (zk z t)
  have hwt := wZ_t hz ht
  obtain ⟨W, hW, hW2⟩ := hs.2.2.2.2.2
  intro k
  induction k with
  | zero =>
    intro nn p c hn hc he hp
    obtain ⟨q, rfl⟩ : ∃ q, nn = q + 1 := ⟨nn - 1, by omega⟩
    show _ = K (iv p.1) (iv p.2) (h, n, w)
    simp (disch := omega) only [↓reduceIte, Int.reduceEq, Int.reduceNe, Int.reduceLT, Int.reduceLE, Int.reduceNeg, Int.reduceMod, Int.reduceDiv, Int.reduceAdd, Int.reduceSub, Int.reduceMul, not_true_eq_false, not_false_eq_true, Int.lt_irrefl, true_or, or_true, false_or, or_false, true_and, and_true, false_and, and_false, b2_T, b2_F, if_true, if_false, ↓mjn_b, ↓mjn0_b, ↓mjn2_b, iv_lit, iv_add, iv_sub, iv_mul, iv_neg, iv_le_t, iv_le_f, iv_lt_t, iv_lt_f, iv_eq_t, iv_eq_f, iv_div, iv_mod, mretT_p, mretT_b, e_mret, ↓e_bret, ↓m_mon, ↓m_oI0, m_pI0, ↓m_oI3, m_pI3, ↓m_oI5, m_pI5, ↓m_oI7, m_pI7, ↓m_oI11, m_pI11, ↓m_oI12, m_pI12, ↓m_oI13, m_pI13, ↓m_oI14, m_pI14, ↓m_oI15, m_pI15, ↓m_oI16, m_pI16, ↓m_oI17, m_pI17, m_pZ5, m_pZ12, ↓m_oR1, m_aI1, m_sI1, ↓m_oR2, m_aI2, m_sI2, ↓m_oR4, m_aI4, m_sI4, ↓m_oR6, m_aI6, m_sI6, ↓m_oR8, m_aI8, m_sI8, ↓m_oR9, m_aI9, m_sI9, ↓m_oR10, m_aI10, m_sI10, fX2_bestChair_L85]
  | succ k ih =>
    intro nn p c hn hc he hp
    obtain ⟨q, rfl⟩ : ∃ q, nn = q + 1 := ⟨nn - 1, by omega⟩
    have hch : isCh z t c := ⟨ht, hc, by omega⟩
    have hci := chT_cin ((pck_0i hz.2.2.2.2.2.2).1 t ht.1 ht.2) hch.2
    have hb_t := hs.1.2.2.2 t ht.1 ht.2
    obtain ⟨s_t, ht_t, hh_t⟩ := id hb_t
    have eT_t := fun (K : Option Nat → HM Int32) => J2_get_c (K := K) (n := n) (w := w) (i := t) hs.1.2.2.1 ht
    have eC_t := fun (K : Unit → HM Int32) => c_mcst (K := K) (n := n) (w := w) (cs := [2]) ht_t (List.mem_cons_self ..)
    have ev : 16 * (zp z t / 16 + chD (zk z t) (zt z t) c) + zp z t % 16 + chR (zk z t) (zt z t) c = chT z t c := by unfold chT; omega
    have ex := fun (K : Int32 → HM Int32) => X3_chair_c (g := g) (K := K) (n := n) (w := w) hg hb_t hwt.2.2.1 hch.2
    rw [ev] at ex
    have eW := fun (K : Int32 → HM Int32) => c_aI (K := K) (n := n) (w := w) (i := chT z t c) hW (by decide) hci
    rw [hW2 _ hci, sitC_sitr hz hch hci] at eW
    have hsr := sitr_rg h60.1 t c
    have ebl := fun (K : Int32 → HM Int32) => X2_blockedFrom_c (K := K) (n := n) (w := w) hz hs hx hci
    have hbr := blk_rg (g := x) (c := chT z t c) hz.1.1 hci (chT z t c / 16).toNat (by omega)
    change -1 ≤ blkd z x (chT z t c) ∧ blkd z x (chT z t c) < 192 at hbr
    have hp1 := hp.1
    have hp2 := hp.2.1
    have hp3 := bcs_o2 (z := z) (x := x) (t := t) (c := c) hp (by omega) (by omega) hci
    have ih2 := ih q (bcs z x t p c) (c + 1) (by omega) (by omega) (by omega) hp3
    show _ = K (iv (foldI (bcs z x t) (bcs z x t p c) (c + 1) k).1) (iv (foldI (bcs z x t) (bcs z x t p c) (c + 1) k).2) (h, n, w)
    rw [← ih2]
    have hstep : ∀ (b : Prop), (b ↔ (bcan z x t c ∧ bbet z p (chT z t c))) → bcs z x t p c = @ite (Int × Int) b (Classical.propDecidable _) (8 * t + c, chT z t c) p := fun b hb => c_ite hb.symm
    by_cases s1 : sitr z t c = -1 ∨ sitr z t c = x
    · by_cases s2 : blkd z x (chT z t c) = -1
      · have hcan : bcan z x t c := ⟨s1, hf, s2⟩
        rw [s2] at ebl
        by_cases s3 : p.1 = -1
        · rw [hstep True ⟨fun _ => ⟨hcan, Or.inl s3⟩, fun _ => trivial⟩, if_pos trivial]
          by_cases s4 : sitr z t c = -1
          · simp (disch := omega) only [↓reduceIte, Int.reduceEq, Int.reduceNe, Int.reduceLT, Int.reduceLE, Int.reduceNeg, Int.reduceMod, Int.reduceDiv, Int.reduceAdd, Int.reduceSub, Int.reduceMul, not_true_eq_false, not_false_eq_true, Int.lt_irrefl, true_or, or_true, false_or, or_false, true_and, and_true, false_and, and_false, b2_T, b2_F, if_true, if_false, ↓mjn_b, ↓mjn0_b, ↓mjn2_b, iv_lit, iv_add, iv_sub, iv_mul, iv_neg, iv_le_t, iv_le_f, iv_lt_t, iv_lt_f, iv_eq_t, iv_eq_f, iv_div, iv_mod, mretT_p, mretT_b, e_mret, ↓e_bret, ↓m_mon, ↓m_oI0, m_pI0, ↓m_oI3, m_pI3, ↓m_oI5, m_pI5, ↓m_oI7, m_pI7, ↓m_oI11, m_pI11, ↓m_oI12, m_pI12, ↓m_oI13, m_pI13, ↓m_oI14, m_pI14, ↓m_oI15, m_pI15, ↓m_oI16, m_pI16, ↓m_oI17, m_pI17, m_pZ5, m_pZ12, ↓m_oR1, m_aI1, m_sI1, ↓m_oR2, m_aI2, m_sI2, ↓m_oR4, m_aI4, m_sI4, ↓m_oR6, m_aI6, m_sI6, ↓m_oR8, m_aI8, m_sI8, ↓m_oR9, m_aI9, m_sI9, ↓m_oR10, m_aI10, m_sI10, fX2_bestChair_L85, ↓ex, ↓s_o9 ho, ↓eW, ↓ebl, s3, s4]
          · have s5 : sitr z t c = x := s1.elim (fun w => absurd w s4) (fun w => w)
            rw [s5] at eW s4
            simp (disch := omega) only [↓reduceIte, Int.reduceEq, Int.reduceNe, Int.reduceLT, Int.reduceLE, Int.reduceNeg, Int.reduceMod, Int.reduceDiv, Int.reduceAdd, Int.reduceSub, Int.reduceMul, not_true_eq_false, not_false_eq_true, Int.lt_irrefl, true_or, or_true, false_or, or_false, true_and, and_true, false_and, and_false, b2_T, b2_F, if_true, if_false, ↓mjn_b, ↓mjn0_b, ↓mjn2_b, iv_lit, iv_add, iv_sub, iv_mul, iv_neg, iv_le_t, iv_le_f, iv_lt_t, iv_lt_f, iv_eq_t, iv_eq_f, iv_div, iv_mod, mretT_p, mretT_b, e_mret, ↓e_bret, ↓m_mon, ↓m_oI0, m_pI0, ↓m_oI3, m_pI3, ↓m_oI5, m_pI5, ↓m_oI7, m_pI7, ↓m_oI11, m_pI11, ↓m_oI12, m_pI12, ↓m_oI13, m_pI13, ↓m_oI14, m_pI14, ↓m_oI15, m_pI15, ↓m_oI16, m_pI16, ↓m_oI17, m_pI17, m_pZ5, m_pZ12, ↓m_oR1, m_aI1, m_sI1, ↓m_oR2, m_aI2, m_sI2, ↓m_oR4, m_aI4, m_sI4, ↓m_oR6, m_aI6, m_sI6, ↓m_oR8, m_aI8, m_sI8, ↓m_oR9, m_aI9, m_sI9, ↓m_oR10, m_aI10, m_sI10, fX2_bestChair_L85, ↓ex, ↓s_o9 ho, ↓eW, ↓ebl, s3, s4]
        · have hd := hp.2.2 s3
          have eb := fun (K : Int32 → HM Int32) => X2_isBetter_c (K := K) (n := n) (w := w) hz hs hci hd
          by_cases s6 : chT z t c / 16 < p.2 / 16 ∨ (chT z t c / 16 = p.2 / 16 ∧ stz z (chT z t c) < stz z p.2)
          · rw [b2_t s6] at eb
            rw [hstep True ⟨fun _ => ⟨hcan, Or.inr s6⟩, fun _ => trivial⟩, if_pos trivial]
            by_cases s4 : sitr z t c = -1
            · simp (disch := omega) only [↓reduceIte, Int.reduceEq, Int.reduceNe, Int.reduceLT, Int.reduceLE, Int.reduceNeg, Int.reduceMod, Int.reduceDiv, Int.reduceAdd, Int.reduceSub, Int.reduceMul, not_true_eq_false, not_false_eq_true, Int.lt_irrefl, true_or, or_true, false_or, or_false, true_and, and_true, false_and, and_false, b2_T, b2_F, if_true, if_false, ↓mjn_b, ↓mjn0_b, ↓mjn2_b, iv_lit, iv_add, iv_sub, iv_mul, iv_neg, iv_le_t, iv_le_f, iv_lt_t, iv_lt_f, iv_eq_t, iv_eq_f, iv_div, iv_mod, mretT_p, mretT_b, e_mret, ↓e_bret, ↓m_mon, ↓m_oI0, m_pI0, ↓m_oI3, m_pI3, ↓m_oI5, m_pI5, ↓m_oI7, m_pI7, ↓m_oI11, m_pI11, ↓m_oI12, m_pI12, ↓m_oI13, m_pI13, ↓m_oI14, m_pI14, ↓m_oI15, m_pI15, ↓m_oI16, m_pI16, ↓m_oI17, m_pI17, m_pZ5, m_pZ12, ↓m_oR1, m_aI1, m_sI1, ↓m_oR2, m_aI2, m_sI2, ↓m_oR4, m_aI4, m_sI4, ↓m_oR6, m_aI6, m_sI6, ↓m_oR8, m_aI8, m_sI8, ↓m_oR9, m_aI9, m_sI9, ↓m_oR10, m_aI10, m_sI10, fX2_bestChair_L85, ↓ex, ↓s_o9 ho, ↓eW, ↓ebl, ↓eb, s4]
            · have s5 : sitr z t c = x := s1.elim (fun w => absurd w s4) (fun w => w)
              rw [s5] at eW s4
              simp (disch := omega) only [↓reduceIte, Int.reduceEq, Int.reduceNe, Int.reduceLT, Int.reduceLE, Int.reduceNeg, Int.reduceMod, Int.reduceDiv, Int.reduceAdd, Int.reduceSub, Int.reduceMul, not_true_eq_false, not_false_eq_true, Int.lt_irrefl, true_or, or_true, false_or, or_false, true_and, and_true, false_and, and_false, b2_T, b2_F, if_true, if_false, ↓mjn_b, ↓mjn0_b, ↓mjn2_b, iv_lit, iv_add, iv_sub, iv_mul, iv_neg, iv_le_t, iv_le_f, iv_lt_t, iv_lt_f, iv_eq_t, iv_eq_f, iv_div, iv_mod, mretT_p, mretT_b, e_mret, ↓e_bret, ↓m_mon, ↓m_oI0, m_pI0, ↓m_oI3, m_pI3, ↓m_oI5, m_pI5, ↓m_oI7, m_pI7, ↓m_oI11, m_pI11, ↓m_oI12, m_pI12, ↓m_oI13, m_pI13, ↓m_oI14, m_pI14, ↓m_oI15, m_pI15, ↓m_oI16, m_pI16, ↓m_oI17, m_pI17, m_pZ5, m_pZ12, ↓m_oR1, m_aI1, m_sI1, ↓m_oR2, m_aI2, m_sI2, ↓m_oR4, m_aI4, m_sI4, ↓m_oR6, m_aI6, m_sI6, ↓m_oR8, m_aI8, m_sI8, ↓m_oR9, m_aI9, m_sI9, ↓m_oR10, m_aI10, m_sI10, fX2_bestChair_L85, ↓ex, ↓s_o9 ho, ↓eW, ↓ebl, ↓eb, s4]
          · rw [b2_f s6] at eb
            rw [hstep False ⟨fun w => w.elim, fun w => w.2.elim s3 s6⟩, if_neg (fun w => w)]
            by_cases s4 : sitr z t c = -1
            · simp (disch := omega) only [↓reduceIte, Int.reduceEq, Int.reduceNe, Int.reduceLT, Int.reduceLE, Int.reduceNeg, Int.reduceMod, Int.reduceDiv, Int.reduceAdd, Int.reduceSub, Int.reduceMul, not_true_eq_false, not_false_eq_true, Int.lt_irrefl, true_or, or_true, false_or, or_false, true_and, and_true, false_and, and_false, b2_T, b2_F, if_true, if_false, ↓mjn_b, ↓mjn0_b, ↓mjn2_b, iv_lit, iv_add, iv_sub, iv_mul, iv_neg, iv_le_t, iv_le_f, iv_lt_t, iv_lt_f, iv_eq_t, iv_eq_f, iv_div, iv_mod, mretT_p, mretT_b, e_mret, ↓e_bret, ↓m_mon, ↓m_oI0, m_pI0, ↓m_oI3, m_pI3, ↓m_oI5, m_pI5, ↓m_oI7, m_pI7, ↓m_oI11, m_pI11, ↓m_oI12, m_pI12, ↓m_oI13, m_pI13, ↓m_oI14, m_pI14, ↓m_oI15, m_pI15, ↓m_oI16, m_pI16, ↓m_oI17, m_pI17, m_pZ5, m_pZ12, ↓m_oR1, m_aI1, m_sI1, ↓m_oR2, m_aI2, m_sI2, ↓m_oR4, m_aI4, m_sI4, ↓m_oR6, m_aI6, m_sI6, ↓m_oR8, m_aI8, m_sI8, ↓m_oR9, m_aI9, m_sI9, ↓m_oR10, m_aI10, m_sI10, fX2_bestChair_L85, ↓ex, ↓s_o9 ho, ↓eW, ↓ebl, ↓eb, s4]
            · have s5 : sitr z t c = x := s1.elim (fun w => absurd w s4) (fun w => w)
              rw [s5] at eW s4
              simp (disch := omega) only [↓reduceIte, Int.reduceEq, Int.reduceNe, Int.reduceLT, Int.reduceLE, Int.reduceNeg, Int.reduceMod, Int.reduceDiv, Int.reduceAdd, Int.reduceSub, Int.reduceMul, not_true_eq_false, not_false_eq_true, Int.lt_irrefl, true_or, or_true, false_or, or_false, true_and, and_true, false_and, and_false, b2_T, b2_F, if_true, if_false, ↓mjn_b, ↓mjn0_b, ↓mjn2_b, iv_lit, iv_add, iv_sub, iv_mul, iv_neg, iv_le_t, iv_le_f, iv_lt_t, iv_lt_f, iv_eq_t, iv_eq_f, iv_div, iv_mod, mretT_p, mretT_b, e_mret, ↓e_bret, ↓m_mon, ↓m_oI0, m_pI0, ↓m_oI3, m_pI3, ↓m_oI5, m_pI5, ↓m_oI7, m_pI7, ↓m_oI11, m_pI11, ↓m_oI12, m_pI12, ↓m_oI13, m_pI13, ↓m_oI14, m_pI14, ↓m_oI15, m_pI15, ↓m_oI16, m_pI16, ↓m_oI17, m_pI17, m_pZ5, m_pZ12, ↓m_oR1, m_aI1, m_sI1, ↓m_oR2, m_aI2, m_sI2, ↓m_oR4, m_aI4, m_sI4, ↓m_oR6, m_aI6, m_sI6, ↓m_oR8, m_aI8, m_sI8, ↓m_oR9, m_aI9, m_sI9, ↓m_oR10, m_aI10, m_sI10, fX2_bestChair_L85, ↓ex, ↓s_o9 ho, ↓eW, ↓ebl, ↓eb, s4]
      · rw [hstep False ⟨fun w => w.elim, fun w => s2 w.1.2.2⟩, if_neg (fun w => w)]
        by_cases s4 : sitr z t c = -1
        · simp (disch := omega) only [↓reduceIte, Int.reduceEq, Int.reduceNe, Int.reduceLT, Int.reduceLE, Int.reduceNeg, Int.reduceMod, Int.reduceDiv, Int.reduceAdd, Int.reduceSub, Int.reduceMul, not_true_eq_false, not_false_eq_true, Int.lt_irrefl, true_or, or_true, false_or, or_false, true_and, and_true, false_and, and_false, b2_T, b2_F, if_true, if_false, ↓mjn_b, ↓mjn0_b, ↓mjn2_b, iv_lit, iv_add, iv_sub, iv_mul, iv_neg, iv_le_t, iv_le_f, iv_lt_t, iv_lt_f, iv_eq_t, iv_eq_f, iv_div, iv_mod, mretT_p, mretT_b, e_mret, ↓e_bret, ↓m_mon, ↓m_oI0, m_pI0, ↓m_oI3, m_pI3, ↓m_oI5, m_pI5, ↓m_oI7, m_pI7, ↓m_oI11, m_pI11, ↓m_oI12, m_pI12, ↓m_oI13, m_pI13, ↓m_oI14, m_pI14, ↓m_oI15, m_pI15, ↓m_oI16, m_pI16, ↓m_oI17, m_pI17, m_pZ5, m_pZ12, ↓m_oR1, m_aI1, m_sI1, ↓m_oR2, m_aI2, m_sI2, ↓m_oR4, m_aI4, m_sI4, ↓m_oR6, m_aI6, m_sI6, ↓m_oR8, m_aI8, m_sI8, ↓m_oR9, m_aI9, m_sI9, ↓m_oR10, m_aI10, m_sI10, fX2_bestChair_L85, ↓ex, ↓s_o9 ho, ↓eW, ↓ebl, s4]
        · have s5 : sitr z t c = x := s1.elim (fun w => absurd w s4) (fun w => w)
          rw [s5] at eW s4
          simp (disch := omega) only [↓reduceIte, Int.reduceEq, Int.reduceNe, Int.reduceLT, Int.reduceLE, Int.reduceNeg, Int.reduceMod, Int.reduceDiv, Int.reduceAdd, Int.reduceSub, Int.reduceMul, not_true_eq_false, not_false_eq_true, Int.lt_irrefl, true_or, or_true, false_or, or_false, true_and, and_true, false_and, and_false, b2_T, b2_F, if_true, if_false, ↓mjn_b, ↓mjn0_b, ↓mjn2_b, iv_lit, iv_add, iv_sub, iv_mul, iv_neg, iv_le_t, iv_le_f, iv_lt_t, iv_lt_f, iv_eq_t, iv_eq_f, iv_div, iv_mod, mretT_p, mretT_b, e_mret, ↓e_bret, ↓m_mon, ↓m_oI0, m_pI0, ↓m_oI3, m_pI3, ↓m_oI5, m_pI5, ↓m_oI7, m_pI7, ↓m_oI11, m_pI11, ↓m_oI12, m_pI12, ↓m_oI13, m_pI13, ↓m_oI14, m_pI14, ↓m_oI15, m_pI15, ↓m_oI16, m_pI16, ↓m_oI17, m_pI17, m_pZ5, m_pZ12, ↓m_oR1, m_aI1, m_sI1, ↓m_oR2, m_aI2, m_sI2, ↓m_oR4, m_aI4, m_sI4, ↓m_oR6, m_aI6, m_sI6, ↓m_oR8, m_aI8, m_sI8, ↓m_oR9, m_aI9, m_sI9, ↓m_oR10, m_aI10, m_sI10, fX2_bestChair_L85, ↓ex, ↓s_o9 ho, ↓eW, ↓ebl, s4]
    · rw [hstep False ⟨fun w => w.elim, fun w => s1 w.1.1⟩, if_neg (fun w => w)]
      have s4 : sitr z t c ≠ -1 := fun w => s1 (Or.inl w)
      have s5 : sitr z t c ≠ x := fun w => s1 (Or.inr w)
      simp (disch := omega) only [↓reduceIte, Int.reduceEq, Int.reduceNe, Int.reduceLT, Int.reduceLE, Int.reduceNeg, Int.reduceMod, Int.reduceDiv, Int.reduceAdd, Int.reduceSub, Int.reduceMul, not_true_eq_false, not_false_eq_true, Int.lt_irrefl, true_or, or_true, false_or, or_false, true_and, and_true, false_and, and_false, b2_T, b2_F, if_true, if_false, ↓mjn_b, ↓mjn0_b, ↓mjn2_b, iv_lit, iv_add, iv_sub, iv_mul, iv_neg, iv_le_t, iv_le_f, iv_lt_t, iv_lt_f, iv_eq_t, iv_eq_f, iv_div, iv_mod, mretT_p, mretT_b, e_mret, ↓e_bret, ↓m_mon, ↓m_oI0, m_pI0, ↓m_oI3, m_pI3, ↓m_oI5, m_pI5, ↓m_oI7, m_pI7, ↓m_oI11, m_pI11, ↓m_oI12, m_pI12, ↓m_oI13, m_pI13, ↓m_oI14, m_pI14, ↓m_oI15, m_pI15, ↓m_oI16, m_pI16, ↓m_oI17, m_pI17, m_pZ5, m_pZ12, ↓m_oR1, m_aI1, m_sI1, ↓m_oR2, m_aI2, m_sI2, ↓m_oR4, m_aI4, m_sI4, ↓m_oR6, m_aI6, m_sI6, ↓m_oR8, m_aI8, m_sI8, ↓m_oR9, m_aI9, m_sI9, ↓m_oR10, m_aI10, m_sI10, fX2_bestChair_L85, ↓ex, ↓s_o9 ho, ↓eW]
theorem bct_no {z : Int → Int} {x t : Int} (hf : ¬ wid z x ≤ caN (zk z t)) : ∀ (k : Nat) (p : Int × Int) (c : Int), foldI (bcs z x t) p c k = p := by
  intro k
  induction k with
  | zero => intro p c; rfl
  | succ k ih =>
    intro p c
    show foldI (bcs z x t) (bcs z x t p c) (c + 1) k = p
    rw [show bcs z x t p c = p from if_neg (fun w => hf w.1.2.1), ih]
theorem bct_o2 {z : Int → Int} (hz : wZ z) {x t : Int} {p : Int × Int} (hp : bo2 p) (ht : 0 ≤ t ∧ t < z 15) : bo2 (bct z x p t) := by
  have h15 := wZ_15 hz
  have hN := chN_rg (zk z t)
  exact foldI_p _ _ _ hp (fun b j u v w => bcs_o2 w (by omega) (by omega) (chT_cin ((pck_0i hz.2.2.2.2.2.2).1 t ht.1 ht.2) ⟨u, by omega⟩))
theorem X2_bestChair_L33_ev {g : Nat → Nat} {h : Nat → Option hC} {n w a : Nat} {D : Nat → Nat} {tb gb : Int → Nat} {z : Int → Int} {x : Int} (hg : gD g) (hz : wZ z) (hs : ST g h a D tb gb z) (hx : 0 ≤ x ∧ x < z 60) : ∀ (k nn : Nat) (p : Int × Int) (t : Int), k < nn → 0 ≤ t → t + k = z 15 → bo2 p →
    fX2_bestChair_L33 g nn (some a) (iv x) (some (gb x)) (iv p.1) (iv p.2) (iv (z 15)) (iv t) (h, n, w) = some (iv (foldI (bct z x) p t k).1, (h, n, w)) := by
  have ho := hs.1.1
  unfold SO at ho
  have h15 := wZ_15 hz
  intro k
  induction k with
  | zero =>
    intro nn p t hn ht0 he hp
    obtain ⟨q, rfl⟩ : ∃ q, nn = q + 1 := ⟨nn - 1, by omega⟩
    show _ = some (iv p.1, (h, n, w))
    simp (disch := omega) only [↓reduceIte, Int.reduceEq, Int.reduceNe, Int.reduceLT, Int.reduceLE, Int.reduceNeg, Int.reduceMod, Int.reduceDiv, Int.reduceAdd, Int.reduceSub, Int.reduceMul, not_true_eq_false, not_false_eq_true, Int.lt_irrefl, true_or, or_true, false_or, or_false, true_and, and_true, false_and, and_false, b2_T, b2_F, if_true, if_false, ↓mjn_b, ↓mjn0_b, ↓mjn2_b, iv_lit, iv_add, iv_sub, iv_mul, iv_neg, iv_le_t, iv_le_f, iv_lt_t, iv_lt_f, iv_eq_t, iv_eq_f, iv_div, iv_mod, mretT_p, mretT_b, e_mret, ↓e_bret, ↓m_mon, ↓m_oI0, m_pI0, ↓m_oI3, m_pI3, ↓m_oI5, m_pI5, ↓m_oI7, m_pI7, ↓m_oI11, m_pI11, ↓m_oI12, m_pI12, ↓m_oI13, m_pI13, ↓m_oI14, m_pI14, ↓m_oI15, m_pI15, ↓m_oI16, m_pI16, ↓m_oI17, m_pI17, m_pZ5, m_pZ12, ↓m_oR1, m_aI1, m_sI1, ↓m_oR2, m_aI2, m_sI2, ↓m_oR4, m_aI4, m_sI4, ↓m_oR6, m_aI6, m_sI6, ↓m_oR8, m_aI8, m_sI8, ↓m_oR9, m_aI9, m_sI9, ↓m_oR10, m_aI10, m_sI10, fX2_bestChair_L33]
  | succ k ih =>
    intro nn p t hn ht0 he hp
    obtain ⟨q, rfl⟩ : ∃ q, nn = q + 1 := ⟨nn - 1, by omega⟩
    have ht : 0 ≤ t ∧ t < z 15 := ⟨ht0, by omega⟩
    have hN := chN_rg (zk z t)
    have hb_t := hs.1.2.2.2 t ht.1 ht.2
    obtain ⟨s_t, ht_t, hh_t⟩ := id hb_t
    have eT_t := fun (K : Option Nat → HM Int32) => J2_get_c (K := K) (n := n) (w := w) (i := t) hs.1.2.2.1 ht
    have eC_t := fun (K : Unit → HM Int32) => c_mcst (K := K) (n := n) (w := w) (cs := [2]) ht_t (List.mem_cons_self ..)
    have ef := fun (K : Int32 → HM Int32) => X2_fits_c (K := K) (n := n) (w := w) hz hs hx ht
    have ed := fun (K : Int32 → HM Int32) => chairs_d (g := g) (K := K) (n := n) (w := w) hh_t
    have ih2 := ih q (bct z x p t) (t + 1) (by omega) (by omega) (by omega) (bct_o2 hz hp ht)
    show _ = some (iv (foldI (bct z x) (bct z x p t) (t + 1) k).1, (h, n, w))
    rw [← ih2]
    by_cases hf : wid z x ≤ caN (zk z t)
    · rw [b2_t hf] at ef
      have e85 := fun (K : Int32 → Int32 → HM Int32) => X2_bestChair_L85_ev (n := n) (w := w) (K := K) hg hz hs hx ht hf (chN (zk z t)).toNat 5000 p 0 (by omega) (by omega) (by omega) hp
      rw [show foldI (bcs z x t) p 0 (chN (zk z t)).toNat = bct z x p t from rfl] at e85
      simp (disch := omega) only [↓reduceIte, Int.reduceEq, Int.reduceNe, Int.reduceLT, Int.reduceLE, Int.reduceNeg, Int.reduceMod, Int.reduceDiv, Int.reduceAdd, Int.reduceSub, Int.reduceMul, not_true_eq_false, not_false_eq_true, Int.lt_irrefl, true_or, or_true, false_or, or_false, true_and, and_true, false_and, and_false, b2_T, b2_F, if_true, if_false, ↓mjn_b, ↓mjn0_b, ↓mjn2_b, iv_lit, iv_add, iv_sub, iv_mul, iv_neg, iv_le_t, iv_le_f, iv_lt_t, iv_lt_f, iv_eq_t, iv_eq_f, iv_div, iv_mod, mretT_p, mretT_b, e_mret, ↓e_bret, ↓m_mon, ↓m_oI0, m_pI0, ↓m_oI3, m_pI3, ↓m_oI5, m_pI5, ↓m_oI7, m_pI7, ↓m_oI11, m_pI11, ↓m_oI12, m_pI12, ↓m_oI13, m_pI13, ↓m_oI14, m_pI14, ↓m_oI15, m_pI15, ↓m_oI16, m_pI16, ↓m_oI17, m_pI17, m_pZ5, m_pZ12, ↓m_oR1, m_aI1, m_sI1, ↓m_oR2, m_aI2, m_sI2, ↓m_oR4, m_aI4, m_sI4, ↓m_oR6, m_aI6, m_sI6, ↓m_oR8, m_aI8, m_sI8, ↓m_oR9, m_aI9, m_sI9, ↓m_oR10, m_aI10, m_sI10, fX2_bestChair_L33, ↓s_o4 ho, ↓eT_t, ↓eC_t, ↓ef, ↓t_o0 ht_t, ↓ed, ↓e85]
    · rw [b2_f hf] at ef
      rw [show bct z x p t = p from bct_no hf _ _ _]
      have e85 : ∀ (K : Int32 → Int32 → HM Int32), fX2_bestChair_L85 g 5000 (some a) (iv x) (some (gb x)) (iv p.1) (iv p.2) (iv (z 15)) (iv t) (some (tb t)) (iv 0) (iv 0) K (h, n, w) = K (iv p.1) (iv p.2) (h, n, w) := fun K => by
        have e0 : ∀ m, fX2_bestChair_L85 g (m + 1) (some a) (iv x) (some (gb x)) (iv p.1) (iv p.2) (iv (z 15)) (iv t) (some (tb t)) (iv 0) (iv 0) K (h, n, w) = K (iv p.1) (iv p.2) (h, n, w) := fun m => by
          simp (disch := omega) only [↓reduceIte, Int.reduceEq, Int.reduceNe, Int.reduceLT, Int.reduceLE, Int.reduceNeg, Int.reduceMod, Int.reduceDiv, Int.reduceAdd, Int.reduceSub, Int.reduceMul, not_true_eq_false, not_false_eq_true, Int.lt_irrefl, true_or, or_true, false_or, or_false, true_and, and_true, false_and, and_false, b2_T, b2_F, if_true, if_false, ↓mjn_b, ↓mjn0_b, ↓mjn2_b, iv_lit, iv_add, iv_sub, iv_mul, iv_neg, iv_le_t, iv_le_f, iv_lt_t, iv_lt_f, iv_eq_t, iv_eq_f, iv_div, iv_mod, mretT_p, mretT_b, e_mret, ↓e_bret, ↓m_mon, ↓m_oI0, m_pI0, ↓m_oI3, m_pI3, ↓m_oI5, m_pI5, ↓m_oI7, m_pI7, ↓m_oI11, m_pI11, ↓m_oI12, m_pI12, ↓m_oI13, m_pI13, ↓m_oI14, m_pI14, ↓m_oI15, m_pI15, ↓m_oI16, m_pI16, ↓m_oI17, m_pI17, m_pZ5, m_pZ12, ↓m_oR1, m_aI1, m_sI1, ↓m_oR2, m_aI2, m_sI2, ↓m_oR4, m_aI4, m_sI4, ↓m_oR6, m_aI6, m_sI6, ↓m_oR8, m_aI8, m_sI8, ↓m_oR9, m_aI9, m_sI9, ↓m_oR10, m_aI10, m_sI10, fX2_bestChair_L85]
        exact e0 4999
      simp (disch := omega) only [↓reduceIte, Int.reduceEq, Int.reduceNe, Int.reduceLT, Int.reduceLE, Int.reduceNeg, Int.reduceMod, Int.reduceDiv, Int.reduceAdd, Int.reduceSub, Int.reduceMul, not_true_eq_false, not_false_eq_true, Int.lt_irrefl, true_or, or_true, false_or, or_false, true_and, and_true, false_and, and_false, b2_T, b2_F, if_true, if_false, ↓mjn_b, ↓mjn0_b, ↓mjn2_b, iv_lit, iv_add, iv_sub, iv_mul, iv_neg, iv_le_t, iv_le_f, iv_lt_t, iv_lt_f, iv_eq_t, iv_eq_f, iv_div, iv_mod, mretT_p, mretT_b, e_mret, ↓e_bret, ↓m_mon, ↓m_oI0, m_pI0, ↓m_oI3, m_pI3, ↓m_oI5, m_pI5, ↓m_oI7, m_pI7, ↓m_oI11, m_pI11, ↓m_oI12, m_pI12, ↓m_oI13, m_pI13, ↓m_oI14, m_pI14, ↓m_oI15, m_pI15, ↓m_oI16, m_pI16, ↓m_oI17, m_pI17, m_pZ5, m_pZ12, ↓m_oR1, m_aI1, m_sI1, ↓m_oR2, m_aI2, m_sI2, ↓m_oR4, m_aI4, m_sI4, ↓m_oR6, m_aI6, m_sI6, ↓m_oR8, m_aI8, m_sI8, ↓m_oR9, m_aI9, m_sI9, ↓m_oR10, m_aI10, m_sI10, fX2_bestChair_L33, ↓s_o4 ho, ↓eT_t, ↓eC_t, ↓ef, ↓e85]
theorem bst_rel {z : Int → Int} {x : Int} : (foldI (bct z x) (-1, -1) 0 (z 15).toNat).1 = bst z x := by
  have hs : ∀ (t : Int) (k : Nat) (p q : Int × Int) (c : Int), (p = q ∨ (p.1 = -1 ∧ q.1 = -1)) → (foldI (bcs z x t) p c k = foldI (bcs z x t) q c k ∨ ((foldI (bcs z x t) p c k).1 = -1 ∧ (foldI (bcs z x t) q c k).1 = -1)) := by
    intro t k
    induction k with
    | zero => intro p q c h; exact h
    | succ k ih =>
      intro p q c h
      refine ih (bcs z x t p c) (bcs z x t q c) (c + 1) ?_
      rcases h with rfl | ⟨u, v⟩
      · exact Or.inl rfl
      · by_cases hc : bcan z x t c
        · left
          unfold bcs
          rw [if_pos ⟨hc, Or.inl u⟩, if_pos ⟨hc, Or.inl v⟩]
        · right
          unfold bcs
          rw [if_neg (fun w => hc w.1), if_neg (fun w => hc w.1)]
          exact ⟨u, v⟩
  have ht : ∀ (k : Nat) (p q : Int × Int) (t : Int), (p = q ∨ (p.1 = -1 ∧ q.1 = -1)) → (foldI (bct z x) p t k).1 = (foldI (bct z x) q t k).1 := by
    intro k
    induction k with
    | zero =>
      intro p q t h
      rcases h with rfl | ⟨u, v⟩
      · rfl
      · exact u.trans v.symm
    | succ k ih =>
      intro p q t h
      exact ih (bct z x p t) (bct z x q t) (t + 1) (hs t _ p q 0 h)
  unfold bst
  exact ht _ _ _ _ (Or.inr ⟨rfl, rfl⟩)
theorem X2_bestChair_c {β : Type} {K : Int32 → HM β} {g : Nat → Nat} {h : Nat → Option hC} {n w a : Nat} {D : Nat → Nat} {tb gb : Int → Nat} {z : Int → Int} {x : Int} (hg : gD g) (hz : wZ z) (hs : ST g h a D tb gb z) (hx : 0 ≤ x ∧ x < z 60) : mb (mon 1 (some a) (mcall0 (fX2_bestChair g (some a) (iv x)))) K (h, n, w) = K (iv (bst z x)) (h, n, w) := by
  have ho := hs.1.1
  unfold SO at ho
  have hx_gu := hs.2.1.2 x hx.1 hx.2
  obtain ⟨nm_x, hg_x, -⟩ := id hx_gu
  have eg_x := fun (K : Option Nat → HM Int32) => J2_get_c (K := K) (n := n) (w := 0) (i := x) hs.2.1.1 hx
  have ec_x := fun (K : Unit → HM Int32) => c_mcst (K := K) (n := n) (w := 0) (cs := [3]) hg_x (List.mem_cons_self ..)
  have es_x := fun (K : Int32 → HM Int32) => X8_sits_c (K := K) (g := g) (n := n) (w := 0) hz hx hx_gu
  have h15 := wZ_15 hz
  rw [c_mon ho]
  refine e_call0 (u' := 0) ?_
  have e := X2_bestChair_L33_ev (n := n) (w := 0) hg hz hs hx (z 15).toNat 5000 (-1, -1) 0 (by omega) (by omega) (by omega) ⟨by dsimp only; omega, by dsimp only; omega, fun w => absurd rfl w⟩
  rw [bst_rel] at e
  have ez := fun (K : Int32 → HM Int32) => J2_size_c (K := K) (n := n) (w := 0) hs.1.2.2.1
  unfold fX2_bestChair
  rw [← e]
  simp only [iv_lit, iv_neg, Int.reduceNeg]
  rw [s_o5 ho, eg_x, ec_x, s_o4 ho, ez]
