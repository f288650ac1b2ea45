/-! ===== sight by obstacles ===== -/
def onl (z : Int → Int) (f c : Int) : Prop := c / 16 < f / 16 ∧ lcol z f (c / 16) = c % 16
theorem X2_isOnLine_c {β : Type} {K : Int32 → HM β} {g : Nat → Nat} {h : Nat → Option hC} {n w a : Nat} {D : Nat → Nat} {tb gb : Int → Nat} {z : Int → Int} {f c : Int} (hz : wZ z) (hs : ST g h a D tb gb z) (hf : cin f) (hc : cin c) : mb (mon 1 (some a) (mcall0 (fX2_isOnLine g (some a) (iv f) (iv c)))) K (h, n, w) = K (iv (b2 (onl z f c))) (h, n, w) := by
  have ho := hs.1.1
  unfold SO at ho
  have hc2 := hc
  have hf2 := hf
  unfold cin at hc2 hf2
  rw [c_mon ho]
  refine e_call0 (u' := 0) ?_
  unfold fX2_isOnLine
  by_cases q : c / 16 < f / 16
  · have el := fun (K : Int32 → HM Int32) => X2_line_c (g := g) (K := K) (n := n) (w := 0) (r := c / 16) hs.1.1 hz.1.1 hf (by omega)
    have hr := lcol_rg hz.1.1 hf2 (r := c / 16) (by omega)
    by_cases u : lcol z f (c / 16) = c % 16
    · rw [b2_t ⟨q, u⟩]
      simp (disch := omega) only [↓reduceIte, Int.reduceEq, Int.reduceNe, Int.reduceLT, Int.reduceLE, Int.reduceNeg, Int.reduceMod, Int.reduceDiv, Int.reduceAdd, Int.reduceSub, Int.reduceMul, not_true_eq_false, not_false_eq_true, Int.lt_irrefl, true_or, or_true, false_or, or_false, true_and, and_true, false_and, and_false, b2_T, b2_F, if_true, if_false, ↓mjn_b, ↓mjn0_b, ↓mjn2_b, iv_lit, iv_add, iv_sub, iv_mul, iv_neg, iv_le_t, iv_le_f, iv_lt_t, iv_lt_f, iv_eq_t, iv_eq_f, iv_div, iv_mod, mretT_p, mretT_b, e_mret, ↓e_bret, ↓m_mon, ↓m_oI0, m_pI0, ↓m_oI3, m_pI3, ↓m_oI5, m_pI5, ↓m_oI7, m_pI7, ↓m_oI11, m_pI11, ↓m_oI12, m_pI12, ↓m_oI13, m_pI13, ↓m_oI14, m_pI14, ↓m_oI15, m_pI15, ↓m_oI16, m_pI16, ↓m_oI17, m_pI17, m_pZ5, m_pZ12, ↓m_oR1, m_aI1, m_sI1, ↓m_oR2, m_aI2, m_sI2, ↓m_oR4, m_aI4, m_sI4, ↓m_oR6, m_aI6, m_sI6, ↓m_oR8, m_aI8, m_sI8, ↓m_oR9, m_aI9, m_sI9, ↓m_oR10, m_aI10, m_sI10, ↓el, u]
    · rw [b2_f (fun w => u w.2)]
      simp (disch := omega) only [↓reduceIte, Int.reduceEq, Int.reduceNe, Int.reduceLT, Int.reduceLE, Int.reduceNeg, Int.reduceMod, Int.reduceDiv, Int.reduceAdd, Int.reduceSub, Int.reduceMul, not_true_eq_false, not_false_eq_true, Int.lt_irrefl, true_or, or_true, false_or, or_false, true_and, and_true, false_and, and_false, b2_T, b2_F, if_true, if_false, ↓mjn_b, ↓mjn0_b, ↓mjn2_b, iv_lit, iv_add, iv_sub, iv_mul, iv_neg, iv_le_t, iv_le_f, iv_lt_t, iv_lt_f, iv_eq_t, iv_eq_f, iv_div, iv_mod, mretT_p, mretT_b, e_mret, ↓e_bret, ↓m_mon, ↓m_oI0, m_pI0, ↓m_oI3, m_pI3, ↓m_oI5, m_pI5, ↓m_oI7, m_pI7, ↓m_oI11, m_pI11, ↓m_oI12, m_pI12, ↓m_oI13, m_pI13, ↓m_oI14, m_pI14, ↓m_oI15, m_pI15, ↓m_oI16, m_pI16, ↓m_oI17, m_pI17, m_pZ5, m_pZ12, ↓m_oR1, m_aI1, m_sI1, ↓m_oR2, m_aI2, m_sI2, ↓m_oR4, m_aI4, m_sI4, ↓m_oR6, m_aI6, m_sI6, ↓m_oR8, m_aI8, m_sI8, ↓m_oR9, m_aI9, m_sI9, ↓m_oR10, m_aI10, m_sI10, ↓el, u]
  · rw [b2_f (fun w => q w.1)]
    simp (disch := omega) only [↓reduceIte, Int.reduceEq, Int.reduceNe, Int.reduceLT, Int.reduceLE, Int.reduceNeg, Int.reduceMod, Int.reduceDiv, Int.reduceAdd, Int.reduceSub, Int.reduceMul, not_true_eq_false, not_false_eq_true, Int.lt_irrefl, true_or, or_true, false_or, or_false, true_and, and_true, false_and, and_false, b2_T, b2_F, if_true, if_false, ↓mjn_b, ↓mjn0_b, ↓mjn2_b, iv_lit, iv_add, iv_sub, iv_mul, iv_neg, iv_le_t, iv_le_f, iv_lt_t, iv_lt_f, iv_eq_t, iv_eq_f, iv_div, iv_mod, mretT_p, mretT_b, e_mret, ↓e_bret, ↓m_mon, ↓m_oI0, m_pI0, ↓m_oI3, m_pI3, ↓m_oI5, m_pI5, ↓m_oI7, m_pI7, ↓m_oI11, m_pI11, ↓m_oI12, m_pI12, ↓m_oI13, m_pI13, ↓m_oI14, m_pI14, ↓m_oI15, m_pI15, ↓m_oI16, m_pI16, ↓m_oI17, m_pI17, m_pZ5, m_pZ12, ↓m_oR1, m_aI1, m_sI1, ↓m_oR2, m_aI2, m_sI2, ↓m_oR4, m_aI4, m_sI4, ↓m_oR6, m_aI6, m_sI6, ↓m_oR8, m_aI8, m_sI8, ↓m_oR9, m_aI9, m_sI9, ↓m_oR10, m_aI10, m_sI10]
theorem X2_sbo_L35_ev {g : Nat → Nat} {h : Nat → Option hC} {n w a : Nat} {D : Nat → Nat} {tb gb : Int → Nat} {z : Int → Int} {K : Int32 → HM Int32} {x f : Int} (hz : wZ z) (hs : ST g h a D tb gb z) (hf : cin f) : ∀ (k nn : Nat) (r : Prop) (i : Int), k < nn → 0 ≤ i → i + k = 192 →
    fX2_seesByObstacles_L35 g nn (some a) (some (gb x)) (iv f) (iv (b2 r)) (iv i) K (h, n, w) = K (iv (b2 (r ∧ ∀ c, i ≤ c → c < 192 → ¬ (pilz z c = 1 ∧ onl z f c)))) (h, n, w) := by
  have ho := hs.1.1
  unfold SO at ho
  obtain ⟨P, hP, hP2⟩ := hs.1.2.1
  intro k
  induction k with
  | zero =>
    intro nn r i hn hi he
    obtain ⟨q, rfl⟩ : ∃ q, nn = q + 1 := ⟨nn - 1, by omega⟩
    rw [show b2 (r ∧ ∀ c, i ≤ c → c < 192 → ¬ (pilz z c = 1 ∧ onl z f c)) = b2 r from b2_c ⟨fun q => q.1, fun q => ⟨q, fun c u v => by omega⟩⟩]
    simp (disch := omega) only [↓reduceIte, Int.reduceEq, Int.reduceNe, Int.reduceLT, Int.reduceLE, Int.reduceNeg, Int.reduceMod, Int.reduceDiv, Int.reduceAdd, Int.reduceSub, Int.reduceMul, not_true_eq_false, not_false_eq_true, Int.lt_irrefl, true_or, or_true, false_or, or_false, true_and, and_true, false_and, and_false, b2_T, b2_F, if_true, if_false, ↓mjn_b, ↓mjn0_b, ↓mjn2_b, iv_lit, iv_add, iv_sub, iv_mul, iv_neg, iv_le_t, iv_le_f, iv_lt_t, iv_lt_f, iv_eq_t, iv_eq_f, iv_div, iv_mod, mretT_p, mretT_b, e_mret, ↓e_bret, ↓m_mon, ↓m_oI0, m_pI0, ↓m_oI3, m_pI3, ↓m_oI5, m_pI5, ↓m_oI7, m_pI7, ↓m_oI11, m_pI11, ↓m_oI12, m_pI12, ↓m_oI13, m_pI13, ↓m_oI14, m_pI14, ↓m_oI15, m_pI15, ↓m_oI16, m_pI16, ↓m_oI17, m_pI17, m_pZ5, m_pZ12, ↓m_oR1, m_aI1, m_sI1, ↓m_oR2, m_aI2, m_sI2, ↓m_oR4, m_aI4, m_sI4, ↓m_oR6, m_aI6, m_sI6, ↓m_oR8, m_aI8, m_sI8, ↓m_oR9, m_aI9, m_sI9, ↓m_oR10, m_aI10, m_sI10, fX2_seesByObstacles_L35]
  | succ k ih =>
    intro nn r i hn hi he
    obtain ⟨q, rfl⟩ : ∃ q, nn = q + 1 := ⟨nn - 1, by omega⟩
    have hi2 : 0 ≤ i ∧ i < ((192 : Nat) : Int) := by omega
    have hci : cin i := by unfold cin; omega
    have eP := fun (K : Int32 → HM Int32) => c_aI (K := K) (n := n) (w := w) (i := i) hP (by decide) hi2
    rw [hP2 i hci] at eP
    have eo := fun (K : Int32 → HM Int32) => X2_isOnLine_c (K := K) (n := n) (w := w) hz hs hf hci
    have hst : ∀ s : Prop, (s ↔ ¬ (pilz z i = 1 ∧ onl z f i)) → b2 ((r ∧ s) ∧ ∀ c, i + 1 ≤ c → c < 192 → ¬ (pilz z c = 1 ∧ onl z f c)) = b2 (r ∧ ∀ c, i ≤ c → c < 192 → ¬ (pilz z c = 1 ∧ onl z f c)) := fun s hs => b2_c ⟨fun q => ⟨q.1.1, fun c u v => by
      by_cases e : c = i
      · rw [e]; exact hs.1 q.1.2
      · exact q.2 c (by omega) v⟩, fun q => ⟨⟨q.1, hs.2 (q.2 i (by omega) (by omega))⟩, fun c u v => q.2 c (by omega) v⟩⟩
    rcases b2_or (p := ∃ k, (0 ≤ k ∧ k < z 2) ∧ z (3 + k) = i) with e | e
    · have e3 : pilz z i = 0 := e
      rw [e3] at eP
      rw [← hst True ⟨fun _ w => by rw [e3] at w; exact absurd w.1 (by decide), fun _ => trivial⟩, ← ih q (r ∧ True) (i + 1) (by omega) (by omega) (by omega), ← iv_and2, b2_T]
      simp (disch := omega) only [↓reduceIte, Int.reduceEq, Int.reduceNe, Int.reduceLT, Int.reduceLE, Int.reduceNeg, Int.reduceMod, Int.reduceDiv, Int.reduceAdd, Int.reduceSub, Int.reduceMul, not_true_eq_false, not_false_eq_true, Int.lt_irrefl, true_or, or_true, false_or, or_false, true_and, and_true, false_and, and_false, b2_T, b2_F, if_true, if_false, ↓mjn_b, ↓mjn0_b, ↓mjn2_b, iv_lit, iv_add, iv_sub, iv_mul, iv_neg, iv_le_t, iv_le_f, iv_lt_t, iv_lt_f, iv_eq_t, iv_eq_f, iv_div, iv_mod, mretT_p, mretT_b, e_mret, ↓e_bret, ↓m_mon, ↓m_oI0, m_pI0, ↓m_oI3, m_pI3, ↓m_oI5, m_pI5, ↓m_oI7, m_pI7, ↓m_oI11, m_pI11, ↓m_oI12, m_pI12, ↓m_oI13, m_pI13, ↓m_oI14, m_pI14, ↓m_oI15, m_pI15, ↓m_oI16, m_pI16, ↓m_oI17, m_pI17, m_pZ5, m_pZ12, ↓m_oR1, m_aI1, m_sI1, ↓m_oR2, m_aI2, m_sI2, ↓m_oR4, m_aI4, m_sI4, ↓m_oR6, m_aI6, m_sI6, ↓m_oR8, m_aI8, m_sI8, ↓m_oR9, m_aI9, m_sI9, ↓m_oR10, m_aI10, m_sI10, fX2_seesByObstacles_L35, ↓s_o2 ho, ↓eP]
    · have e3 : pilz z i = 1 := e
      rw [e3] at eP
      by_cases u : onl z f i
      · rw [b2_t u] at eo
        rw [← hst False ⟨fun w => w.elim, fun w => w ⟨e3, u⟩⟩, ← ih q (r ∧ False) (i + 1) (by omega) (by omega) (by omega), ← iv_and2, b2_F]
        simp (disch := omega) only [↓reduceIte, Int.reduceEq, Int.reduceNe, Int.reduceLT, Int.reduceLE, Int.reduceNeg, Int.reduceMod, Int.reduceDiv, Int.reduceAdd, Int.reduceSub, Int.reduceMul, not_true_eq_false, not_false_eq_true, Int.lt_irrefl, true_or, or_true, false_or, or_false, true_and, and_true, false_and, and_false, b2_T, b2_F, if_true, if_false, ↓mjn_b, ↓mjn0_b, ↓mjn2_b, iv_lit, iv_add, iv_sub, iv_mul, iv_neg, iv_le_t, iv_le_f, iv_lt_t, iv_lt_f, iv_eq_t, iv_eq_f, iv_div, iv_mod, mretT_p, mretT_b, e_mret, ↓e_bret, ↓m_mon, ↓m_oI0, m_pI0, ↓m_oI3, m_pI3, ↓m_oI5, m_pI5, ↓m_oI7, m_pI7, ↓m_oI11, m_pI11, ↓m_oI12, m_pI12, ↓m_oI13, m_pI13, ↓m_oI14, m_pI14, ↓m_oI15, m_pI15, ↓m_oI16, m_pI16, ↓m_oI17, m_pI17, m_pZ5, m_pZ12, ↓m_oR1, m_aI1, m_sI1, ↓m_oR2, m_aI2, m_sI2, ↓m_oR4, m_aI4, m_sI4, ↓m_oR6, m_aI6, m_sI6, ↓m_oR8, m_aI8, m_sI8, ↓m_oR9, m_aI9, m_sI9, ↓m_oR10, m_aI10, m_sI10, fX2_seesByObstacles_L35, ↓s_o2 ho, ↓eP, ↓eo]
      · rw [b2_f u] at eo
        rw [← hst True ⟨fun _ w => u w.2, fun _ => trivial⟩, ← ih q (r ∧ True) (i + 1) (by omega) (by omega) (by omega), ← iv_and2, b2_T]
        simp (disch := omega) only [↓reduceIte, Int.reduceEq, Int.reduceNe, Int.reduceLT, Int.reduceLE, Int.reduceNeg, Int.reduceMod, Int.reduceDiv, Int.reduceAdd, Int.reduceSub, Int.reduceMul, not_true_eq_false, not_false_eq_true, Int.lt_irrefl, true_or, or_true, false_or, or_false, true_and, and_true, false_and, and_false, b2_T, b2_F, if_true, if_false, ↓mjn_b, ↓mjn0_b, ↓mjn2_b, iv_lit, iv_add, iv_sub, iv_mul, iv_neg, iv_le_t, iv_le_f, iv_lt_t, iv_lt_f, iv_eq_t, iv_eq_f, iv_div, iv_mod, mretT_p, mretT_b, e_mret, ↓e_bret, ↓m_mon, ↓m_oI0, m_pI0, ↓m_oI3, m_pI3, ↓m_oI5, m_pI5, ↓m_oI7, m_pI7, ↓m_oI11, m_pI11, ↓m_oI12, m_pI12, ↓m_oI13, m_pI13, ↓m_oI14, m_pI14, ↓m_oI15, m_pI15, ↓m_oI16, m_pI16, ↓m_oI17, m_pI17, m_pZ5, m_pZ12, ↓m_oR1, m_aI1, m_sI1, ↓m_oR2, m_aI2, m_sI2, ↓m_oR4, m_aI4, m_sI4, ↓m_oR6, m_aI6, m_sI6, ↓m_oR8, m_aI8, m_sI8, ↓m_oR9, m_aI9, m_sI9, ↓m_oR10, m_aI10, m_sI10, fX2_seesByObstacles_L35, ↓s_o2 ho, ↓eP, ↓eo]
theorem X2_sbo_L131_ev {g : Nat → Nat} {h : Nat → Option hC} {n w a : Nat} {D : Nat → Nat} {tb gb : Int → Nat} {z : Int → Int} {K : Int32 → HM Int32} {x f t : Int} (hg : gD g) (hz : wZ z) (hs : ST g h a D tb gb z) (hx : 0 ≤ x ∧ x < z 60) (hf : cin f) (ht : 0 ≤ t ∧ t < z 15) : ∀ (k nn : Nat) (r : Prop) (i : Int), k < nn → 0 ≤ i → i + k = ceN (zk z t) →
    fX2_seesByObstacles_L131 g nn (some a) (some (gb x)) (iv f) (iv (b2 r)) (iv (z 15)) (iv t) (some (tb t)) (iv (ceN (zk z t))) (iv i) K (h, n, w) = K (iv (b2 (r ∧ ∀ j, i ≤ j → j < ceN (zk z t) → ¬ (gh z x ≤ zf z t ∧ onl z f (ceT z t j))))) (h, n, w) := by
  have ho := hs.1.1
  unfold SO at ho
  have hN := ceN_rg (zk z t)
  have hwt := wZ_t hz ht
  have hin := (pck_0i hz.2.2.2.2.2.2).1 t ht.1 ht.2
  have hgr := (wZ_graw hz hx).1
  have hgh : 1 ≤ gh z x ∧ gh z x ≤ 9 := hgr
  have hzf := hwt.2.2.2
  have hb_t := hs.1.2.2.2 t ht.1 ht.2
  obtain ⟨s_t, ht_t, hh_t⟩ := id hb_t
  have eT_t := fun (K : Option Nat → HM Int32) => J2_get_c (K := K) (n := n) (w := 0) (i := t) hs.1.2.2.1 ht
  have eC_t := fun (K : Unit → HM Int32) => c_mcst (K := K) (n := n) (w := 0) (cs := [2]) ht_t (List.mem_cons_self ..)
  have hx_gu := hs.2.1.2 x hx.1 hx.2
  obtain ⟨nm_x, hg_x, -⟩ := id hx_gu
  have eg_x := fun (K : Option Nat → HM Int32) => J2_get_c (K := K) (n := n) (w := 0) (i := x) hs.2.1.1 hx
  have ec_x := fun (K : Unit → HM Int32) => c_mcst (K := K) (n := n) (w := 0) (cs := [3]) hg_x (List.mem_cons_self ..)
  have es_x := fun (K : Int32 → HM Int32) => X8_sits_c (K := K) (g := g) (n := n) (w := 0) hz hx hx_gu
  intro k
  induction k with
  | zero =>
    intro nn r i hn hi he
    obtain ⟨q, rfl⟩ : ∃ q, nn = q + 1 := ⟨nn - 1, by omega⟩
    rw [show b2 (r ∧ ∀ j, i ≤ j → j < ceN (zk z t) → ¬ (gh z x ≤ zf z t ∧ onl z f (ceT z t j))) = b2 r from b2_c ⟨fun q => q.1, fun q => ⟨q, fun c u v => by omega⟩⟩]
    simp (disch := omega) only [↓reduceIte, Int.reduceEq, Int.reduceNe, Int.reduceLT, Int.reduceLE, Int.reduceNeg, Int.reduceMod, Int.reduceDiv, Int.reduceAdd, Int.reduceSub, Int.reduceMul, not_true_eq_false, not_false_eq_true, Int.lt_irrefl, true_or, or_true, false_or, or_false, true_and, and_true, false_and, and_false, b2_T, b2_F, if_true, if_false, ↓mjn_b, ↓mjn0_b, ↓mjn2_b, iv_lit, iv_add, iv_sub, iv_mul, iv_neg, iv_le_t, iv_le_f, iv_lt_t, iv_lt_f, iv_eq_t, iv_eq_f, iv_div, iv_mod, mretT_p, mretT_b, e_mret, ↓e_bret, ↓m_mon, ↓m_oI0, m_pI0, ↓m_oI3, m_pI3, ↓m_oI5, m_pI5, ↓m_oI7, m_pI7, ↓m_oI11, m_pI11, ↓m_oI12, m_pI12, ↓m_oI13, m_pI13, ↓m_oI14, m_pI14, ↓m_oI15, m_pI15, ↓m_oI16, m_pI16, ↓m_oI17, m_pI17, m_pZ5, m_pZ12, ↓m_oR1, m_aI1, m_sI1, ↓m_oR2, m_aI2, m_sI2, ↓m_oR4, m_aI4, m_sI4, ↓m_oR6, m_aI6, m_sI6, ↓m_oR8, m_aI8, m_sI8, ↓m_oR9, m_aI9, m_sI9, ↓m_oR10, m_aI10, m_sI10, fX2_seesByObstacles_L131]
  | succ k ih =>
    intro nn r i hn hi he
    obtain ⟨q, rfl⟩ : ∃ q, nn = q + 1 := ⟨nn - 1, by omega⟩
    have hci := ceT_cin hin (j := i) (by omega)
    have ev : 16 * (zp z t / 16 + ceD (zk z t) (zt z t) i) + zp z t % 16 + ceR (zk z t) (zt z t) i = ceT z t i := by unfold ceT; omega
    have ex := fun (K : Int32 → HM Int32) => X3_cell_c (g := g) (K := K) (n := n) (w := w) hg hb_t hwt.2.2.1 (j := i) ⟨hi, by omega⟩
    rw [ev] at ex
    have eo := fun (K : Int32 → HM Int32) => X2_isOnLine_c (K := K) (n := n) (w := w) hz hs hf hci
    have hst : ∀ s : Prop, (s ↔ ¬ (gh z x ≤ zf z t ∧ onl z f (ceT z t i))) → b2 ((r ∧ s) ∧ ∀ j, i + 1 ≤ j → j < ceN (zk z t) → ¬ (gh z x ≤ zf z t ∧ onl z f (ceT z t j))) = b2 (r ∧ ∀ j, i ≤ j → j < ceN (zk z t) → ¬ (gh z x ≤ zf z t ∧ onl z f (ceT z t j))) := fun s hs => b2_c ⟨fun q => ⟨q.1.1, fun c u v => by
      by_cases e : c = i
      · rw [e]; exact hs.1 q.1.2
      · exact q.2 c (by omega) v⟩, fun q => ⟨⟨q.1, hs.2 (q.2 i (by omega) (by omega))⟩, fun c u v => q.2 c (by omega) v⟩⟩
    by_cases e : gh z x ≤ zf z t
    · by_cases u : onl z f (ceT z t i)
      · rw [b2_t u] at eo
        rw [← hst False ⟨fun w => w.elim, fun w => w ⟨e, u⟩⟩, ← ih q (r ∧ False) (i + 1) (by omega) (by omega) (by omega), ← iv_and2, b2_F]
        simp (disch := omega) only [↓reduceIte, Int.reduceEq, Int.reduceNe, Int.reduceLT, Int.reduceLE, Int.reduceNeg, Int.reduceMod, Int.reduceDiv, Int.reduceAdd, Int.reduceSub, Int.reduceMul, not_true_eq_false, not_false_eq_true, Int.lt_irrefl, true_or, or_true, false_or, or_false, true_and, and_true, false_and, and_false, b2_T, b2_F, if_true, if_false, ↓mjn_b, ↓mjn0_b, ↓mjn2_b, iv_lit, iv_add, iv_sub, iv_mul, iv_neg, iv_le_t, iv_le_f, iv_lt_t, iv_lt_f, iv_eq_t, iv_eq_f, iv_div, iv_mod, mretT_p, mretT_b, e_mret, ↓e_bret, ↓m_mon, ↓m_oI0, m_pI0, ↓m_oI3, m_pI3, ↓m_oI5, m_pI5, ↓m_oI7, m_pI7, ↓m_oI11, m_pI11, ↓m_oI12, m_pI12, ↓m_oI13, m_pI13, ↓m_oI14, m_pI14, ↓m_oI15, m_pI15, ↓m_oI16, m_pI16, ↓m_oI17, m_pI17, m_pZ5, m_pZ12, ↓m_oR1, m_aI1, m_sI1, ↓m_oR2, m_aI2, m_sI2, ↓m_oR4, m_aI4, m_sI4, ↓m_oR6, m_aI6, m_sI6, ↓m_oR8, m_aI8, m_sI8, ↓m_oR9, m_aI9, m_sI9, ↓m_oR10, m_aI10, m_sI10, fX2_seesByObstacles_L131, ↓t_o4 ht_t, ↓g_o2 hg_x, ↓ex, ↓eo]
      · rw [b2_f u] at eo
        rw [← hst True ⟨fun _ w => u w.2, fun _ => trivial⟩, ← ih q (r ∧ True) (i + 1) (by omega) (by omega) (by omega), ← iv_and2, b2_T]
        simp (disch := omega) only [↓reduceIte, Int.reduceEq, Int.reduceNe, Int.reduceLT, Int.reduceLE, Int.reduceNeg, Int.reduceMod, Int.reduceDiv, Int.reduceAdd, Int.reduceSub, Int.reduceMul, not_true_eq_false, not_false_eq_true, Int.lt_irrefl, true_or, or_true, false_or, or_false, true_and, and_true, false_and, and_false, b2_T, b2_F, if_true, if_false, ↓mjn_b, ↓mjn0_b, ↓mjn2_b, iv_lit, iv_add, iv_sub, iv_mul, iv_neg, iv_le_t, iv_le_f, iv_lt_t, iv_lt_f, iv_eq_t, iv_eq_f, iv_div, iv_mod, mretT_p, mretT_b, e_mret, ↓e_bret, ↓m_mon, ↓m_oI0, m_pI0, ↓m_oI3, m_pI3, ↓m_oI5, m_pI5, ↓m_oI7, m_pI7, ↓m_oI11, m_pI11, ↓m_oI12, m_pI12, ↓m_oI13, m_pI13, ↓m_oI14, m_pI14, ↓m_oI15, m_pI15, ↓m_oI16, m_pI16, ↓m_oI17, m_pI17, m_pZ5, m_pZ12, ↓m_oR1, m_aI1, m_sI1, ↓m_oR2, m_aI2, m_sI2, ↓m_oR4, m_aI4, m_sI4, ↓m_oR6, m_aI6, m_sI6, ↓m_oR8, m_aI8, m_sI8, ↓m_oR9, m_aI9, m_sI9, ↓m_oR10, m_aI10, m_sI10, fX2_seesByObstacles_L131, ↓t_o4 ht_t, ↓g_o2 hg_x, ↓ex, ↓eo]
    · rw [← hst True ⟨fun _ w => e w.1, fun _ => trivial⟩, ← ih q (r ∧ True) (i + 1) (by omega) (by omega) (by omega), ← iv_and2, b2_T]
      simp (disch := omega) only [↓reduceIte, Int.reduceEq, Int.reduceNe, Int.reduceLT, Int.reduceLE, Int.reduceNeg, Int.reduceMod, Int.reduceDiv, Int.reduceAdd, Int.reduceSub, Int.reduceMul, not_true_eq_false, not_false_eq_true, Int.lt_irrefl, true_or, or_true, false_or, or_false, true_and, and_true, false_and, and_false, b2_T, b2_F, if_true, if_false, ↓mjn_b, ↓mjn0_b, ↓mjn2_b, iv_lit, iv_add, iv_sub, iv_mul, iv_neg, iv_le_t, iv_le_f, iv_lt_t, iv_lt_f, iv_eq_t, iv_eq_f, iv_div, iv_mod, mretT_p, mretT_b, e_mret, ↓e_bret, ↓m_mon, ↓m_oI0, m_pI0, ↓m_oI3, m_pI3, ↓m_oI5, m_pI5, ↓m_oI7, m_pI7, ↓m_oI11, m_pI11, ↓m_oI12, m_pI12, ↓m_oI13, m_pI13, ↓m_oI14, m_pI14, ↓m_oI15, m_pI15, ↓m_oI16, m_pI16, ↓m_oI17, m_pI17, m_pZ5, m_pZ12, ↓m_oR1, m_aI1, m_sI1, ↓m_oR2, m_aI2, m_sI2, ↓m_oR4, m_aI4, m_sI4, ↓m_oR6, m_aI6, m_sI6, ↓m_oR8, m_aI8, m_sI8, ↓m_oR9, m_aI9, m_sI9, ↓m_oR10, m_aI10, m_sI10, fX2_seesByObstacles_L131, ↓t_o4 ht_t, ↓g_o2 hg_x]
theorem X2_sbo_L93_ev {g : Nat → Nat} {h : Nat → Option hC} {n w a : Nat} {D : Nat → Nat} {tb gb : Int → Nat} {z : Int → Int} {K : Int32 → HM Int32} {x f : Int} (hg : gD g) (hz : wZ z) (hs : ST g h a D tb gb z) (hx : 0 ≤ x ∧ x < z 60) (hf : cin f) : ∀ (k nn : Nat) (r : Prop) (t : Int), k < nn → 0 ≤ t → t + k = z 15 →
    fX2_seesByObstacles_L93 g nn (some a) (some (gb x)) (iv f) (iv (b2 r)) (iv (z 15)) (iv t) K (h, n, w) = K (iv (b2 (r ∧ ∀ s, t ≤ s → s < z 15 → ∀ j, 0 ≤ j → j < ceN (zk z s) → ¬ (gh z x ≤ zf z s ∧ onl z f (ceT z s j))))) (h, n, w) := by
  have ho := hs.1.1
  unfold SO at ho
  have h15 := wZ_15 hz
  intro k
  induction k with
  | zero =>
    intro nn r t hn ht0 he
    obtain ⟨q, rfl⟩ : ∃ q, nn = q + 1 := ⟨nn - 1, by omega⟩
    rw [show b2 (r ∧ ∀ s, t ≤ s → s < z 15 → ∀ j, 0 ≤ j → j < ceN (zk z s) → ¬ (gh z x ≤ zf z s ∧ onl z f (ceT z s j))) = b2 r from b2_c ⟨fun q => q.1, fun q => ⟨q, fun c u v => by omega⟩⟩]
    simp (disch := omega) only [↓reduceIte, Int.reduceEq, Int.reduceNe, Int.reduceLT, Int.reduceLE, Int.reduceNeg, Int.reduceMod, Int.reduceDiv, Int.reduceAdd, Int.reduceSub, Int.reduceMul, not_true_eq_false, not_false_eq_true, Int.lt_irrefl, true_or, or_true, false_or, or_false, true_and, and_true, false_and, and_false, b2_T, b2_F, if_true, if_false, ↓mjn_b, ↓mjn0_b, ↓mjn2_b, iv_lit, iv_add, iv_sub, iv_mul, iv_neg, iv_le_t, iv_le_f, iv_lt_t, iv_lt_f, iv_eq_t, iv_eq_f, iv_div, iv_mod, mretT_p, mretT_b, e_mret, ↓e_bret, ↓m_mon, ↓m_oI0, m_pI0, ↓m_oI3, m_pI3, ↓m_oI5, m_pI5, ↓m_oI7, m_pI7, ↓m_oI11, m_pI11, ↓m_oI12, m_pI12, ↓m_oI13, m_pI13, ↓m_oI14, m_pI14, ↓m_oI15, m_pI15, ↓m_oI16, m_pI16, ↓m_oI17, m_pI17, m_pZ5, m_pZ12, ↓m_oR1, m_aI1, m_sI1, ↓m_oR2, m_aI2, m_sI2, ↓m_oR4, m_aI4, m_sI4, ↓m_oR6, m_aI6, m_sI6, ↓m_oR8, m_aI8, m_sI8, ↓m_oR9, m_aI9, m_sI9, ↓m_oR10, m_aI10, m_sI10, fX2_seesByObstacles_L93]
  | succ k ih =>
    intro nn r t hn ht0 he
    obtain ⟨q, rfl⟩ : ∃ q, nn = q + 1 := ⟨nn - 1, by omega⟩
    have ht : 0 ≤ t ∧ t < z 15 := ⟨ht0, by omega⟩
    have hN := ceN_rg (zk z t)
    have hb_t := hs.1.2.2.2 t ht.1 ht.2
    obtain ⟨s_t, ht_t, hh_t⟩ := id hb_t
    have eT_t := fun (K : Option Nat → HM Int32) => J2_get_c (K := K) (n := n) (w := w) (i := t) hs.1.2.2.1 ht
    have eC_t := fun (K : Unit → HM Int32) => c_mcst (K := K) (n := n) (w := w) (cs := [2]) ht_t (List.mem_cons_self ..)
    have ed := fun (K : Int32 → HM Int32) => cells_d (g := g) (K := K) (n := n) (w := w) hh_t
    have e1 := fun (K : Int32 → HM Int32) => X2_sbo_L131_ev (n := n) (w := w) (K := K) hg hz hs hx hf ht (ceN (zk z t)).toNat 5000 r 0 (by omega) (by omega) (by omega)
    have ih2 := ih q (r ∧ ∀ j, 0 ≤ j → j < ceN (zk z t) → ¬ (gh z x ≤ zf z t ∧ onl z f (ceT z t j))) (t + 1) (by omega) (by omega) (by omega)
    rw [show b2 (r ∧ ∀ s, t ≤ s → s < z 15 → ∀ j, 0 ≤ j → j < ceN (zk z s) → ¬ (gh z x ≤ zf z s ∧ onl z f (ceT z s j))) = b2 ((r ∧ ∀ j, 0 ≤ j → j < ceN (zk z t) → ¬ (gh z x ≤ zf z t ∧ onl z f (ceT z t j))) ∧ ∀ s, t + 1 ≤ s → s < z 15 → ∀ j, 0 ≤ j → j < ceN (zk z s) → ¬ (gh z x ≤ zf z s ∧ onl z f (ceT z s j))) from b2_c ⟨fun q => ⟨⟨q.1, q.2 t (by omega) (by omega)⟩, fun s u v => q.2 s (by omega) v⟩, fun q => ⟨q.1.1, fun s u v => by
      by_cases e : s = t
      · rw [e]; exact q.1.2
      · exact q.2 s (by omega) v⟩⟩, ← ih2]
    simp (disch := omega) only [↓reduceIte, Int.reduceEq, Int.reduceNe, Int.reduceLT, Int.reduceLE, Int.reduceNeg, Int.reduceMod, Int.reduceDiv, Int.reduceAdd, Int.reduceSub, Int.reduceMul, not_true_eq_false, not_false_eq_true, Int.lt_irrefl, true_or, or_true, false_or, or_false, true_and, and_true, false_and, and_false, b2_T, b2_F, if_true, if_false, ↓mjn_b, ↓mjn0_b, ↓mjn2_b, iv_lit, iv_add, iv_sub, iv_mul, iv_neg, iv_le_t, iv_le_f, iv_lt_t, iv_lt_f, iv_eq_t, iv_eq_f, iv_div, iv_mod, mretT_p, mretT_b, e_mret, ↓e_bret, ↓m_mon, ↓m_oI0, m_pI0, ↓m_oI3, m_pI3, ↓m_oI5, m_pI5, ↓m_oI7, m_pI7, ↓m_oI11, m_pI11, ↓m_oI12, m_pI12, ↓m_oI13, m_pI13, ↓m_oI14, m_pI14, ↓m_oI15, m_pI15, ↓m_oI16, m_pI16, ↓m_oI17, m_pI17, m_pZ5, m_pZ12, ↓m_oR1, m_aI1, m_sI1, ↓m_oR2, m_aI2, m_sI2, ↓m_oR4, m_aI4, m_sI4, ↓m_oR6, m_aI6, m_sI6, ↓m_oR8, m_aI8, m_sI8, ↓m_oR9, m_aI9, m_sI9, ↓m_oR10, m_aI10, m_sI10, fX2_seesByObstacles_L93, ↓s_o4 ho, ↓eT_t, ↓eC_t, ↓t_o0 ht_t, ↓ed, ↓e1]
theorem X2_sbo_L201_ev {g : Nat → Nat} {h : Nat → Option hC} {n w a : Nat} {D : Nat → Nat} {tb gb : Int → Nat} {z : Int → Int} {x f : Int} (hg : gD g) (hz : wZ z) (hs : ST g h a D tb gb z) (hx : 0 ≤ x ∧ x < z 60) (hf : cin f) : ∀ (k nn : Nat) (r : Prop) (i : Int), k < nn → 0 ≤ i → i + k = z 60 →
    fX2_seesByObstacles_L201 g nn (some a) (some (gb x)) (iv f) (iv (b2 r)) (iv (z 60)) (iv i) (h, n, w) = some (iv (b2 (r ∧ ∀ j, i ≤ j → j < z 60 → ¬ (sits z j ∧ gh z x < gh z j ∧ onl z f (cgl z j)))), (h, n, w)) := by
  have ho := hs.1.1
  unfold SO at ho
  have h60 := wZ_60 hz
  have hgr := (wZ_graw hz hx).1
  have hgh : 1 ≤ gh z x ∧ gh z x ≤ 9 := hgr
  have hx_gu := hs.2.1.2 x hx.1 hx.2
  obtain ⟨nm_x, hg_x, -⟩ := id hx_gu
  have eg_x := fun (K : Option Nat → HM Int32) => J2_get_c (K := K) (n := n) (w := 0) (i := x) hs.2.1.1 hx
  have ec_x := fun (K : Unit → HM Int32) => c_mcst (K := K) (n := n) (w := 0) (cs := [3]) hg_x (List.mem_cons_self ..)
  have es_x := fun (K : Int32 → HM Int32) => X8_sits_c (K := K) (g := g) (n := n) (w := 0) hz hx hx_gu
  intro k
  induction k with
  | zero =>
    intro nn r i hn hi he
    obtain ⟨q, rfl⟩ : ∃ q, nn = q + 1 := ⟨nn - 1, by omega⟩
    rw [show b2 (r ∧ ∀ j, i ≤ j → j < z 60 → ¬ (sits z j ∧ gh z x < gh z j ∧ onl z f (cgl z j))) = b2 r from b2_c ⟨fun q => q.1, fun q => ⟨q, fun c u v => by omega⟩⟩]
    simp (disch := omega) only [↓reduceIte, Int.reduceEq, Int.reduceNe, Int.reduceLT, Int.reduceLE, Int.reduceNeg, Int.reduceMod, Int.reduceDiv, Int.reduceAdd, Int.reduceSub, Int.reduceMul, not_true_eq_false, not_false_eq_true, Int.lt_irrefl, true_or, or_true, false_or, or_false, true_and, and_true, false_and, and_false, b2_T, b2_F, if_true, if_false, ↓mjn_b, ↓mjn0_b, ↓mjn2_b, iv_lit, iv_add, iv_sub, iv_mul, iv_neg, iv_le_t, iv_le_f, iv_lt_t, iv_lt_f, iv_eq_t, iv_eq_f, iv_div, iv_mod, mretT_p, mretT_b, e_mret, ↓e_bret, ↓m_mon, ↓m_oI0, m_pI0, ↓m_oI3, m_pI3, ↓m_oI5, m_pI5, ↓m_oI7, m_pI7, ↓m_oI11, m_pI11, ↓m_oI12, m_pI12, ↓m_oI13, m_pI13, ↓m_oI14, m_pI14, ↓m_oI15, m_pI15, ↓m_oI16, m_pI16, ↓m_oI17, m_pI17, m_pZ5, m_pZ12, ↓m_oR1, m_aI1, m_sI1, ↓m_oR2, m_aI2, m_sI2, ↓m_oR4, m_aI4, m_sI4, ↓m_oR6, m_aI6, m_sI6, ↓m_oR8, m_aI8, m_sI8, ↓m_oR9, m_aI9, m_sI9, ↓m_oR10, m_aI10, m_sI10, fX2_seesByObstacles_L201]
  | succ k ih =>
    intro nn r i hn hi he
    obtain ⟨q, rfl⟩ : ∃ q, nn = q + 1 := ⟨nn - 1, by omega⟩
    have hii : 0 ≤ i ∧ i < z 60 := ⟨hi, by omega⟩
    have hgi := (wZ_graw hz hii).1
    have hgj : 1 ≤ gh z i ∧ gh z i ≤ 9 := hgi
    have hi_gu := hs.2.1.2 i hii.1 hii.2
    obtain ⟨nm_i, hg_i, -⟩ := id hi_gu
    have eg_i := fun (K : Option Nat → HM Int32) => J2_get_c (K := K) (n := n) (w := w) (i := i) hs.2.1.1 hii
    have ec_i := fun (K : Unit → HM Int32) => c_mcst (K := K) (n := n) (w := w) (cs := [3]) hg_i (List.mem_cons_self ..)
    have es_i := fun (K : Int32 → HM Int32) => X8_sits_c (K := K) (g := g) (n := n) (w := w) hz hii hi_gu
    have hst : ∀ s : Prop, (s ↔ ¬ (sits z i ∧ gh z x < gh z i ∧ onl z f (cgl z i))) → b2 ((r ∧ s) ∧ ∀ j, i + 1 ≤ j → j < z 60 → ¬ (sits z j ∧ gh z x < gh z j ∧ onl z f (cgl z j))) = b2 (r ∧ ∀ j, i ≤ j → j < z 60 → ¬ (sits z j ∧ gh z x < gh z j ∧ onl z f (cgl z j))) := fun s hs => b2_c ⟨fun q => ⟨q.1.1, fun c u v => by
      by_cases e : c = i
      · rw [e]; exact hs.1 q.1.2
      · exact q.2 c (by omega) v⟩, fun q => ⟨⟨q.1, hs.2 (q.2 i (by omega) (by omega))⟩, fun c u v => q.2 c (by omega) v⟩⟩
    by_cases e : sits z i
    · rw [b2_t e] at es_i
      have hcc := cgl_cin hz hii e
      have ec := fun (K : Int32 → HM Int32) => X2_cellOf_c (K := K) (n := n) (w := w) hg hz hs.1 hs.2.1 hii e
      have eo := fun (K : Int32 → HM Int32) => X2_isOnLine_c (K := K) (n := n) (w := w) hz hs hf hcc
      by_cases d : gh z x < gh z i
      · by_cases u : onl z f (cgl z i)
        · rw [b2_t u] at eo
          rw [← hst False ⟨fun w => w.elim, fun w => w ⟨e, d, u⟩⟩, ← ih q (r ∧ False) (i + 1) (by omega) (by omega) (by omega), ← iv_and2, b2_F]
          simp (disch := omega) only [↓reduceIte, Int.reduceEq, Int.reduceNe, Int.reduceLT, Int.reduceLE, Int.reduceNeg, Int.reduceMod, Int.reduceDiv, Int.reduceAdd, Int.reduceSub, Int.reduceMul, not_true_eq_false, not_false_eq_true, Int.lt_irrefl, true_or, or_true, false_or, or_false, true_and, and_true, false_and, and_false, b2_T, b2_F, if_true, if_false, ↓mjn_b, ↓mjn0_b, ↓mjn2_b, iv_lit, iv_add, iv_sub, iv_mul, iv_neg, iv_le_t, iv_le_f, iv_lt_t, iv_lt_f, iv_eq_t, iv_eq_f, iv_div, iv_mod, mretT_p, mretT_b, e_mret, ↓e_bret, ↓m_mon, ↓m_oI0, m_pI0, ↓m_oI3, m_pI3, ↓m_oI5, m_pI5, ↓m_oI7, m_pI7, ↓m_oI11, m_pI11, ↓m_oI12, m_pI12, ↓m_oI13, m_pI13, ↓m_oI14, m_pI14, ↓m_oI15, m_pI15, ↓m_oI16, m_pI16, ↓m_oI17, m_pI17, m_pZ5, m_pZ12, ↓m_oR1, m_aI1, m_sI1, ↓m_oR2, m_aI2, m_sI2, ↓m_oR4, m_aI4, m_sI4, ↓m_oR6, m_aI6, m_sI6, ↓m_oR8, m_aI8, m_sI8, ↓m_oR9, m_aI9, m_sI9, ↓m_oR10, m_aI10, m_sI10, fX2_seesByObstacles_L201, ↓s_o5 ho, ↓eg_i, ↓ec_i, ↓es_i, ↓g_o2 hg_i, ↓g_o2 hg_x, ↓ec, ↓eo]
        · rw [b2_f u] at eo
          rw [← hst True ⟨fun _ w => u w.2.2, fun _ => trivial⟩, ← ih q (r ∧ True) (i + 1) (by omega) (by omega) (by omega), ← iv_and2, b2_T]
          simp (disch := omega) only [↓reduceIte, Int.reduceEq, Int.reduceNe, Int.reduceLT, Int.reduceLE, Int.reduceNeg, Int.reduceMod, Int.reduceDiv, Int.reduceAdd, Int.reduceSub, Int.reduceMul, not_true_eq_false, not_false_eq_true, Int.lt_irrefl, true_or, or_true, false_or, or_false, true_and, and_true, false_and, and_false, b2_T, b2_F, if_true, if_false, ↓mjn_b, ↓mjn0_b, ↓mjn2_b, iv_lit, iv_add, iv_sub, iv_mul, iv_neg, iv_le_t, iv_le_f, iv_lt_t, iv_lt_f, iv_eq_t, iv_eq_f, iv_div, iv_mod, mretT_p, mretT_b, e_mret, ↓e_bret, ↓m_mon, ↓m_oI0, m_pI0, ↓m_oI3, m_pI3, ↓m_oI5, m_pI5, ↓m_oI7, m_pI7, ↓m_oI11, m_pI11, ↓m_oI12, m_pI12, ↓m_oI13, m_pI13, ↓m_oI14, m_pI14, ↓m_oI15, m_pI15, ↓m_oI16, m_pI16, ↓m_oI17, m_pI17, m_pZ5, m_pZ12, ↓m_oR1, m_aI1, m_sI1, ↓m_oR2, m_aI2, m_sI2, ↓m_oR4, m_aI4, m_sI4, ↓m_oR6, m_aI6, m_sI6, ↓m_oR8, m_aI8, m_sI8, ↓m_oR9, m_aI9, m_sI9, ↓m_oR10, m_aI10, m_sI10, fX2_seesByObstacles_L201, ↓s_o5 ho, ↓eg_i, ↓ec_i, ↓es_i, ↓g_o2 hg_i, ↓g_o2 hg_x, ↓ec, ↓eo]
      · rw [← hst True ⟨fun _ w => d w.2.1, fun _ => trivial⟩, ← ih q (r ∧ True) (i + 1) (by omega) (by omega) (by omega), ← iv_and2, b2_T]
        simp (disch := omega) only [↓reduceIte, Int.reduceEq, Int.reduceNe, Int.reduceLT, Int.reduceLE, Int.reduceNeg, Int.reduceMod, Int.reduceDiv, Int.reduceAdd, Int.reduceSub, Int.reduceMul, not_true_eq_false, not_false_eq_true, Int.lt_irrefl, true_or, or_true, false_or, or_false, true_and, and_true, false_and, and_false, b2_T, b2_F, if_true, if_false, ↓mjn_b, ↓mjn0_b, ↓mjn2_b, iv_lit, iv_add, iv_sub, iv_mul, iv_neg, iv_le_t, iv_le_f, iv_lt_t, iv_lt_f, iv_eq_t, iv_eq_f, iv_div, iv_mod, mretT_p, mretT_b, e_mret, ↓e_bret, ↓m_mon, ↓m_oI0, m_pI0, ↓m_oI3, m_pI3, ↓m_oI5, m_pI5, ↓m_oI7, m_pI7, ↓m_oI11, m_pI11, ↓m_oI12, m_pI12, ↓m_oI13, m_pI13, ↓m_oI14, m_pI14, ↓m_oI15, m_pI15, ↓m_oI16, m_pI16, ↓m_oI17, m_pI17, m_pZ5, m_pZ12, ↓m_oR1, m_aI1, m_sI1, ↓m_oR2, m_aI2, m_sI2, ↓m_oR4, m_aI4, m_sI4, ↓m_oR6, m_aI6, m_sI6, ↓m_oR8, m_aI8, m_sI8, ↓m_oR9, m_aI9, m_sI9, ↓m_oR10, m_aI10, m_sI10, fX2_seesByObstacles_L201, ↓s_o5 ho, ↓eg_i, ↓ec_i, ↓es_i, ↓g_o2 hg_i, ↓g_o2 hg_x]
    · rw [b2_f e] at es_i
      rw [← hst True ⟨fun _ w => e w.1, fun _ => trivial⟩, ← ih q (r ∧ True) (i + 1) (by omega) (by omega) (by omega), ← iv_and2, b2_T]
      simp (disch := omega) only [↓reduceIte, Int.reduceEq, Int.reduceNe, Int.reduceLT, Int.reduceLE, Int.reduceNeg, Int.reduceMod, Int.reduceDiv, Int.reduceAdd, Int.reduceSub, Int.reduceMul, not_true_eq_false, not_false_eq_true, Int.lt_irrefl, true_or, or_true, false_or, or_false, true_and, and_true, false_and, and_false, b2_T, b2_F, if_true, if_false, ↓mjn_b, ↓mjn0_b, ↓mjn2_b, iv_lit, iv_add, iv_sub, iv_mul, iv_neg, iv_le_t, iv_le_f, iv_lt_t, iv_lt_f, iv_eq_t, iv_eq_f, iv_div, iv_mod, mretT_p, mretT_b, e_mret, ↓e_bret, ↓m_mon, ↓m_oI0, m_pI0, ↓m_oI3, m_pI3, ↓m_oI5, m_pI5, ↓m_oI7, m_pI7, ↓m_oI11, m_pI11, ↓m_oI12, m_pI12, ↓m_oI13, m_pI13, ↓m_oI14, m_pI14, ↓m_oI15, m_pI15, ↓m_oI16, m_pI16, ↓m_oI17, m_pI17, m_pZ5, m_pZ12, ↓m_oR1, m_aI1, m_sI1, ↓m_oR2, m_aI2, m_sI2, ↓m_oR4, m_aI4, m_sI4, ↓m_oR6, m_aI6, m_sI6, ↓m_oR8, m_aI8, m_sI8, ↓m_oR9, m_aI9, m_sI9, ↓m_oR10, m_aI10, m_sI10, fX2_seesByObstacles_L201, ↓s_o5 ho, ↓eg_i, ↓ec_i, ↓es_i]
