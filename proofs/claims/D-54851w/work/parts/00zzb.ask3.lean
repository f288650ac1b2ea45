/-! ===== more of what a state is asked ===== -/
theorem stz_rg {z : Int → Int} (hz : wZ z) {c : Int} (hc : cin c) : -1 ≤ stz z c ∧ stz z c ≤ 193 := by
  obtain ⟨M', -, e2, e3⟩ := X7_check0 (g := fun _ => 0) (h := fun _ => none) (n := 0) (w := 0) (m := 0) (M := fun b => if b = 1 then z else fun _ => 0) (show wH z from hz.1)
  have h1 : M' 1 = z := by rw [e2 1 (by decide) (by decide) (by decide)]; rfl
  have h := lay9 (e3 hz.2.2.2.2.2.2) hc
  rw [h1] at h
  exact h.2
theorem X2_hasGuestsAt_L12_ev {g : Nat → Nat} {h : Nat → Option hC} {n w a : Nat} {D : Nat → Nat} {tb gb : Int → Nat} {z : Int → Int} {t : Int} (hz : wZ z) (hs : ST g h a D tb gb z) (ht : 0 ≤ t ∧ t ≤ 10) : ∀ (k nn : Nat) (i : Int), k < nn → 0 ≤ i → i + k = z 60 → fX2_hasGuestsAt_L12 g nn (some a) (iv t) (iv (z 60)) (iv i) (h, n, w) = some (iv (b2 (∃ j, (i ≤ j ∧ j < z 60) ∧ ga z j = t)), (h, n, w)) := by
  have ho := hs.1.1
  unfold SO at ho
  have h60 := wZ_60 hz
  intro k
  induction k with
  | zero =>
    intro nn i hn hi he
    obtain ⟨q, rfl⟩ : ∃ q, nn = q + 1 := ⟨nn - 1, by omega⟩
    rw [b2_f (fun q => by obtain ⟨j, u, v⟩ := q; omega)]
    simp (disch := omega) only [↓reduceIte, Int.reduceEq, Int.reduceNe, Int.reduceLT, Int.reduceLE, Int.reduceNeg, Int.reduceMod, Int.reduceDiv, Int.reduceAdd, Int.reduceSub, Int.reduceMul, not_true_eq_false, not_false_eq_true, Int.lt_irrefl, true_or, or_true, false_or, or_false, true_and, and_true, false_and, and_false, b2_T, b2_F, if_true, if_false, ↓mjn_b, ↓mjn0_b, ↓mjn2_b, iv_lit, iv_add, iv_sub, iv_mul, iv_neg, iv_le_t, iv_le_f, iv_lt_t, iv_lt_f, iv_eq_t, iv_eq_f, iv_div, iv_mod, mretT_p, mretT_b, e_mret, ↓e_bret, ↓m_mon, ↓m_oI0, m_pI0, ↓m_oI3, m_pI3, ↓m_oI5, m_pI5, ↓m_oI7, m_pI7, ↓m_oI11, m_pI11, ↓m_oI12, m_pI12, ↓m_oI13, m_pI13, ↓m_oI14, m_pI14, ↓m_oI15, m_pI15, ↓m_oI16, m_pI16, ↓m_oI17, m_pI17, m_pZ5, m_pZ12, ↓m_oR1, m_aI1, m_sI1, ↓m_oR2, m_aI2, m_sI2, ↓m_oR4, m_aI4, m_sI4, ↓m_oR6, m_aI6, m_sI6, ↓m_oR8, m_aI8, m_sI8, ↓m_oR9, m_aI9, m_sI9, ↓m_oR10, m_aI10, m_sI10, fX2_hasGuestsAt_L12]
  | succ k ih =>
    intro nn i hn hi he
    obtain ⟨q, rfl⟩ : ∃ q, nn = q + 1 := ⟨nn - 1, by omega⟩
    have hii : 0 ≤ i ∧ i < z 60 := ⟨hi, by omega⟩
    have hi_gu := hs.2.1.2 i hii.1 hii.2
    obtain ⟨nm_i, hg_i, -⟩ := id hi_gu
    have eg_i := fun (K : Option Nat → HM Int32) => J2_get_c (K := K) (n := n) (w := w) (i := i) hs.2.1.1 hii
    have ec_i := fun (K : Unit → HM Int32) => c_mcst (K := K) (n := n) (w := w) (cs := [3]) hg_i (List.mem_cons_self ..)
    have es_i := fun (K : Int32 → HM Int32) => X8_sits_c (K := K) (g := g) (n := n) (w := w) hz hii hi_gu
    have hgr := wZ_graw hz hii
    have hga : -1 ≤ ga z i ∧ ga z i ≤ 9 := hgr.2.1
    by_cases e : ga z i = t
    · rw [b2_t ⟨i, by omega, e⟩]
      simp (disch := omega) only [↓reduceIte, Int.reduceEq, Int.reduceNe, Int.reduceLT, Int.reduceLE, Int.reduceNeg, Int.reduceMod, Int.reduceDiv, Int.reduceAdd, Int.reduceSub, Int.reduceMul, not_true_eq_false, not_false_eq_true, Int.lt_irrefl, true_or, or_true, false_or, or_false, true_and, and_true, false_and, and_false, b2_T, b2_F, if_true, if_false, ↓mjn_b, ↓mjn0_b, ↓mjn2_b, iv_lit, iv_add, iv_sub, iv_mul, iv_neg, iv_le_t, iv_le_f, iv_lt_t, iv_lt_f, iv_eq_t, iv_eq_f, iv_div, iv_mod, mretT_p, mretT_b, e_mret, ↓e_bret, ↓m_mon, ↓m_oI0, m_pI0, ↓m_oI3, m_pI3, ↓m_oI5, m_pI5, ↓m_oI7, m_pI7, ↓m_oI11, m_pI11, ↓m_oI12, m_pI12, ↓m_oI13, m_pI13, ↓m_oI14, m_pI14, ↓m_oI15, m_pI15, ↓m_oI16, m_pI16, ↓m_oI17, m_pI17, m_pZ5, m_pZ12, ↓m_oR1, m_aI1, m_sI1, ↓m_oR2, m_aI2, m_sI2, ↓m_oR4, m_aI4, m_sI4, ↓m_oR6, m_aI6, m_sI6, ↓m_oR8, m_aI8, m_sI8, ↓m_oR9, m_aI9, m_sI9, ↓m_oR10, m_aI10, m_sI10, fX2_hasGuestsAt_L12, ↓s_o5 ho, ↓eg_i, ↓ec_i, ↓g_o3 hg_i]
    · rw [show b2 (∃ j, (i ≤ j ∧ j < z 60) ∧ ga z j = t) = b2 (∃ j, (i + 1 ≤ j ∧ j < z 60) ∧ ga z j = t) from b2_c ⟨fun q => by
        obtain ⟨j, u, v⟩ := q
        by_cases f : j = i
        · rw [f] at v; exact absurd v e
        · exact ⟨j, by omega, v⟩, fun q => by
        obtain ⟨j, u, v⟩ := q
        exact ⟨j, by omega, v⟩⟩, ← ih q (i + 1) (by omega) (by omega) (by omega)]
      simp (disch := omega) only [↓reduceIte, Int.reduceEq, Int.reduceNe, Int.reduceLT, Int.reduceLE, Int.reduceNeg, Int.reduceMod, Int.reduceDiv, Int.reduceAdd, Int.reduceSub, Int.reduceMul, not_true_eq_false, not_false_eq_true, Int.lt_irrefl, true_or, or_true, false_or, or_false, true_and, and_true, false_and, and_false, b2_T, b2_F, if_true, if_false, ↓mjn_b, ↓mjn0_b, ↓mjn2_b, iv_lit, iv_add, iv_sub, iv_mul, iv_neg, iv_le_t, iv_le_f, iv_lt_t, iv_lt_f, iv_eq_t, iv_eq_f, iv_div, iv_mod, mretT_p, mretT_b, e_mret, ↓e_bret, ↓m_mon, ↓m_oI0, m_pI0, ↓m_oI3, m_pI3, ↓m_oI5, m_pI5, ↓m_oI7, m_pI7, ↓m_oI11, m_pI11, ↓m_oI12, m_pI12, ↓m_oI13, m_pI13, ↓m_oI14, m_pI14, ↓m_oI15, m_pI15, ↓m_oI16, m_pI16, ↓m_oI17, m_pI17, m_pZ5, m_pZ12, ↓m_oR1, m_aI1, m_sI1, ↓m_oR2, m_aI2, m_sI2, ↓m_oR4, m_aI4, m_sI4, ↓m_oR6, m_aI6, m_sI6, ↓m_oR8, m_aI8, m_sI8, ↓m_oR9, m_aI9, m_sI9, ↓m_oR10, m_aI10, m_sI10, fX2_hasGuestsAt_L12, ↓s_o5 ho, ↓eg_i, ↓ec_i, ↓g_o3 hg_i]
theorem X2_hasGuestsAt_c {β : Type} {K : Int32 → HM β} {g : Nat → Nat} {h : Nat → Option hC} {n w a : Nat} {D : Nat → Nat} {tb gb : Int → Nat} {z : Int → Int} {t : Int} (hz : wZ z) (hs : ST g h a D tb gb z) (ht : 0 ≤ t ∧ t ≤ 10) : mb (mon 1 (some a) (mcall0 (fX2_hasGuestsAt g (some a) (iv t)))) K (h, n, w) = K (iv (b2 (sttr z t ≠ 0))) (h, n, w) := by
  have ho := hs.1.1
  unfold SO at ho
  have h60 := wZ_60 hz
  rw [c_mon ho]
  refine e_call0 (u' := 0) ?_
  have e := X2_hasGuestsAt_L12_ev (n := n) (w := 0) hz hs ht (z 60).toNat 5000 0 (by omega) (by omega) (by omega)
  have hst := sttr_0 (z := z) (t := t) h60.1
  rw [show b2 (sttr z t ≠ 0) = b2 (∃ j, ((0 : Int) ≤ j ∧ j < z 60) ∧ ga z j = t) from b2_c ⟨fun q => Classical.byContradiction (fun r => q (hst.2.2 (fun j u v w => r ⟨j, ⟨u, v⟩, w⟩))), fun q r => by
    obtain ⟨j, u, v⟩ := q
    exact hst.2.1 r j u.1 u.2 v⟩, ← e]
  unfold fX2_hasGuestsAt
  rw [s_o5 ho, J2_size_c hs.2.1.1]
  simp only [iv_lit]
theorem X2_longestWay_L4_ev {g : Nat → Nat} {h : Nat → Option hC} {n w a : Nat} {D : Nat → Nat} {tb gb : Int → Nat} {z : Int → Int} (hz : wZ z) (hs : ST g h a D tb gb z) : ∀ (k nn : Nat) (s i : Int), k < nn → 0 ≤ i → i + k = 192 → 0 ≤ s ∧ s ≤ 193 → fX2_longestWay_L4 g nn (some a) (iv s) (iv i) (h, n, w) = some (iv (foldI (fun a c => @ite Int (30 ≤ mpz z c ∧ a < stz z c) (Classical.propDecidable _) (stz z c) a) s i k), (h, n, w)) := by
  have ho := hs.1.1
  unfold SO at ho
  have h15 := wZ_15 hz
  obtain ⟨F, hF, hF2⟩ := hs.2.2.2.1
  obtain ⟨T, hT, hT2⟩ := hs.2.2.2.2.1
  intro k
  induction k with
  | zero =>
    intro nn s i hn hi he hsr
    obtain ⟨q, rfl⟩ : ∃ q, nn = q + 1 := ⟨nn - 1, by omega⟩
    show _ = some (iv s, (h, n, w))
    simp (disch := omega) only [↓reduceIte, Int.reduceEq, Int.reduceNe, Int.reduceLT, Int.reduceLE, Int.reduceNeg, Int.reduceMod, Int.reduceDiv, Int.reduceAdd, Int.reduceSub, Int.reduceMul, not_true_eq_false, not_false_eq_true, Int.lt_irrefl, true_or, or_true, false_or, or_false, true_and, and_true, false_and, and_false, b2_T, b2_F, if_true, if_false, ↓mjn_b, ↓mjn0_b, ↓mjn2_b, iv_lit, iv_add, iv_sub, iv_mul, iv_neg, iv_le_t, iv_le_f, iv_lt_t, iv_lt_f, iv_eq_t, iv_eq_f, iv_div, iv_mod, mretT_p, mretT_b, e_mret, ↓e_bret, ↓m_mon, ↓m_oI0, m_pI0, ↓m_oI3, m_pI3, ↓m_oI5, m_pI5, ↓m_oI7, m_pI7, ↓m_oI11, m_pI11, ↓m_oI12, m_pI12, ↓m_oI13, m_pI13, ↓m_oI14, m_pI14, ↓m_oI15, m_pI15, ↓m_oI16, m_pI16, ↓m_oI17, m_pI17, m_pZ5, m_pZ12, ↓m_oR1, m_aI1, m_sI1, ↓m_oR2, m_aI2, m_sI2, ↓m_oR4, m_aI4, m_sI4, ↓m_oR6, m_aI6, m_sI6, ↓m_oR8, m_aI8, m_sI8, ↓m_oR9, m_aI9, m_sI9, ↓m_oR10, m_aI10, m_sI10, fX2_longestWay_L4]
  | succ k ih =>
    intro nn s i hn hi he hsr
    obtain ⟨q, rfl⟩ : ∃ q, nn = q + 1 := ⟨nn - 1, by omega⟩
    have hi2 : 0 ≤ i ∧ i < ((192 : Nat) : Int) := by omega
    have hci : cin i := by unfold cin; omega
    have hm := mpz_rg2 (z := z) (by omega) i
    have hv : F i = if 30 ≤ mpz z i then mpz z i + 10 else mpz z i := hF2 i hci
    have hv2 := hT2 i hci
    have hr := stz_rg hz hci
    have eF := fun (K : Int32 → HM Int32) => c_aI (K := K) (n := n) (w := w) (i := i) hF (by decide) hi2
    have eT := fun (K : Int32 → HM Int32) => c_aI (K := K) (n := n) (w := w) (i := i) hT (by decide) hi2
    rw [hv2] at eT
    show _ = some (iv (foldI (fun a c => @ite Int (30 ≤ mpz z c ∧ a < stz z c) (Classical.propDecidable _) (stz z c) a) (@ite Int (30 ≤ mpz z i ∧ s < stz z i) (Classical.propDecidable _) (stz z i) s) (i + 1) k), (h, n, w))
    by_cases h1 : 30 ≤ mpz z i
    · have h40 : 40 ≤ F i ∧ F i ≤ 70 := by rw [hv, if_pos h1]; omega
      by_cases h2 : s < stz z i
      · rw [if_pos ⟨h1, h2⟩, ← ih q _ (i + 1) (by omega) (by omega) (by omega) (by omega)]
        simp (disch := omega) only [↓reduceIte, Int.reduceEq, Int.reduceNe, Int.reduceLT, Int.reduceLE, Int.reduceNeg, Int.reduceMod, Int.reduceDiv, Int.reduceAdd, Int.reduceSub, Int.reduceMul, not_true_eq_false, not_false_eq_true, Int.lt_irrefl, true_or, or_true, false_or, or_false, true_and, and_true, false_and, and_false, b2_T, b2_F, if_true, if_false, ↓mjn_b, ↓mjn0_b, ↓mjn2_b, iv_lit, iv_add, iv_sub, iv_mul, iv_neg, iv_le_t, iv_le_f, iv_lt_t, iv_lt_f, iv_eq_t, iv_eq_f, iv_div, iv_mod, mretT_p, mretT_b, e_mret, ↓e_bret, ↓m_mon, ↓m_oI0, m_pI0, ↓m_oI3, m_pI3, ↓m_oI5, m_pI5, ↓m_oI7, m_pI7, ↓m_oI11, m_pI11, ↓m_oI12, m_pI12, ↓m_oI13, m_pI13, ↓m_oI14, m_pI14, ↓m_oI15, m_pI15, ↓m_oI16, m_pI16, ↓m_oI17, m_pI17, m_pZ5, m_pZ12, ↓m_oR1, m_aI1, m_sI1, ↓m_oR2, m_aI2, m_sI2, ↓m_oR4, m_aI4, m_sI4, ↓m_oR6, m_aI6, m_sI6, ↓m_oR8, m_aI8, m_sI8, ↓m_oR9, m_aI9, m_sI9, ↓m_oR10, m_aI10, m_sI10, fX2_longestWay_L4, ↓s_o7 ho, ↓s_o8 ho, ↓eF, ↓eT]
      · rw [if_neg (fun q => h2 q.2), ← ih q _ (i + 1) (by omega) (by omega) (by omega) hsr]
        simp (disch := omega) only [↓reduceIte, Int.reduceEq, Int.reduceNe, Int.reduceLT, Int.reduceLE, Int.reduceNeg, Int.reduceMod, Int.reduceDiv, Int.reduceAdd, Int.reduceSub, Int.reduceMul, not_true_eq_false, not_false_eq_true, Int.lt_irrefl, true_or, or_true, false_or, or_false, true_and, and_true, false_and, and_false, b2_T, b2_F, if_true, if_false, ↓mjn_b, ↓mjn0_b, ↓mjn2_b, iv_lit, iv_add, iv_sub, iv_mul, iv_neg, iv_le_t, iv_le_f, iv_lt_t, iv_lt_f, iv_eq_t, iv_eq_f, iv_div, iv_mod, mretT_p, mretT_b, e_mret, ↓e_bret, ↓m_mon, ↓m_oI0, m_pI0, ↓m_oI3, m_pI3, ↓m_oI5, m_pI5, ↓m_oI7, m_pI7, ↓m_oI11, m_pI11, ↓m_oI12, m_pI12, ↓m_oI13, m_pI13, ↓m_oI14, m_pI14, ↓m_oI15, m_pI15, ↓m_oI16, m_pI16, ↓m_oI17, m_pI17, m_pZ5, m_pZ12, ↓m_oR1, m_aI1, m_sI1, ↓m_oR2, m_aI2, m_sI2, ↓m_oR4, m_aI4, m_sI4, ↓m_oR6, m_aI6, m_sI6, ↓m_oR8, m_aI8, m_sI8, ↓m_oR9, m_aI9, m_sI9, ↓m_oR10, m_aI10, m_sI10, fX2_longestWay_L4, ↓s_o7 ho, ↓s_o8 ho, ↓eF, ↓eT]
    · have h40 : 0 ≤ F i ∧ F i < 40 := by rw [hv, if_neg h1]; omega
      rw [if_neg (fun q => h1 q.1), ← ih q _ (i + 1) (by omega) (by omega) (by omega) hsr]
      simp (disch := omega) only [↓reduceIte, Int.reduceEq, Int.reduceNe, Int.reduceLT, Int.reduceLE, Int.reduceNeg, Int.reduceMod, Int.reduceDiv, Int.reduceAdd, Int.reduceSub, Int.reduceMul, not_true_eq_false, not_false_eq_true, Int.lt_irrefl, true_or, or_true, false_or, or_false, true_and, and_true, false_and, and_false, b2_T, b2_F, if_true, if_false, ↓mjn_b, ↓mjn0_b, ↓mjn2_b, iv_lit, iv_add, iv_sub, iv_mul, iv_neg, iv_le_t, iv_le_f, iv_lt_t, iv_lt_f, iv_eq_t, iv_eq_f, iv_div, iv_mod, mretT_p, mretT_b, e_mret, ↓e_bret, ↓m_mon, ↓m_oI0, m_pI0, ↓m_oI3, m_pI3, ↓m_oI5, m_pI5, ↓m_oI7, m_pI7, ↓m_oI11, m_pI11, ↓m_oI12, m_pI12, ↓m_oI13, m_pI13, ↓m_oI14, m_pI14, ↓m_oI15, m_pI15, ↓m_oI16, m_pI16, ↓m_oI17, m_pI17, m_pZ5, m_pZ12, ↓m_oR1, m_aI1, m_sI1, ↓m_oR2, m_aI2, m_sI2, ↓m_oR4, m_aI4, m_sI4, ↓m_oR6, m_aI6, m_sI6, ↓m_oR8, m_aI8, m_sI8, ↓m_oR9, m_aI9, m_sI9, ↓m_oR10, m_aI10, m_sI10, fX2_longestWay_L4, ↓s_o7 ho, ↓s_o8 ho, ↓eF, ↓eT]
theorem X2_longestWay_c {β : Type} {K : Int32 → HM β} {g : Nat → Nat} {h : Nat → Option hC} {n w a : Nat} {D : Nat → Nat} {tb gb : Int → Nat} {z : Int → Int} (hz : wZ z) (hs : ST g h a D tb gb z) : mb (mon 1 (some a) (mcall0 (fX2_longestWay g (some a)))) K (h, n, w) = K (iv (lwz z)) (h, n, w) := by
  have ho := hs.1.1
  unfold SO at ho
  rw [c_mon ho]
  refine e_call0 (u' := 0) ?_
  have e := X2_longestWay_L4_ev (n := n) (w := 0) hz hs 192 5000 0 0 (by omega) (by omega) (by omega) (by omega)
  unfold fX2_longestWay lwz
  rw [← e]
  simp only [iv_lit]
theorem X2_placeOf_L51_ev {g : Nat → Nat} {h : Nat → Option hC} {n w a : Nat} {D : Nat → Nat} {tb gb : Int → Nat} {z : Int → Int} {x : Int} (hg : gD g) (hz : wZ z) (hs : ST g h a D tb gb z) (hx : 0 ≤ x ∧ x < z 60) (hsx : sits z x) : ∀ (k nn : Nat) (s i : Int), k < nn → 0 ≤ i → i + k = z 60 → fX2_placeOf_L51 g nn (some a) (iv x) (iv (stz z (cgl z x))) (iv (z 60)) (iv s) (iv i) (h, n, w) = some (iv (foldI (fun a h => a + b2 (sits z h ∧ (stz z (cgl z h) < stz z (cgl z x) ∨ (stz z (cgl z h) = stz z (cgl z x) ∧ h < x)))) s i k), (h, n, w)) := by
  have ho := hs.1.1
  unfold SO at ho
  have h60 := wZ_60 hz
  obtain ⟨T, hT, hT2⟩ := hs.2.2.2.2.1
  have hrx := stz_rg hz (cgl_cin hz hx hsx)
  intro k
  induction k with
  | zero =>
    intro nn s i hn hi he
    obtain ⟨q, rfl⟩ : ∃ q, nn = q + 1 := ⟨nn - 1, by omega⟩
    show _ = some (iv s, (h, n, w))
    simp (disch := omega) only [↓reduceIte, Int.reduceEq, Int.reduceNe, Int.reduceLT, Int.reduceLE, Int.reduceNeg, Int.reduceMod, Int.reduceDiv, Int.reduceAdd, Int.reduceSub, Int.reduceMul, not_true_eq_false, not_false_eq_true, Int.lt_irrefl, true_or, or_true, false_or, or_false, true_and, and_true, false_and, and_false, b2_T, b2_F, if_true, if_false, ↓mjn_b, ↓mjn0_b, ↓mjn2_b, iv_lit, iv_add, iv_sub, iv_mul, iv_neg, iv_le_t, iv_le_f, iv_lt_t, iv_lt_f, iv_eq_t, iv_eq_f, iv_div, iv_mod, mretT_p, mretT_b, e_mret, ↓e_bret, ↓m_mon, ↓m_oI0, m_pI0, ↓m_oI3, m_pI3, ↓m_oI5, m_pI5, ↓m_oI7, m_pI7, ↓m_oI11, m_pI11, ↓m_oI12, m_pI12, ↓m_oI13, m_pI13, ↓m_oI14, m_pI14, ↓m_oI15, m_pI15, ↓m_oI16, m_pI16, ↓m_oI17, m_pI17, m_pZ5, m_pZ12, ↓m_oR1, m_aI1, m_sI1, ↓m_oR2, m_aI2, m_sI2, ↓m_oR4, m_aI4, m_sI4, ↓m_oR6, m_aI6, m_sI6, ↓m_oR8, m_aI8, m_sI8, ↓m_oR9, m_aI9, m_sI9, ↓m_oR10, m_aI10, m_sI10, fX2_placeOf_L51]
  | succ k ih =>
    intro nn s i hn hi he
    obtain ⟨q, rfl⟩ : ∃ q, nn = q + 1 := ⟨nn - 1, by omega⟩
    have hii : 0 ≤ i ∧ i < z 60 := ⟨hi, by omega⟩
    have hi_gu := hs.2.1.2 i hii.1 hii.2
    obtain ⟨nm_i, hg_i, -⟩ := id hi_gu
    have eg_i := fun (K : Option Nat → HM Int32) => J2_get_c (K := K) (n := n) (w := w) (i := i) hs.2.1.1 hii
    have ec_i := fun (K : Unit → HM Int32) => c_mcst (K := K) (n := n) (w := w) (cs := [3]) hg_i (List.mem_cons_self ..)
    have es_i := fun (K : Int32 → HM Int32) => X8_sits_c (K := K) (g := g) (n := n) (w := w) hz hii hi_gu
    show _ = some (iv (foldI (fun a h => a + b2 (sits z h ∧ (stz z (cgl z h) < stz z (cgl z x) ∨ (stz z (cgl z h) = stz z (cgl z x) ∧ h < x)))) (s + b2 (sits z i ∧ (stz z (cgl z i) < stz z (cgl z x) ∨ (stz z (cgl z i) = stz z (cgl z x) ∧ i < x)))) (i + 1) k), (h, n, w))
    rw [← ih q _ (i + 1) (by omega) (by omega) (by omega)]
    by_cases e : sits z i
    · rw [b2_t e] at es_i
      have hcc := cgl_cin hz hii e
      have eo := fun (K : Int32 → HM Int32) => X2_cellOf_c (K := K) (n := n) (w := w) hg hz hs.1 hs.2.1 hii e
      have eT := fun (K : Int32 → HM Int32) => c_aI (K := K) (n := n) (w := w) (i := cgl z i) hT (by decide) hcc
      rw [hT2 _ hcc] at eT
      have hr := stz_rg hz hcc
      by_cases h1 : stz z (cgl z i) < stz z (cgl z x)
      · rw [b2_t ⟨e, Or.inl h1⟩]
        simp (disch := omega) only [↓reduceIte, Int.reduceEq, Int.reduceNe, Int.reduceLT, Int.reduceLE, Int.reduceNeg, Int.reduceMod, Int.reduceDiv, Int.reduceAdd, Int.reduceSub, Int.reduceMul, not_true_eq_false, not_false_eq_true, Int.lt_irrefl, true_or, or_true, false_or, or_false, true_and, and_true, false_and, and_false, b2_T, b2_F, if_true, if_false, ↓mjn_b, ↓mjn0_b, ↓mjn2_b, iv_lit, iv_add, iv_sub, iv_mul, iv_neg, iv_le_t, iv_le_f, iv_lt_t, iv_lt_f, iv_eq_t, iv_eq_f, iv_div, iv_mod, mretT_p, mretT_b, e_mret, ↓e_bret, ↓m_mon, ↓m_oI0, m_pI0, ↓m_oI3, m_pI3, ↓m_oI5, m_pI5, ↓m_oI7, m_pI7, ↓m_oI11, m_pI11, ↓m_oI12, m_pI12, ↓m_oI13, m_pI13, ↓m_oI14, m_pI14, ↓m_oI15, m_pI15, ↓m_oI16, m_pI16, ↓m_oI17, m_pI17, m_pZ5, m_pZ12, ↓m_oR1, m_aI1, m_sI1, ↓m_oR2, m_aI2, m_sI2, ↓m_oR4, m_aI4, m_sI4, ↓m_oR6, m_aI6, m_sI6, ↓m_oR8, m_aI8, m_sI8, ↓m_oR9, m_aI9, m_sI9, ↓m_oR10, m_aI10, m_sI10, fX2_placeOf_L51, ↓s_o5 ho, ↓s_o8 ho, ↓eg_i, ↓ec_i, ↓es_i, ↓eo, ↓eT]
      · by_cases h2 : stz z (cgl z i) = stz z (cgl z x)
        · by_cases h3 : i < x
          · rw [b2_t ⟨e, Or.inr ⟨h2, h3⟩⟩]
            rw [h2] at eT h1
            simp (disch := omega) only [↓reduceIte, Int.reduceEq, Int.reduceNe, Int.reduceLT, Int.reduceLE, Int.reduceNeg, Int.reduceMod, Int.reduceDiv, Int.reduceAdd, Int.reduceSub, Int.reduceMul, not_true_eq_false, not_false_eq_true, Int.lt_irrefl, true_or, or_true, false_or, or_false, true_and, and_true, false_and, and_false, b2_T, b2_F, if_true, if_false, ↓mjn_b, ↓mjn0_b, ↓mjn2_b, iv_lit, iv_add, iv_sub, iv_mul, iv_neg, iv_le_t, iv_le_f, iv_lt_t, iv_lt_f, iv_eq_t, iv_eq_f, iv_div, iv_mod, mretT_p, mretT_b, e_mret, ↓e_bret, ↓m_mon, ↓m_oI0, m_pI0, ↓m_oI3, m_pI3, ↓m_oI5, m_pI5, ↓m_oI7, m_pI7, ↓m_oI11, m_pI11, ↓m_oI12, m_pI12, ↓m_oI13, m_pI13, ↓m_oI14, m_pI14, ↓m_oI15, m_pI15, ↓m_oI16, m_pI16, ↓m_oI17, m_pI17, m_pZ5, m_pZ12, ↓m_oR1, m_aI1, m_sI1, ↓m_oR2, m_aI2, m_sI2, ↓m_oR4, m_aI4, m_sI4, ↓m_oR6, m_aI6, m_sI6, ↓m_oR8, m_aI8, m_sI8, ↓m_oR9, m_aI9, m_sI9, ↓m_oR10, m_aI10, m_sI10, fX2_placeOf_L51, ↓s_o5 ho, ↓s_o8 ho, ↓eg_i, ↓ec_i, ↓es_i, ↓eo, ↓eT]
          · rw [b2_f (fun q => q.2.elim h1 (fun w => h3 w.2))]
            rw [h2] at eT h1
            simp (disch := omega) only [↓reduceIte, Int.reduceEq, Int.reduceNe, Int.reduceLT, Int.reduceLE, Int.reduceNeg, Int.reduceMod, Int.reduceDiv, Int.reduceAdd, Int.reduceSub, Int.reduceMul, not_true_eq_false, not_false_eq_true, Int.lt_irrefl, true_or, or_true, false_or, or_false, true_and, and_true, false_and, and_false, b2_T, b2_F, if_true, if_false, ↓mjn_b, ↓mjn0_b, ↓mjn2_b, iv_lit, iv_add, iv_sub, iv_mul, iv_neg, iv_le_t, iv_le_f, iv_lt_t, iv_lt_f, iv_eq_t, iv_eq_f, iv_div, iv_mod, mretT_p, mretT_b, e_mret, ↓e_bret, ↓m_mon, ↓m_oI0, m_pI0, ↓m_oI3, m_pI3, ↓m_oI5, m_pI5, ↓m_oI7, m_pI7, ↓m_oI11, m_pI11, ↓m_oI12, m_pI12, ↓m_oI13, m_pI13, ↓m_oI14, m_pI14, ↓m_oI15, m_pI15, ↓m_oI16, m_pI16, ↓m_oI17, m_pI17, m_pZ5, m_pZ12, ↓m_oR1, m_aI1, m_sI1, ↓m_oR2, m_aI2, m_sI2, ↓m_oR4, m_aI4, m_sI4, ↓m_oR6, m_aI6, m_sI6, ↓m_oR8, m_aI8, m_sI8, ↓m_oR9, m_aI9, m_sI9, ↓m_oR10, m_aI10, m_sI10, fX2_placeOf_L51, ↓s_o5 ho, ↓s_o8 ho, ↓eg_i, ↓ec_i, ↓es_i, ↓eo, ↓eT]
        · rw [b2_f (fun q => q.2.elim h1 (fun w => h2 w.1))]
          simp (disch := omega) only [↓reduceIte, Int.reduceEq, Int.reduceNe, Int.reduceLT, Int.reduceLE, Int.reduceNeg, Int.reduceMod, Int.reduceDiv, Int.reduceAdd, Int.reduceSub, Int.reduceMul, not_true_eq_false, not_false_eq_true, Int.lt_irrefl, true_or, or_true, false_or, or_false, true_and, and_true, false_and, and_false, b2_T, b2_F, if_true, if_false, ↓mjn_b, ↓mjn0_b, ↓mjn2_b, iv_lit, iv_add, iv_sub, iv_mul, iv_neg, iv_le_t, iv_le_f, iv_lt_t, iv_lt_f, iv_eq_t, iv_eq_f, iv_div, iv_mod, mretT_p, mretT_b, e_mret, ↓e_bret, ↓m_mon, ↓m_oI0, m_pI0, ↓m_oI3, m_pI3, ↓m_oI5, m_pI5, ↓m_oI7, m_pI7, ↓m_oI11, m_pI11, ↓m_oI12, m_pI12, ↓m_oI13, m_pI13, ↓m_oI14, m_pI14, ↓m_oI15, m_pI15, ↓m_oI16, m_pI16, ↓m_oI17, m_pI17, m_pZ5, m_pZ12, ↓m_oR1, m_aI1, m_sI1, ↓m_oR2, m_aI2, m_sI2, ↓m_oR4, m_aI4, m_sI4, ↓m_oR6, m_aI6, m_sI6, ↓m_oR8, m_aI8, m_sI8, ↓m_oR9, m_aI9, m_sI9, ↓m_oR10, m_aI10, m_sI10, fX2_placeOf_L51, ↓s_o5 ho, ↓s_o8 ho, ↓eg_i, ↓ec_i, ↓es_i, ↓eo, ↓eT, Int.add_zero]
    · rw [b2_f e] at es_i
      rw [b2_f (fun q => e q.1)]
      simp (disch := omega) only [↓reduceIte, Int.reduceEq, Int.reduceNe, Int.reduceLT, Int.reduceLE, Int.reduceNeg, Int.reduceMod, Int.reduceDiv, Int.reduceAdd, Int.reduceSub, Int.reduceMul, not_true_eq_false, not_false_eq_true, Int.lt_irrefl, true_or, or_true, false_or, or_false, true_and, and_true, false_and, and_false, b2_T, b2_F, if_true, if_false, ↓mjn_b, ↓mjn0_b, ↓mjn2_b, iv_lit, iv_add, iv_sub, iv_mul, iv_neg, iv_le_t, iv_le_f, iv_lt_t, iv_lt_f, iv_eq_t, iv_eq_f, iv_div, iv_mod, mretT_p, mretT_b, e_mret, ↓e_bret, ↓m_mon, ↓m_oI0, m_pI0, ↓m_oI3, m_pI3, ↓m_oI5, m_pI5, ↓m_oI7, m_pI7, ↓m_oI11, m_pI11, ↓m_oI12, m_pI12, ↓m_oI13, m_pI13, ↓m_oI14, m_pI14, ↓m_oI15, m_pI15, ↓m_oI16, m_pI16, ↓m_oI17, m_pI17, m_pZ5, m_pZ12, ↓m_oR1, m_aI1, m_sI1, ↓m_oR2, m_aI2, m_sI2, ↓m_oR4, m_aI4, m_sI4, ↓m_oR6, m_aI6, m_sI6, ↓m_oR8, m_aI8, m_sI8, ↓m_oR9, m_aI9, m_sI9, ↓m_oR10, m_aI10, m_sI10, fX2_placeOf_L51, ↓s_o5 ho, ↓eg_i, ↓ec_i, ↓es_i, Int.add_zero]
theorem X2_placeOf_c {β : Type} {K : Int32 → HM β} {g : Nat → Nat} {h : Nat → Option hC} {n w a : Nat} {D : Nat → Nat} {tb gb : Int → Nat} {z : Int → Int} {x : Int} (hg : gD g) (hz : wZ z) (hs : ST g h a D tb gb z) (hx : 0 ≤ x ∧ x < z 60) : mb (mon 1 (some a) (mcall0 (fX2_placeOf g (some a) (iv x)))) K (h, n, w) = K (iv (@ite Int (sits z x) (Classical.propDecidable _) (ahd z x) (-1))) (h, n, w) := by
  have ho := hs.1.1
  unfold SO at ho
  have hx_gu := hs.2.1.2 x hx.1 hx.2
  obtain ⟨nm_x, hg_x, -⟩ := id hx_gu
  have eg_x := fun (K : Option Nat → HM Int32) => J2_get_c (K := K) (n := n) (w := 0) (i := x) hs.2.1.1 hx
  have ec_x := fun (K : Unit → HM Int32) => c_mcst (K := K) (n := n) (w := 0) (cs := [3]) hg_x (List.mem_cons_self ..)
  have es_x := fun (K : Int32 → HM Int32) => X8_sits_c (K := K) (g := g) (n := n) (w := 0) hz hx hx_gu
  have h60 := wZ_60 hz
  rw [c_mon ho]
  refine e_call0 (u' := 0) ?_
  unfold fX2_placeOf
  by_cases e : sits z x
  · rw [b2_t e] at es_x
    rw [if_pos e]
    have hcc := cgl_cin hz hx e
    have eo := fun (K : Int32 → HM Int32) => X2_cellOf_c (K := K) (n := n) (w := 0) hg hz hs.1 hs.2.1 hx e
    obtain ⟨T, hT, hT2⟩ := hs.2.2.2.2.1
    have eT := fun (K : Int32 → HM Int32) => c_aI (K := K) (n := n) (w := 0) (i := cgl z x) hT (by decide) hcc
    rw [hT2 _ hcc] at eT
    have e5 := X2_placeOf_L51_ev (n := n) (w := 0) hg hz hs hx e (z 60).toNat 5000 0 0 (by omega) (by omega) (by omega)
    unfold ahd
    rw [← e5]
    have ez := fun (K : Int32 → HM Int32) => J2_size_c (K := K) (n := n) (w := 0) hs.2.1.1
    simp (disch := omega) only [↓reduceIte, Int.reduceEq, Int.reduceNe, Int.reduceLT, Int.reduceLE, Int.reduceNeg, Int.reduceMod, Int.reduceDiv, Int.reduceAdd, Int.reduceSub, Int.reduceMul, not_true_eq_false, not_false_eq_true, Int.lt_irrefl, true_or, or_true, false_or, or_false, true_and, and_true, false_and, and_false, b2_T, b2_F, if_true, if_false, ↓mjn_b, ↓mjn0_b, ↓mjn2_b, iv_lit, iv_add, iv_sub, iv_mul, iv_neg, iv_le_t, iv_le_f, iv_lt_t, iv_lt_f, iv_eq_t, iv_eq_f, iv_div, iv_mod, mretT_p, mretT_b, e_mret, ↓e_bret, ↓m_mon, ↓m_oI0, m_pI0, ↓m_oI3, m_pI3, ↓m_oI5, m_pI5, ↓m_oI7, m_pI7, ↓m_oI11, m_pI11, ↓m_oI12, m_pI12, ↓m_oI13, m_pI13, ↓m_oI14, m_pI14, ↓m_oI15, m_pI15, ↓m_oI16, m_pI16, ↓m_oI17, m_pI17, m_pZ5, m_pZ12, ↓m_oR1, m_aI1, m_sI1, ↓m_oR2, m_aI2, m_sI2, ↓m_oR4, m_aI4, m_sI4, ↓m_oR6, m_aI6, m_sI6, ↓m_oR8, m_aI8, m_sI8, ↓m_oR9, m_aI9, m_sI9, ↓m_oR10, m_aI10, m_sI10, ↓s_o5 ho, ↓s_o8 ho, ↓eg_x, ↓ec_x, ↓es_x, ↓eo, ↓eT, ↓ez]
  · rw [b2_f e] at es_x
    rw [if_neg e]
    simp (disch := omega) only [↓reduceIte, Int.reduceEq, Int.reduceNe, Int.reduceLT, Int.reduceLE, Int.reduceNeg, Int.reduceMod, Int.reduceDiv, Int.reduceAdd, Int.reduceSub, Int.reduceMul, not_true_eq_false, not_false_eq_true, Int.lt_irrefl, true_or, or_true, false_or, or_false, true_and, and_true, false_and, and_false, b2_T, b2_F, if_true, if_false, ↓mjn_b, ↓mjn0_b, ↓mjn2_b, iv_lit, iv_add, iv_sub, iv_mul, iv_neg, iv_le_t, iv_le_f, iv_lt_t, iv_lt_f, iv_eq_t, iv_eq_f, iv_div, iv_mod, mretT_p, mretT_b, e_mret, ↓e_bret, ↓m_mon, ↓m_oI0, m_pI0, ↓m_oI3, m_pI3, ↓m_oI5, m_pI5, ↓m_oI7, m_pI7, ↓m_oI11, m_pI11, ↓m_oI12, m_pI12, ↓m_oI13, m_pI13, ↓m_oI14, m_pI14, ↓m_oI15, m_pI15, ↓m_oI16, m_pI16, ↓m_oI17, m_pI17, m_pZ5, m_pZ12, ↓m_oR1, m_aI1, m_sI1, ↓m_oR2, m_aI2, m_sI2, ↓m_oR4, m_aI4, m_sI4, ↓m_oR6, m_aI6, m_sI6, ↓m_oR8, m_aI8, m_sI8, ↓m_oR9, m_aI9, m_sI9, ↓m_oR10, m_aI10, m_sI10, ↓s_o5 ho, ↓eg_x, ↓ec_x, ↓es_x]
