/-! ===== names, and what a state is asked ===== -/
theorem chr_k : ∀ x : Fin 128, i2c (Int32.ofNat x.val &&& 255) = Int32.ofNat x.val ∧ vp_nar .char (Int32.ofNat x.val) = Int32.ofNat x.val := by decide +kernel
theorem chr_v {x : Int} (h : 0 ≤ x ∧ x < 128) : i2c (iv x &&& 255) = iv x ∧ mretT .char (iv x) = mret (iv x) := by
  have k := chr_k ⟨x.toNat, by omega⟩
  rw [← iv_nat h.1] at k
  refine ⟨k.1, ?_⟩
  unfold mretT
  rw [if_pos k.2]
theorem shr_0 {x : Int} (h : 0 ≤ x ∧ x < 2147483648) : ishr (iv x) (iv 0) = iv x := by
  rw [iv_shr h (by omega)]
  exact congrArg iv (Int.ediv_one x)
theorem byte_0 : mretT .byte (0 : Int32) = mret 0 := by
  have e : vp_nar .byte (0 : Int32) = 0 := by decide +kernel
  unfold mretT
  rw [if_pos e]
theorem n_o0 {β : Type} {K : Option Nat → HM β} {h : Nat → Option hC} {n w a v : Nat} {x y u : Int32} (ha : h a = some (.inr (16, [.ref v, .int x, .int y, .int u]))) : mb (oR 16 0 (some a)) K (h, n, w) = K (some v) (h, n, w) := c_oR ha rfl
theorem n_o1 {β : Type} {K : Int32 → HM β} {h : Nat → Option hC} {n w a v : Nat} {x y u : Int32} (ha : h a = some (.inr (16, [.ref v, .int x, .int y, .int u]))) : mb (oI 16 1 (some a)) K (h, n, w) = K x (h, n, w) := c_oI ha rfl
theorem J13_length_c {β : Type} {K : Int32 → HM β} {g : Nat → Nat} {h : Nat → Option hC} {n w nm : Nat} {len : Int} {F : Int → Int} (hs : STR h nm len F) : mb (mon 16 (some nm) (mcall0 (fJ13_length g (some nm)))) K (h, n, w) = K (iv len) (h, n, w) := by
  obtain ⟨val, hh, hz, G, h1, h2, h3, h4⟩ := hs
  have e1 : fJ13_coder g (some nm) (h, n, 0) = some (0, (h, n, 0)) := by
    unfold fJ13_coder
    rw [if_neg (by decide), n_o1 h1, byte_0]
    rfl
  have el : ((len.toNat : Nat) : Int) = len := by omega
  rw [c_mon h1]
  refine e_call0 (u' := 0) ?_
  unfold fJ13_length
  rw [n_o0 h1, c_aN h2, c_mon h1, e_call0 e1, el]
  show (mret (ishr (iv len) (iv 0))) _ = _
  rw [shr_0 (by omega)]
  rfl
theorem J13_charAt_c {β : Type} {K : Int32 → HM β} {g : Nat → Nat} {h : Nat → Option hC} {n w nm : Nat} {len k : Int} {F : Int → Int} (hs : STR h nm len F) (hk : 0 ≤ k ∧ k < len) (hF : 0 ≤ F k ∧ F k < 128) : mb (mon 16 (some nm) (mcall0 (fJ13_charAt g (some nm) (iv k)))) K (h, n, w) = K (iv (F k)) (h, n, w) := by
  obtain ⟨val, hh, hz, G, h1, h2, h3, h4⟩ := hs
  have e1 : fJ13_isLatin1 g (some nm) (h, n, 0) = some (1, (h, n, 0)) := by
    unfold fJ13_isLatin1
    rw [if_neg (by decide), n_o1 h1, if_pos rfl]
    exact congrFun (mretT_b (a := 1) (Or.inr rfl)) _
  have el : ((len.toNat : Nat) : Int) = len := by omega
  have e8 : fJ8_checkIndex g (iv k) (iv len) (some (g 1)) (h, n, 0) = some (iv k, (h, n, 0)) := by
    unfold fJ8_checkIndex
    simp (disch := omega) only [↓mjn0_b, iv_lit, iv_lt_t, iv_lt_f, if_true, if_false, e_mret]
  have e13 : fJ13_checkIndex g (iv k) (iv len) (h, n, 0) = some ((), (h, n, 0)) := by
    unfold fJ13_checkIndex
    rw [e_call0 e8]
    rfl
  have e19 : fJ19_charAt g (some val) (iv k) (h, n, 0) = some (iv (F k), (h, n, 0)) := by
    unfold fJ19_charAt
    rw [c_aN h2, el, e_call0 e13, c_aI h2 (by omega) (by omega), h4 k hk.1 hk.2, (chr_v hF).1, (chr_v hF).2]
    rfl
  rw [c_mon h1]
  refine e_call0 (u' := 0) ?_
  unfold fJ13_charAt
  rw [c_mon h1, e_call0 e1, if_neg (by decide), n_o0 h1, e_call0 e19, (chr_v hF).2]
  rfl
theorem X8_width_c {β : Type} {K : Int32 → HM β} {g : Nat → Nat} {h : Nat → Option hC} {n w : Nat} {c : Int} (hc : 0 ≤ c ∧ c < 128) : mb (mcall0 (fX8_width g (iv c))) K (h, n, w) = K (iv (wd c)) (h, n, w) := by
  refine e_call0 (u' := 0) ?_
  unfold fX8_width wd
  by_cases a1 : c = 32
  · subst a1; rfl
  by_cases a2 : c = 102
  · subst a2; rfl
  by_cases a3 : c = 105
  · subst a3; rfl
  by_cases a4 : c = 106
  · subst a4; rfl
  by_cases a5 : c = 108
  · subst a5; rfl
  by_cases a6 : c = 109
  · subst a6; rfl
  by_cases a7 : c = 114
  · subst a7; rfl
  by_cases a8 : c = 116
  · subst a8; rfl
  by_cases a9 : c = 119
  · subst a9; rfl
  rw [if_neg (show ¬ (c = 105 ∨ c = 106 ∨ c = 108 ∨ c = 32) by omega), if_neg (show ¬ (c = 102 ∨ c = 114 ∨ c = 116) by omega), if_neg (show ¬ (c = 109 ∨ c = 119) by omega)]
  simp (disch := omega) only [↓reduceIte, Int.reduceEq, Int.reduceNe, Int.reduceLT, Int.reduceLE, Int.reduceNeg, Int.reduceMod, Int.reduceDiv, Int.reduceAdd, Int.reduceSub, Int.reduceMul, not_true_eq_false, not_false_eq_true, Int.lt_irrefl, true_or, or_true, false_or, or_false, true_and, and_true, false_and, and_false, b2_T, b2_F, if_true, if_false, ↓mjn_b, ↓mjn0_b, ↓mjn2_b, iv_lit, iv_add, iv_sub, iv_mul, iv_neg, iv_le_t, iv_le_f, iv_lt_t, iv_lt_f, iv_eq_t, iv_eq_f, iv_div, iv_mod, mretT_p, mretT_b, e_mret, ↓e_bret, ↓m_mon, ↓m_oI0, m_pI0, ↓m_oI3, m_pI3, ↓m_oI5, m_pI5, ↓m_oI7, m_pI7, ↓m_oI11, m_pI11, ↓m_oI12, m_pI12, ↓m_oI13, m_pI13, ↓m_oI14, m_pI14, ↓m_oI15, m_pI15, ↓m_oI16, m_pI16, ↓m_oI17, m_pI17, m_pZ5, m_pZ12, ↓m_oR1, m_aI1, m_sI1, ↓m_oR2, m_aI2, m_sI2, ↓m_oR4, m_aI4, m_sI4, ↓m_oR6, m_aI6, m_sI6, ↓m_oR8, m_aI8, m_sI8, ↓m_oR9, m_aI9, m_sI9, ↓m_oR10, m_aI10, m_sI10]
theorem X8_nameWidth_L12_ev {g : Nat → Nat} {h : Nat → Option hC} {n w : Nat} {z : Int → Int} {i : Int} {gu nm : Nat} (hz : wZ z) (hi : 0 ≤ i ∧ i < z 60) (ha : h gu = some (.inr (3, [.int (iv i), .ref nm, .int (iv (gh z i)), .int (iv (ga z i)), .int (iv (gc z i))]))) (hs : STR h nm (gl z i) (gn z i)) : ∀ (k nn : Nat) (s j : Int), k < nn → 0 ≤ j → j + k = gl z i → fX8_nameWidth_L12 g nn (some gu) (iv s) (iv (gl z i)) (iv j) (h, n, w) = some (iv (foldI (fun a k => a + wd (gn z i k)) s j k), (h, n, w)) := by
  have hgr := (wZ_graw hz hi).2.2.2
  have hgl : 1 ≤ gl z i ∧ gl z i ≤ 14 := hgr
  intro k
  induction k with
  | zero =>
    intro nn s j hn hj he
    obtain ⟨q, rfl⟩ : ∃ q, nn = q + 1 := ⟨nn - 1, by omega⟩
    show _ = some (iv s, (h, n, w))
    simp (disch := omega) only [↓reduceIte, Int.reduceEq, Int.reduceNe, Int.reduceLT, Int.reduceLE, Int.reduceNeg, Int.reduceMod, Int.reduceDiv, Int.reduceAdd, Int.reduceSub, Int.reduceMul, not_true_eq_false, not_false_eq_true, Int.lt_irrefl, true_or, or_true, false_or, or_false, true_and, and_true, false_and, and_false, b2_T, b2_F, if_true, if_false, ↓mjn_b, ↓mjn0_b, ↓mjn2_b, iv_lit, iv_add, iv_sub, iv_mul, iv_neg, iv_le_t, iv_le_f, iv_lt_t, iv_lt_f, iv_eq_t, iv_eq_f, iv_div, iv_mod, mretT_p, mretT_b, e_mret, ↓e_bret, ↓m_mon, ↓m_oI0, m_pI0, ↓m_oI3, m_pI3, ↓m_oI5, m_pI5, ↓m_oI7, m_pI7, ↓m_oI11, m_pI11, ↓m_oI12, m_pI12, ↓m_oI13, m_pI13, ↓m_oI14, m_pI14, ↓m_oI15, m_pI15, ↓m_oI16, m_pI16, ↓m_oI17, m_pI17, m_pZ5, m_pZ12, ↓m_oR1, m_aI1, m_sI1, ↓m_oR2, m_aI2, m_sI2, ↓m_oR4, m_aI4, m_sI4, ↓m_oR6, m_aI6, m_sI6, ↓m_oR8, m_aI8, m_sI8, ↓m_oR9, m_aI9, m_sI9, ↓m_oR10, m_aI10, m_sI10, fX8_nameWidth_L12]
  | succ k ih =>
    intro nn s j hn hj he
    obtain ⟨q, rfl⟩ : ∃ q, nn = q + 1 := ⟨nn - 1, by omega⟩
    have hr := wG_chr (wZ_g hz hi) (k := j) ⟨hj, by omega⟩
    have ec := fun (K : Int32 → HM Int32) => J13_charAt_c (g := g) (K := K) (n := n) (w := w) hs (k := j) ⟨hj, by omega⟩ (by omega)
    have ew := fun (K : Int32 → HM Int32) => X8_width_c (g := g) (h := h) (n := n) (w := w) (K := K) (c := gn z i j) (by omega)
    show _ = some (iv (foldI (fun a k => a + wd (gn z i k)) (s + wd (gn z i j)) (j + 1) k), (h, n, w))
    rw [← ih q _ (j + 1) (by omega) (by omega) (by omega)]
    simp (disch := omega) only [↓reduceIte, Int.reduceEq, Int.reduceNe, Int.reduceLT, Int.reduceLE, Int.reduceNeg, Int.reduceMod, Int.reduceDiv, Int.reduceAdd, Int.reduceSub, Int.reduceMul, not_true_eq_false, not_false_eq_true, Int.lt_irrefl, true_or, or_true, false_or, or_false, true_and, and_true, false_and, and_false, b2_T, b2_F, if_true, if_false, ↓mjn_b, ↓mjn0_b, ↓mjn2_b, iv_lit, iv_add, iv_sub, iv_mul, iv_neg, iv_le_t, iv_le_f, iv_lt_t, iv_lt_f, iv_eq_t, iv_eq_f, iv_div, iv_mod, mretT_p, mretT_b, e_mret, ↓e_bret, ↓m_mon, ↓m_oI0, m_pI0, ↓m_oI3, m_pI3, ↓m_oI5, m_pI5, ↓m_oI7, m_pI7, ↓m_oI11, m_pI11, ↓m_oI12, m_pI12, ↓m_oI13, m_pI13, ↓m_oI14, m_pI14, ↓m_oI15, m_pI15, ↓m_oI16, m_pI16, ↓m_oI17, m_pI17, m_pZ5, m_pZ12, ↓m_oR1, m_aI1, m_sI1, ↓m_oR2, m_aI2, m_sI2, ↓m_oR4, m_aI4, m_sI4, ↓m_oR6, m_aI6, m_sI6, ↓m_oR8, m_aI8, m_sI8, ↓m_oR9, m_aI9, m_sI9, ↓m_oR10, m_aI10, m_sI10, fX8_nameWidth_L12, ↓g_o1 ha, ↓ec, ↓ew]
theorem X8_nameWidth_c {β : Type} {K : Int32 → HM β} {g : Nat → Nat} {h : Nat → Option hC} {n w : Nat} {z : Int → Int} {i : Int} {gu : Nat} (hz : wZ z) (hi : 0 ≤ i ∧ i < z 60) (hu : GU h gu z i) : mb (mon 3 (some gu) (mcall0 (fX8_nameWidth g (some gu)))) K (h, n, w) = K (iv (wid z i)) (h, n, w) := by
  obtain ⟨nm, ha, hs⟩ := hu
  have hgr := (wZ_graw hz hi).2.2.2
  have hgl : 1 ≤ gl z i ∧ gl z i ≤ 14 := hgr
  rw [c_mon ha]
  refine e_call0 (u' := 0) ?_
  have e := X8_nameWidth_L12_ev (g := g) (n := n) (w := 0) hz hi ha hs (gl z i).toNat 5000 0 0 (by omega) (by omega) (by omega)
  unfold fX8_nameWidth wid
  rw [← e, g_o1 ha, J13_length_c hs]
  simp only [iv_lit]
