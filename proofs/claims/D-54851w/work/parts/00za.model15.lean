/-! ===== a new guest ===== -/
def zgst (z : Int → Int) (h l : Int) (T : Int → Int) : Int → Int := fun i => if i = 60 then z 60 + 1 else if i = 601 + z 60 then 0
  else if 61 + 18 * z 60 ≤ i ∧ i < 61 + 18 * z 60 + 18 then (if i = 61 + 18 * z 60 then h else if i = 61 + 18 * z 60 + 3 then l else if i < 61 + 18 * z 60 + 3 then -1 else if i - (61 + 18 * z 60 + 4) < l then T (i - (61 + 18 * z 60 + 4)) else 0) else z i
theorem zgst_60 {z : Int → Int} {h l : Int} {T : Int → Int} : zgst z h l T 60 = z 60 + 1 := if_pos rfl
theorem zgst_p {z : Int → Int} {h l : Int} {T : Int → Int} (h60 : 0 ≤ z 60) : zgst z h l T (601 + z 60) = 0 := by
  unfold zgst; rw [if_neg (by omega), if_pos rfl]
theorem zgst_o {z : Int → Int} {h l : Int} {T : Int → Int} {i : Int} (h1 : i ≠ 60) (h2 : i ≠ 601 + z 60) (h3 : i < 61 + 18 * z 60 ∨ 61 + 18 * z 60 + 18 ≤ i) : zgst z h l T i = z i := by
  unfold zgst; rw [if_neg h1, if_neg h2, if_neg (by omega)]
theorem zgst_n {z : Int → Int} {h l : Int} {T : Int → Int} (h60 : 0 ≤ z 60 ∧ z 60 < 30) : gh (zgst z h l T) (z 60) = h ∧ ga (zgst z h l T) (z 60) = -1 ∧ gc (zgst z h l T) (z 60) = -1 ∧ gl (zgst z h l T) (z 60) = l ∧ ∀ k, 0 ≤ k → k < 14 → gn (zgst z h l T) (z 60) k = if k < l then T k else 0 := by
  unfold gh ga gc gl gn zgst
  refine ⟨?_, ?_, ?_, ?_, fun k a b => ?_⟩
  · rw [if_neg (by omega), if_neg (by omega), if_pos (by omega), if_pos (by omega)]
  · rw [if_neg (by omega), if_neg (by omega), if_pos (by omega), if_neg (by omega), if_neg (by omega), if_pos (by omega)]
  · rw [if_neg (by omega), if_neg (by omega), if_pos (by omega), if_neg (by omega), if_neg (by omega), if_pos (by omega)]
  · rw [if_neg (by omega), if_neg (by omega), if_pos (by omega), if_neg (by omega), if_pos (by omega)]
  · rw [if_neg (by omega), if_neg (by omega), if_pos (by omega), if_neg (by omega), if_neg (by omega), if_neg (by omega)]
    rw [show 61 + 18 * z 60 + (4 + k) - (61 + 18 * z 60 + 4) = k by omega]
theorem zgst_og {z : Int → Int} {h l : Int} {T : Int → Int} {g : Int} (h60 : 0 ≤ z 60 ∧ z 60 < 30) (hg : 0 ≤ g ∧ g < z 60) : gh (zgst z h l T) g = gh z g ∧ ga (zgst z h l T) g = ga z g ∧ gc (zgst z h l T) g = gc z g ∧ gl (zgst z h l T) g = gl z g ∧ ∀ k, 0 ≤ k → k < 14 → gn (zgst z h l T) g k = gn z g k := by
  unfold gh ga gc gl gn
  exact ⟨zgst_o (by omega) (by omega) (by omega), zgst_o (by omega) (by omega) (by omega), zgst_o (by omega) (by omega) (by omega), zgst_o (by omega) (by omega) (by omega), fun k a b => zgst_o (by omega) (by omega) (by omega)⟩
theorem wZ_gst {z : Int → Int} (hz : wZ z) {h l : Int} {T : Int → Int} (hg : z 60 < 30) (hh : 1 ≤ h ∧ h ≤ 9) (hn : isn T l) : wZ (zgst z h l T) := by
  have h60 := wZ_60 hz
  have h15 := wZ_15 hz
  have elo : ∀ i, i < 60 → zgst z h l T i = z i := fun i hi => zgst_o (by omega) (by omega) (by omega)
  refine wZ_gsts hz elo (by rw [zgst_60]; omega) (fun x a b => ?_) (fun x y a b d hs => ?_) (fun x a b => ?_)
  · rw [zgst_60] at b
    by_cases e : x = z 60
    · subst e
      obtain ⟨e1, e2, e3, e4, e5⟩ := zgst_n (z := z) (h := h) (l := l) (T := T) ⟨h60.1, hg⟩
      obtain ⟨n1, n2, n3, n4⟩ := hn
      unfold wG
      rw [e1, e2, e3, e4]
      refine ⟨hh, Or.inl ⟨rfl, rfl⟩, n1, fun k u v => ?_, fun k u v => ?_⟩
      · rw [e5 k u (by omega), if_pos v]
        unfold ltr at n2
        by_cases q : k = 0
        · rw [q]; exact Or.inr n2
        · rcases n4 k (by omega) v with q2 | q2
          · exact Or.inr q2
          · exact Or.inl q2.1
      · rw [e5 k (by omega) v, if_neg (by omega)]
    · obtain ⟨e1, e2, e3, e4, e5⟩ := zgst_og (z := z) (h := h) (l := l) (T := T) (g := x) ⟨h60.1, hg⟩ ⟨a, by omega⟩
      refine wG_congr (wZ_g hz ⟨a, by omega⟩) e1 e4 e5 ?_
      rw [e2, e3]
      rcases (wZ_g hz ⟨a, show x < z 60 by omega⟩).2.1 with q | q
      · exact Or.inl q
      · right
        rw [elo 15 (by omega), show zk (zgst z h l T) (ga z x) = zk z (ga z x) by unfold zk; exact elo _ (by omega)]
        exact q
  · rw [zgst_60] at d
    obtain ⟨-, e2, e3, -⟩ := zgst_og (z := z) (h := h) (l := l) (T := T) (g := x) ⟨h60.1, hg⟩ ⟨a, by omega⟩
    unfold sits at hs
    rw [e2] at hs
    rw [e2, e3]
    by_cases e : y = z 60
    · subst e
      obtain ⟨-, f2, f3, -⟩ := zgst_n (z := z) (h := h) (l := l) (T := T) ⟨h60.1, hg⟩
      rw [f2]
      exact fun q => absurd q hs
    · obtain ⟨-, f2, f3, -⟩ := zgst_og (z := z) (h := h) (l := l) (T := T) (g := y) ⟨h60.1, hg⟩ ⟨by omega, by omega⟩
      rw [f2, f3]
      exact hz.2.2.2.2.1 x y a b (by omega) hs
  · rw [zgst_60] at b ⊢
    by_cases e : x = z 60
    · subst e
      rw [zgst_p h60.1]
      refine ⟨by omega, fun y u v w => ?_⟩
      unfold bit at w
      rw [Int.zero_ediv] at w
      omega
    · rw [zgst_o (by omega) (by omega) (by omega)]
      obtain ⟨q1, q2⟩ := hz.2.2.2.2.2.1 x a (by omega)
      refine ⟨q1, fun y u v w => ?_⟩
      obtain ⟨r1, r2, r3⟩ := q2 y u v w
      refine ⟨by omega, r2, ?_⟩
      rw [zgst_o (by omega) (by omega) (by omega)]
      exact r3
theorem X7_addGuest_L96_ev {g : Nat → Nat} {h : Nat → Option hC} {n w m : Nat} {K : HM Int32} {x l : Int} (hx : 0 ≤ x ∧ x < 30) (hl : 0 ≤ l ∧ l ≤ 14) : ∀ (k nn : Nat) (M : Mm) (i : Int), k < nn → 0 ≤ i → i + k = 14 → M 0 7 = l → fX7_addGuest_L96 g nn (some m) (iv x) (iv i) K (md m M h, n, w) = K (md m (cpy M 1 (61 + 18 * x + (4 + i)) (61 + 18 * x + 18) (fun j => if j - (61 + 18 * x + 4) < l then M 6 (j - (61 + 18 * x + 4)) else 0)) h, n, w) := by
  intro k
  induction k with
  | zero =>
    intro nn M i hn hi he hM
    obtain ⟨q, rfl⟩ : ∃ q, nn = q + 1 := ⟨nn - 1, by omega⟩
    rw [cpy_nil (by omega)]
    simp (disch := omega) only [↓reduceIte, Int.reduceEq, Int.reduceNe, Int.reduceLT, Int.reduceLE, Int.reduceNeg, Int.reduceMod, Int.reduceDiv, Int.reduceAdd, Int.reduceSub, Int.reduceMul, not_true_eq_false, not_false_eq_true, Int.lt_irrefl, true_or, or_true, false_or, or_false, true_and, and_true, false_and, and_false, b2_T, b2_F, if_true, if_false, ↓mjn_b, ↓mjn0_b, ↓mjn2_b, iv_lit, iv_add, iv_sub, iv_mul, iv_neg, iv_le_t, iv_le_f, iv_lt_t, iv_lt_f, iv_eq_t, iv_eq_f, iv_div, iv_mod, mretT_p, mretT_b, e_mret, ↓e_bret, ↓m_mon, ↓m_oI0, m_pI0, ↓m_oI3, m_pI3, ↓m_oI5, m_pI5, ↓m_oI7, m_pI7, ↓m_oI11, m_pI11, ↓m_oI12, m_pI12, ↓m_oI13, m_pI13, ↓m_oI14, m_pI14, ↓m_oI15, m_pI15, ↓m_oI16, m_pI16, ↓m_oI17, m_pI17, m_pZ5, m_pZ12, ↓m_oR1, m_aI1, m_sI1, ↓m_oR2, m_aI2, m_sI2, ↓m_oR4, m_aI4, m_sI4, ↓m_oR6, m_aI6, m_sI6, ↓m_oR8, m_aI8, m_sI8, ↓m_oR9, m_aI9, m_sI9, ↓m_oR10, m_aI10, m_sI10, fX7_addGuest_L96]
  | succ k ih =>
    intro nn M i hn hi he hM
    obtain ⟨q, rfl⟩ : ∃ q, nn = q + 1 := ⟨nn - 1, by omega⟩
    have hstep : cpy (mu M 1 (61 + 18 * x + (4 + i)) (if i < l then M 6 i else 0)) 1 (61 + 18 * x + (4 + (i + 1))) (61 + 18 * x + 18) (fun j => if j - (61 + 18 * x + 4) < l then (mu M 1 (61 + 18 * x + (4 + i)) (if i < l then M 6 i else 0)) 6 (j - (61 + 18 * x + 4)) else 0) = cpy M 1 (61 + 18 * x + (4 + i)) (61 + 18 * x + 18) (fun j => if j - (61 + 18 * x + 4) < l then M 6 (j - (61 + 18 * x + 4)) else 0) := by
      refine cpy_cons (by omega) (by omega) ?_ (fun j a b => by rw [mu_nb (by decide)])
      rw [show 61 + 18 * x + (4 + i) - (61 + 18 * x + 4) = i by omega]
    rw [← hstep, ← ih q (mu M 1 (61 + 18 * x + (4 + i)) (if i < l then M 6 i else 0)) (i + 1) (by omega) (by omega) (by omega) (by rw [mu_nb (by decide)]; exact hM)]
    by_cases h1 : i < l
    · simp (disch := omega) only [↓reduceIte, Int.reduceEq, Int.reduceNe, Int.reduceLT, Int.reduceLE, Int.reduceNeg, Int.reduceMod, Int.reduceDiv, Int.reduceAdd, Int.reduceSub, Int.reduceMul, not_true_eq_false, not_false_eq_true, Int.lt_irrefl, true_or, or_true, false_or, or_false, true_and, and_true, false_and, and_false, b2_T, b2_F, if_true, if_false, ↓mjn_b, ↓mjn0_b, ↓mjn2_b, iv_lit, iv_add, iv_sub, iv_mul, iv_neg, iv_le_t, iv_le_f, iv_lt_t, iv_lt_f, iv_eq_t, iv_eq_f, iv_div, iv_mod, mretT_p, mretT_b, e_mret, ↓e_bret, ↓m_mon, ↓m_oI0, m_pI0, ↓m_oI3, m_pI3, ↓m_oI5, m_pI5, ↓m_oI7, m_pI7, ↓m_oI11, m_pI11, ↓m_oI12, m_pI12, ↓m_oI13, m_pI13, ↓m_oI14, m_pI14, ↓m_oI15, m_pI15, ↓m_oI16, m_pI16, ↓m_oI17, m_pI17, m_pZ5, m_pZ12, ↓m_oR1, m_aI1, m_sI1, ↓m_oR2, m_aI2, m_sI2, ↓m_oR4, m_aI4, m_sI4, ↓m_oR6, m_aI6, m_sI6, ↓m_oR8, m_aI8, m_sI8, ↓m_oR9, m_aI9, m_sI9, ↓m_oR10, m_aI10, m_sI10, fX7_addGuest_L96, hM, h1, X7_setGuest_c]
    · simp (disch := omega) only [↓reduceIte, Int.reduceEq, Int.reduceNe, Int.reduceLT, Int.reduceLE, Int.reduceNeg, Int.reduceMod, Int.reduceDiv, Int.reduceAdd, Int.reduceSub, Int.reduceMul, not_true_eq_false, not_false_eq_true, Int.lt_irrefl, true_or, or_true, false_or, or_false, true_and, and_true, false_and, and_false, b2_T, b2_F, if_true, if_false, ↓mjn_b, ↓mjn0_b, ↓mjn2_b, iv_lit, iv_add, iv_sub, iv_mul, iv_neg, iv_le_t, iv_le_f, iv_lt_t, iv_lt_f, iv_eq_t, iv_eq_f, iv_div, iv_mod, mretT_p, mretT_b, e_mret, ↓e_bret, ↓m_mon, ↓m_oI0, m_pI0, ↓m_oI3, m_pI3, ↓m_oI5, m_pI5, ↓m_oI7, m_pI7, ↓m_oI11, m_pI11, ↓m_oI12, m_pI12, ↓m_oI13, m_pI13, ↓m_oI14, m_pI14, ↓m_oI15, m_pI15, ↓m_oI16, m_pI16, ↓m_oI17, m_pI17, m_pZ5, m_pZ12, ↓m_oR1, m_aI1, m_sI1, ↓m_oR2, m_aI2, m_sI2, ↓m_oR4, m_aI4, m_sI4, ↓m_oR6, m_aI6, m_sI6, ↓m_oR8, m_aI8, m_sI8, ↓m_oR9, m_aI9, m_sI9, ↓m_oR10, m_aI10, m_sI10, fX7_addGuest_L96, hM, h1, X7_setGuest_c]
/-! ===== parsing ===== -/
noncomputable def pL (T : Int → Int) (l : Int) : Nat → Int × Int → Int × Int
  | 0, s => s
  | k + 1, s => if s.2 = 0 ∧ s.1 < l then (if (pT T l 59 s).2 = 0 then pL T l k (pO T l (pT T l 59 s).1).1 else pL T l k (pT T l 59 s)) else s
noncomputable def pP (T : Int → Int) (l : Int) : Int × Int := pL T l 61 (pO T l 0).1
theorem pT_go {T : Int → Int} {l c : Int} {s : Int × Int} (h : (pT T l c s).2 = 0) : (pT T l c s).1 = s.1 + 1 ∧ s.2 = 0 ∧ pH T l s.1 = c := by
  unfold pT at h ⊢
  by_cases q : s.2 = 0 ∧ pH T l s.1 = c
  · rw [if_pos q]; exact ⟨rfl, q⟩
  · rw [if_neg q] at h; simp at h
theorem pN_go {T : Int → Int} {l H : Int} {s : Int × Int} : s.1 ≤ (pN T l H s).1.1 := by
  unfold pN
  split
  · split
    · simp only; omega
    · split
      · simp only; omega
      · simp only; omega
  · exact Int.le_refl _
theorem pT_le {T : Int → Int} {l c : Int} {s : Int × Int} : s.1 ≤ (pT T l c s).1 := by
  unfold pT
  split
  · simp only; omega
  · exact Int.le_refl _
theorem pTN_le {T : Int → Int} {l c H : Int} {s : Int × Int} : s.1 ≤ (pTN T l c H s).1.1 := Int.le_trans pT_le pN_go
theorem pO_le {T : Int → Int} {l a : Int} : a ≤ (pO T l a).1.1 := by
  have h0 : a ≤ (pS0 T l a).1 := by
    unfold pS0
    split
    · simp only; omega
    · exact Int.le_refl _
  have h1 := Int.le_trans h0 (pN_go (T := T) (l := l) (H := pHi (pH T l a)) (s := pS0 T l a))
  unfold pO
  simp only
  split
  · exact Int.le_trans h1 (Int.le_trans pTN_le (Int.le_trans pTN_le pTN_le))
  · split
    · exact Int.le_trans h1 (Int.le_trans pTN_le pTN_le)
    · split
      · exact Int.le_trans h1 pTN_le
      · split
        · exact Int.le_trans h1 pTN_le
        · split
          · exact Int.le_trans h1 (Int.le_trans pTN_le pTN_le)
          · split
            · exact Int.le_trans h1 pTN_le
            · exact h1
theorem pL_ok {T : Int → Int} {l : Int} : ∀ (k : Nat) (s : Int × Int), sok l s → sok l (pL T l k s) := by
  intro k
  induction k with
  | zero => intro s hs; exact hs
  | succ k ih =>
    intro s hs
    unfold pL
    split
    · have h1 := pT_ok (T := T) (c := 59) hs (by decide)
      split
      · exact ih _ (pO_ok h1.1)
      · exact ih _ h1
    · exact hs
/-- a memory that differs in the parser's numbers alone -/
def psm (M M' : Mm) : Prop := (∀ b, b ≠ 0 → M' b = M b) ∧ ∀ j, j < 11 → M' 0 j = M 0 j
theorem psm_rf {M : Mm} : psm M M := ⟨fun _ _ => rfl, fun _ _ => rfl⟩
theorem psm_tr {M M' M'' : Mm} (h : psm M M') (h2 : psm M' M'') : psm M M'' := ⟨fun b q => (h2.1 b q).trans (h.1 b q), fun j q => (h2.2 j q).trans (h.2 j q)⟩
theorem X7_parse_L14_ev {g : Nat → Nat} {h : Nat → Option hC} {n m : Nat} : ∀ (k nn : Nat) (M : Mm) (s : Int × Int), k < nn → txt (M 6) (M 0 7) → sok (M 0 7) s → (s.2 = 1 ∨ M 0 7 - s.1 < k) → ∃ M2 : Mm, fX7_parse_L14 g nn (some m) (md m (mst M s) h, n, 0) = some ((), (md m (mst M2 (pL (M 6) (M 0 7) k s)) h, n, 0)) ∧ psm M M2 := by
  intro k
  induction k with
  | zero =>
    intro nn M s hn ht hs hk
    obtain ⟨q, rfl⟩ : ∃ q, nn = q + 1 := ⟨nn - 1, by omega⟩
    have h1 := hs.1
    have h2 : s.2 = 1 := by omega
    refine ⟨M, ?_, psm_rf⟩
    unfold pL
    simp (disch := omega) only [↓reduceIte, Int.reduceEq, Int.reduceNe, Int.reduceLT, Int.reduceLE, Int.reduceNeg, Int.reduceMod, Int.reduceDiv, Int.reduceAdd, Int.reduceSub, Int.reduceMul, not_true_eq_false, not_false_eq_true, Int.lt_irrefl, true_or, or_true, false_or, or_false, true_and, and_true, false_and, and_false, b2_T, b2_F, if_true, if_false, ↓mjn_b, ↓mjn0_b, ↓mjn2_b, iv_lit, iv_add, iv_sub, iv_mul, iv_neg, iv_le_t, iv_le_f, iv_lt_t, iv_lt_f, iv_eq_t, iv_eq_f, iv_div, iv_mod, mretT_p, mretT_b, e_mret, ↓e_bret, ↓m_mon, ↓m_oI0, m_pI0, ↓m_oI3, m_pI3, ↓m_oI5, m_pI5, ↓m_oI7, m_pI7, ↓m_oI11, m_pI11, ↓m_oI12, m_pI12, ↓m_oI13, m_pI13, ↓m_oI14, m_pI14, ↓m_oI15, m_pI15, ↓m_oI16, m_pI16, ↓m_oI17, m_pI17, m_pZ5, m_pZ12, ↓m_oR1, m_aI1, m_sI1, ↓m_oR2, m_aI2, m_sI2, ↓m_oR4, m_aI4, m_sI4, ↓m_oR6, m_aI6, m_sI6, ↓m_oR8, m_aI8, m_sI8, ↓m_oR9, m_aI9, m_sI9, ↓m_oR10, m_aI10, m_sI10, fX7_parse_L14, h2, mst_12]
  | succ k ih =>
    intro nn M s hn ht hs hk
    obtain ⟨q, rfl⟩ : ∃ q, nn = q + 1 := ⟨nn - 1, by omega⟩
    have h1 := hs.1
    have h3 := ht.1
    unfold pL
    by_cases h0 : s.2 = 0
    · by_cases hl : s.1 < M 0 7
      · rw [if_pos ⟨h0, hl⟩]
        have hok := pT_ok (T := M 6) (c := 59) hs (by decide)
        have e1 := X7_take_ev (g := g) (h := h) (n := n) (w := 0) (m := m) (c := 59) ht hs (by omega)
        by_cases h5 : (pT (M 6) (M 0 7) 59 s).2 = 0
        · rw [if_pos h5]
          obtain ⟨p1, -, -⟩ := pT_go h5
          obtain ⟨M1, f1, f2, f3, -⟩ := X7_order_ev (g := g) (h := h) (n := n) (w := 0) (m := m) (M := M) (a := (pT (M 6) (M 0 7) 59 s).1) (b := (pT (M 6) (M 0 7) 59 s).2) ht hok
          have g7 : M1 0 7 = M 0 7 := f3 7 (by omega)
          have g6 : M1 6 = M 6 := f2 6 (by decide)
          have hle := pO_le (T := M 6) (l := M 0 7) (a := (pT (M 6) (M 0 7) 59 s).1)
          obtain ⟨M2, k1, k2⟩ := ih q M1 (pO (M 6) (M 0 7) (pT (M 6) (M 0 7) 59 s).1).1 (by omega) (by rw [g6, g7]; exact ht) (by rw [g7]; exact pO_ok hok.1) (by rw [g7]; omega)
          rw [g6, g7] at k1
          refine ⟨M2, ?_, psm_tr ⟨f2, fun j hj => f3 j (by omega)⟩ k2⟩
          rw [← k1]
          simp (disch := omega) only [↓reduceIte, Int.reduceEq, Int.reduceNe, Int.reduceLT, Int.reduceLE, Int.reduceNeg, Int.reduceMod, Int.reduceDiv, Int.reduceAdd, Int.reduceSub, Int.reduceMul, not_true_eq_false, not_false_eq_true, Int.lt_irrefl, true_or, or_true, false_or, or_false, true_and, and_true, false_and, and_false, b2_T, b2_F, if_true, if_false, ↓mjn_b, ↓mjn0_b, ↓mjn2_b, iv_lit, iv_add, iv_sub, iv_mul, iv_neg, iv_le_t, iv_le_f, iv_lt_t, iv_lt_f, iv_eq_t, iv_eq_f, iv_div, iv_mod, mretT_p, mretT_b, e_mret, ↓e_bret, ↓m_mon, ↓m_oI0, m_pI0, ↓m_oI3, m_pI3, ↓m_oI5, m_pI5, ↓m_oI7, m_pI7, ↓m_oI11, m_pI11, ↓m_oI12, m_pI12, ↓m_oI13, m_pI13, ↓m_oI14, m_pI14, ↓m_oI15, m_pI15, ↓m_oI16, m_pI16, ↓m_oI17, m_pI17, m_pZ5, m_pZ12, ↓m_oR1, m_aI1, m_sI1, ↓m_oR2, m_aI2, m_sI2, ↓m_oR4, m_aI4, m_sI4, ↓m_oR6, m_aI6, m_sI6, ↓m_oR8, m_aI8, m_sI8, ↓m_oR9, m_aI9, m_sI9, ↓m_oR10, m_aI10, m_sI10, fX7_parse_L14, h0, h5, e_call0 e1, e_call0 f1, mst_12, mst_11, mst_j]
        · rw [if_neg h5]
          have h51 : (pT (M 6) (M 0 7) 59 s).2 = 1 := by have := hok.2; omega
          obtain ⟨M2, k1, k2⟩ := ih q M (pT (M 6) (M 0 7) 59 s) (by omega) ht hok (Or.inl h51)
          refine ⟨M2, ?_, k2⟩
          rw [← k1]
          simp (disch := omega) only [↓reduceIte, Int.reduceEq, Int.reduceNe, Int.reduceLT, Int.reduceLE, Int.reduceNeg, Int.reduceMod, Int.reduceDiv, Int.reduceAdd, Int.reduceSub, Int.reduceMul, not_true_eq_false, not_false_eq_true, Int.lt_irrefl, true_or, or_true, false_or, or_false, true_and, and_true, false_and, and_false, b2_T, b2_F, if_true, if_false, ↓mjn_b, ↓mjn0_b, ↓mjn2_b, iv_lit, iv_add, iv_sub, iv_mul, iv_neg, iv_le_t, iv_le_f, iv_lt_t, iv_lt_f, iv_eq_t, iv_eq_f, iv_div, iv_mod, mretT_p, mretT_b, e_mret, ↓e_bret, ↓m_mon, ↓m_oI0, m_pI0, ↓m_oI3, m_pI3, ↓m_oI5, m_pI5, ↓m_oI7, m_pI7, ↓m_oI11, m_pI11, ↓m_oI12, m_pI12, ↓m_oI13, m_pI13, ↓m_oI14, m_pI14, ↓m_oI15, m_pI15, ↓m_oI16, m_pI16, ↓m_oI17, m_pI17, m_pZ5, m_pZ12, ↓m_oR1, m_aI1, m_sI1, ↓m_oR2, m_aI2, m_sI2, ↓m_oR4, m_aI4, m_sI4, ↓m_oR6, m_aI6, m_sI6, ↓m_oR8, m_aI8, m_sI8, ↓m_oR9, m_aI9, m_sI9, ↓m_oR10, m_aI10, m_sI10, fX7_parse_L14, h0, h51, e_call0 e1, mst_12, mst_11, mst_j]
      · rw [if_neg (fun z => hl z.2)]
        refine ⟨M, ?_, psm_rf⟩
        simp (disch := omega) only [↓reduceIte, Int.reduceEq, Int.reduceNe, Int.reduceLT, Int.reduceLE, Int.reduceNeg, Int.reduceMod, Int.reduceDiv, Int.reduceAdd, Int.reduceSub, Int.reduceMul, not_true_eq_false, not_false_eq_true, Int.lt_irrefl, true_or, or_true, false_or, or_false, true_and, and_true, false_and, and_false, b2_T, b2_F, if_true, if_false, ↓mjn_b, ↓mjn0_b, ↓mjn2_b, iv_lit, iv_add, iv_sub, iv_mul, iv_neg, iv_le_t, iv_le_f, iv_lt_t, iv_lt_f, iv_eq_t, iv_eq_f, iv_div, iv_mod, mretT_p, mretT_b, e_mret, ↓e_bret, ↓m_mon, ↓m_oI0, m_pI0, ↓m_oI3, m_pI3, ↓m_oI5, m_pI5, ↓m_oI7, m_pI7, ↓m_oI11, m_pI11, ↓m_oI12, m_pI12, ↓m_oI13, m_pI13, ↓m_oI14, m_pI14, ↓m_oI15, m_pI15, ↓m_oI16, m_pI16, ↓m_oI17, m_pI17, m_pZ5, m_pZ12, ↓m_oR1, m_aI1, m_sI1, ↓m_oR2, m_aI2, m_sI2, ↓m_oR4, m_aI4, m_sI4, ↓m_oR6, m_aI6, m_sI6, ↓m_oR8, m_aI8, m_sI8, ↓m_oR9, m_aI9, m_sI9, ↓m_oR10, m_aI10, m_sI10, fX7_parse_L14, h0, mst_12, mst_11, mst_j]
    · rw [if_neg (fun z => h0 z.1)]
      have h2 : s.2 = 1 := by have := hs.2; omega
      refine ⟨M, ?_, psm_rf⟩
      simp (disch := omega) only [↓reduceIte, Int.reduceEq, Int.reduceNe, Int.reduceLT, Int.reduceLE, Int.reduceNeg, Int.reduceMod, Int.reduceDiv, Int.reduceAdd, Int.reduceSub, Int.reduceMul, not_true_eq_false, not_false_eq_true, Int.lt_irrefl, true_or, or_true, false_or, or_false, true_and, and_true, false_and, and_false, b2_T, b2_F, if_true, if_false, ↓mjn_b, ↓mjn0_b, ↓mjn2_b, iv_lit, iv_add, iv_sub, iv_mul, iv_neg, iv_le_t, iv_le_f, iv_lt_t, iv_lt_f, iv_eq_t, iv_eq_f, iv_div, iv_mod, mretT_p, mretT_b, e_mret, ↓e_bret, ↓m_mon, ↓m_oI0, m_pI0, ↓m_oI3, m_pI3, ↓m_oI5, m_pI5, ↓m_oI7, m_pI7, ↓m_oI11, m_pI11, ↓m_oI12, m_pI12, ↓m_oI13, m_pI13, ↓m_oI14, m_pI14, ↓m_oI15, m_pI15, ↓m_oI16, m_pI16, ↓m_oI17, m_pI17, m_pZ5, m_pZ12, ↓m_oR1, m_aI1, m_sI1, ↓m_oR2, m_aI2, m_sI2, ↓m_oR4, m_aI4, m_sI4, ↓m_oR6, m_aI6, m_sI6, ↓m_oR8, m_aI8, m_sI8, ↓m_oR9, m_aI9, m_sI9, ↓m_oR10, m_aI10, m_sI10, fX7_parse_L14, h2, mst_12]
theorem X7_parse_ev {g : Nat → Nat} {h : Nat → Option hC} {n m : Nat} {M : Mm} (ht : txt (M 6) (M 0 7)) : ∃ M2 : Mm, fX7_parse g (some m) (md m M h, n, 0) = some ((), (md m (mst M2 (pP (M 6) (M 0 7))) h, n, 0)) ∧ psm M M2 := by
  have hs0 : sok (M 0 7) ((0 : Int), (0 : Int)) := ⟨by have := ht.1; simp only; omega, Or.inl rfl⟩
  obtain ⟨M1, f1, f2, f3, -⟩ := X7_order_ev (g := g) (h := h) (n := n) (w := 0) (m := m) (M := M) (a := 0) (b := 0) ht hs0
  have g7 : M1 0 7 = M 0 7 := f3 7 (by omega)
  have g6 : M1 6 = M 6 := f2 6 (by decide)
  have hok := pO_ok (T := M 6) (l := M 0 7) (a := 0) hs0.1
  obtain ⟨M2, k1, k2⟩ := X7_parse_L14_ev (g := g) (h := h) (n := n) (m := m) 61 5000 M1 (pO (M 6) (M 0 7) 0).1 (by omega) (by rw [g6, g7]; exact ht) (by rw [g7]; exact hok) (Or.inr (by have := ht.1; have := hok.1; rw [g7]; omega))
  rw [g6, g7] at k1
  refine ⟨M2, ?_, psm_tr ⟨f2, fun j hj => f3 j (by omega)⟩ k2⟩
  unfold pP
  rw [← k1]
  have em : mst M (0, 0) = mu (mu M 0 11 0) 0 12 0 := by
    funext b j
    unfold mst mu
    by_cases h1 : b = 0 ∧ j = 12
    · rw [if_neg (by omega), if_pos h1, if_pos h1]
    · rw [if_neg h1, if_neg h1]
  rw [em] at f1
  unfold fX7_parse
  simp (disch := omega) only [↓reduceIte, Int.reduceEq, Int.reduceNe, Int.reduceLT, Int.reduceLE, Int.reduceNeg, Int.reduceMod, Int.reduceDiv, Int.reduceAdd, Int.reduceSub, Int.reduceMul, not_true_eq_false, not_false_eq_true, Int.lt_irrefl, true_or, or_true, false_or, or_false, true_and, and_true, false_and, and_false, b2_T, b2_F, if_true, if_false, ↓mjn_b, ↓mjn0_b, ↓mjn2_b, iv_lit, iv_add, iv_sub, iv_mul, iv_neg, iv_le_t, iv_le_f, iv_lt_t, iv_lt_f, iv_eq_t, iv_eq_f, iv_div, iv_mod, mretT_p, mretT_b, e_mret, ↓e_bret, ↓m_mon, ↓m_oI0, m_pI0, ↓m_oI3, m_pI3, ↓m_oI5, m_pI5, ↓m_oI7, m_pI7, ↓m_oI11, m_pI11, ↓m_oI12, m_pI12, ↓m_oI13, m_pI13, ↓m_oI14, m_pI14, ↓m_oI15, m_pI15, ↓m_oI16, m_pI16, ↓m_oI17, m_pI17, m_pZ5, m_pZ12, ↓m_oR1, m_aI1, m_sI1, ↓m_oR2, m_aI2, m_sI2, ↓m_oR4, m_aI4, m_sI4, ↓m_oR6, m_aI6, m_sI6, ↓m_oR8, m_aI8, m_sI8, ↓m_oR9, m_aI9, m_sI9, ↓m_oR10, m_aI10, m_sI10, e_call0 f1]
