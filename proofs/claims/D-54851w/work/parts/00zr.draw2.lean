/-! ===== drawing a hall: its loops ===== -/
theorem layF_app {F : Int → Int} {A B : List (Int × Int)} : layF F (A ++ B) = layF (layF F A) B := List.foldl_append
theorem fl_s {α : Type} {f : Int → List α} {t : Int} {k : Nat} : (runL f t (k + 1)).flatten = f t ++ (runL f (t + 1) k).flatten := Eq.trans rfl List.flatten_cons
theorem tlay_rg {z : Int → Int} {t : Int} (ht : 0 ≤ t ∧ t ≤ 10) : ∀ p ∈ tlay 40 z t, 1 ≤ p.2 ∧ p.2 ≤ 60 := by
  intro p hp
  unfold tlay at hp
  rcases List.mem_append.mp hp with hp | hp
  · obtain ⟨j, a, b, rfl⟩ := (runL_mem _ _).1 hp
    dsimp only; omega
  · obtain ⟨j, a, b, rfl⟩ := (runL_mem _ _).1 hp
    dsimp only; omega
theorem X2_draw_L95_ev {g : Nat → Nat} {h : Nat → Option hC} {n w a : Nat} {D : Nat → Nat} {tb : Int → Nat} {z : Int → Int} {K : Int32 → HM Int32} (hg : gD g) (hd : HD g h a D tb z) (hp : PA h (D 4)) (hw : wH z) (hin : ∀ t, 0 ≤ t → t < z 15 → inT z t) : ∀ (k nn : Nat) (F : Int → Int) (P : List (Int × Int)) (t : Int), k < nn → 0 ≤ t → t + k = z 15 → lp_is F P →
    fX2_draw_L95 g nn (some a) (iv (z 15)) (iv (b2 (nd P))) (iv t) K (pl h D F, n, w) = K (iv (b2 (nd (P ++ (runL (tlay 40 z) t k).flatten)))) (pl h D (layF F (runL (tlay 40 z) t k).flatten), n, w) := by
  have h15 := hw.2.2.2.2.1
  intro k
  induction k with
  | zero =>
    intro nn F P t hn ht he hl
    obtain ⟨q, rfl⟩ : ∃ q, nn = q + 1 := ⟨nn - 1, by omega⟩
    have e : (runL (tlay 40 z) t 0).flatten = [] := rfl
    rw [e, List.append_nil]
    show _ = K (iv (b2 (nd P))) (pl h D F, n, w)
    simp (disch := omega) only [↓reduceIte, Int.reduceEq, Int.reduceNe, Int.reduceLT, Int.reduceLE, Int.reduceNeg, Int.reduceMod, Int.reduceDiv, Int.reduceAdd, Int.reduceSub, Int.reduceMul, not_true_eq_false, not_false_eq_true, Int.lt_irrefl, true_or, or_true, false_or, or_false, true_and, and_true, false_and, and_false, b2_T, b2_F, if_true, if_false, ↓mjn_b, ↓mjn0_b, ↓mjn2_b, iv_lit, iv_add, iv_sub, iv_mul, iv_neg, iv_le_t, iv_le_f, iv_lt_t, iv_lt_f, iv_eq_t, iv_eq_f, iv_div, iv_mod, mretT_p, mretT_b, e_mret, ↓e_bret, ↓m_mon, ↓m_oI0, m_pI0, ↓m_oI3, m_pI3, ↓m_oI5, m_pI5, ↓m_oI7, m_pI7, ↓m_oI11, m_pI11, ↓m_oI12, m_pI12, ↓m_oI13, m_pI13, ↓m_oI14, m_pI14, ↓m_oI15, m_pI15, ↓m_oI16, m_pI16, ↓m_oI17, m_pI17, m_pZ5, m_pZ12, ↓m_oR1, m_aI1, m_sI1, ↓m_oR2, m_aI2, m_sI2, ↓m_oR4, m_aI4, m_sI4, ↓m_oR6, m_aI6, m_sI6, ↓m_oR8, m_aI8, m_sI8, ↓m_oR9, m_aI9, m_sI9, ↓m_oR10, m_aI10, m_sI10, fX2_draw_L95]
  | succ k ih =>
    intro nn F P t hn ht he hl
    obtain ⟨q, rfl⟩ : ∃ q, nn = q + 1 := ⟨nn - 1, by omega⟩
    have htt : 0 ≤ t ∧ t < z 15 := ⟨ht, by omega⟩
    have hwt := wT_of hw htt
    have hit := hin t ht htt.2
    have hN := ceN_rg (zk z t)
    have hN2 := chN_rg (zk z t)
    have hal := AL_kp (KPa_pl (F := F) hp) hd.2.2.1
    obtain ⟨s, hts, hss⟩ := TB_kp (g := g) (KPa_pl (F := F) hp) (hd.2.2.2 t ht htt.2)
    have ho := (HD_kp (KPa_pl (F := F) hp) hd).1
    unfold SO at ho
    have eg := fun (K : Option Nat → HM Int32) => J2_get_c (K := K) (n := n) (w := w) (i := t) hal htt
    have ec := fun (K : Unit → HM Int32) => c_mcst (K := K) (n := n) (w := w) (cs := [2]) hts (List.mem_cons_self ..)
    have ed := fun (K : Int32 → HM Int32) => cells_d (g := g) (K := K) (n := n) (w := w) hss
    have e1 := fun (K : Int32 → HM Int32) => X2_draw_L130_ev (n := n) (w := w) (K := K) (v1 := iv (z 15)) hg hd hp htt h15.2 hwt hit (ceN (zk z t)).toNat 5000 F P 0 (by omega) (by omega) (by omega) hl
    generalize hA : runL (fun j => (ceT z t j, 10 + t)) 0 (ceN (zk z t)).toNat = A at e1
    have hA2 : ∀ p ∈ A, 1 ≤ p.2 ∧ p.2 ≤ 60 := fun p hp => by
      rw [← hA] at hp
      obtain ⟨j, a, b, rfl⟩ := (runL_mem _ _).1 hp
      dsimp only; omega
    obtain ⟨s2, hts2, hss2⟩ := TB_kp (g := g) (KPa_pl (F := layF F A) hp) (hd.2.2.2 t ht htt.2)
    have ed2 := fun (K : Int32 → HM Int32) => chairs_d (g := g) (K := K) (n := n) (w := w) hss2
    have e2 := fun (K : Int32 → HM Int32) => X2_draw_L176_ev (n := n) (w := w) (K := K) (v1 := iv (z 15)) hg hd hp htt h15.2 hwt hit (chN (zk z t)).toNat 5000 (layF F A) (P ++ A) 0 (by omega) (by omega) (by omega) (lp_lay hl hA2)
    generalize hC : runL (fun j => (chT z t j, 40 + t)) 0 (chN (zk z t)).toNat = C at e2
    have hC2 : ∀ p ∈ C, 1 ≤ p.2 ∧ p.2 ≤ 60 := fun p hp => by
      rw [← hC] at hp
      obtain ⟨j, a, b, rfl⟩ := (runL_mem _ _).1 hp
      dsimp only; omega
    have hAC : tlay 40 z t = A ++ C := by rw [← hA, ← hC]; rfl
    have ih2 := ih q (layF (layF F A) C) (P ++ A ++ C) (t + 1) (by omega) (by omega) (by omega) (lp_lay (lp_lay hl hA2) hC2)
    rw [fl_s, hAC, layF_app, layF_app, ← List.append_assoc, ← List.append_assoc, ← ih2]
    simp (disch := omega) only [↓reduceIte, Int.reduceEq, Int.reduceNe, Int.reduceLT, Int.reduceLE, Int.reduceNeg, Int.reduceMod, Int.reduceDiv, Int.reduceAdd, Int.reduceSub, Int.reduceMul, not_true_eq_false, not_false_eq_true, Int.lt_irrefl, true_or, or_true, false_or, or_false, true_and, and_true, false_and, and_false, b2_T, b2_F, if_true, if_false, ↓mjn_b, ↓mjn0_b, ↓mjn2_b, iv_lit, iv_add, iv_sub, iv_mul, iv_neg, iv_le_t, iv_le_f, iv_lt_t, iv_lt_f, iv_eq_t, iv_eq_f, iv_div, iv_mod, mretT_p, mretT_b, e_mret, ↓e_bret, ↓m_mon, ↓m_oI0, m_pI0, ↓m_oI3, m_pI3, ↓m_oI5, m_pI5, ↓m_oI7, m_pI7, ↓m_oI11, m_pI11, ↓m_oI12, m_pI12, ↓m_oI13, m_pI13, ↓m_oI14, m_pI14, ↓m_oI15, m_pI15, ↓m_oI16, m_pI16, ↓m_oI17, m_pI17, m_pZ5, m_pZ12, ↓m_oR1, m_aI1, m_sI1, ↓m_oR2, m_aI2, m_sI2, ↓m_oR4, m_aI4, m_sI4, ↓m_oR6, m_aI6, m_sI6, ↓m_oR8, m_aI8, m_sI8, ↓m_oR9, m_aI9, m_sI9, ↓m_oR10, m_aI10, m_sI10, fX2_draw_L95, ↓s_o4 ho, ↓eg, ↓ec, ↓t_o0 hts, ↓t_o0 hts2, ↓ed, ↓ed2, ↓e1, ↓e2]
theorem X2_draw_L48_ev {g : Nat → Nat} {h : Nat → Option hC} {n w a : Nat} {D : Nat → Nat} {tb : Int → Nat} {z : Int → Int} {K : HM Int32} {v1 v2 : Int32} (hd : HD g h a D tb z) (hp : PA h (D 4)) : ∀ (k nn : Nat) (F : Int → Int) (i : Int), k < nn → 0 ≤ i → i + k = 192 → (∀ c, 0 ≤ c → c < i → F c = pilz z c) →
    ∃ F', fX2_draw_L48 g nn (some a) v1 v2 (iv i) K (pl h D F, n, w) = K (pl h D F', n, w) ∧ ∀ c, cin c → F' c = pilz z c := by
  intro k
  induction k with
  | zero =>
    intro nn F i hn hi he hF
    obtain ⟨q, rfl⟩ : ∃ q, nn = q + 1 := ⟨nn - 1, by omega⟩
    refine ⟨F, ?_, fun c hc => hF c hc.1 (by unfold cin at hc; omega)⟩
    simp (disch := omega) only [↓reduceIte, Int.reduceEq, Int.reduceNe, Int.reduceLT, Int.reduceLE, Int.reduceNeg, Int.reduceMod, Int.reduceDiv, Int.reduceAdd, Int.reduceSub, Int.reduceMul, not_true_eq_false, not_false_eq_true, Int.lt_irrefl, true_or, or_true, false_or, or_false, true_and, and_true, false_and, and_false, b2_T, b2_F, if_true, if_false, ↓mjn_b, ↓mjn0_b, ↓mjn2_b, iv_lit, iv_add, iv_sub, iv_mul, iv_neg, iv_le_t, iv_le_f, iv_lt_t, iv_lt_f, iv_eq_t, iv_eq_f, iv_div, iv_mod, mretT_p, mretT_b, e_mret, ↓e_bret, ↓m_mon, ↓m_oI0, m_pI0, ↓m_oI3, m_pI3, ↓m_oI5, m_pI5, ↓m_oI7, m_pI7, ↓m_oI11, m_pI11, ↓m_oI12, m_pI12, ↓m_oI13, m_pI13, ↓m_oI14, m_pI14, ↓m_oI15, m_pI15, ↓m_oI16, m_pI16, ↓m_oI17, m_pI17, m_pZ5, m_pZ12, ↓m_oR1, m_aI1, m_sI1, ↓m_oR2, m_aI2, m_sI2, ↓m_oR4, m_aI4, m_sI4, ↓m_oR6, m_aI6, m_sI6, ↓m_oR8, m_aI8, m_sI8, ↓m_oR9, m_aI9, m_sI9, ↓m_oR10, m_aI10, m_sI10, fX2_draw_L48]
  | succ k ih =>
    intro nn F i hn hi he hF
    obtain ⟨q, rfl⟩ : ∃ q, nn = q + 1 := ⟨nn - 1, by omega⟩
    have hi2 : 0 ≤ i ∧ i < ((192 : Nat) : Int) := by omega
    obtain ⟨F', e1, e2⟩ := ih q (iu F i (pilz z i)) (i + 1) (by omega) (by omega) (by omega) (fun c u v => by
      by_cases e : c = i
      · rw [iu_at e, e]
      · rw [iu_ne e]; exact hF c u (by omega))
    refine ⟨F', ?_, e2⟩
    rw [← e1]
    have hk := HD_kp (KPa_pl (F := F) hp) hd
    have ho := hk.1
    unfold SO at ho
    obtain ⟨P, hP, hP2⟩ := hk.2.1
    have ep := fun (K : Int32 → HM Int32) => c_aI (K := K) (n := n) (w := w) (i := i) hP (by decide) hi2
    have es := fun (K : Unit → HM Int32) (x : Int) => c_sI (K := K) (n := n) (w := w) (i := i) (x := x) (pl_at (h := h) (D := D) (F := F)) (by decide) hi2
    rw [hP2 i (by unfold cin; omega)] at ep
    rcases b2_or (p := ∃ k, (0 ≤ k ∧ k < z 2) ∧ z (3 + k) = i) with e | e
    · have e3 : pilz z i = 0 := e
      rw [e3] at ep ⊢
      simp (disch := omega) only [↓reduceIte, Int.reduceEq, Int.reduceNe, Int.reduceLT, Int.reduceLE, Int.reduceNeg, Int.reduceMod, Int.reduceDiv, Int.reduceAdd, Int.reduceSub, Int.reduceMul, not_true_eq_false, not_false_eq_true, Int.lt_irrefl, true_or, or_true, false_or, or_false, true_and, and_true, false_and, and_false, b2_T, b2_F, if_true, if_false, ↓mjn_b, ↓mjn0_b, ↓mjn2_b, iv_lit, iv_add, iv_sub, iv_mul, iv_neg, iv_le_t, iv_le_f, iv_lt_t, iv_lt_f, iv_eq_t, iv_eq_f, iv_div, iv_mod, mretT_p, mretT_b, e_mret, ↓e_bret, ↓m_mon, ↓m_oI0, m_pI0, ↓m_oI3, m_pI3, ↓m_oI5, m_pI5, ↓m_oI7, m_pI7, ↓m_oI11, m_pI11, ↓m_oI12, m_pI12, ↓m_oI13, m_pI13, ↓m_oI14, m_pI14, ↓m_oI15, m_pI15, ↓m_oI16, m_pI16, ↓m_oI17, m_pI17, m_pZ5, m_pZ12, ↓m_oR1, m_aI1, m_sI1, ↓m_oR2, m_aI2, m_sI2, ↓m_oR4, m_aI4, m_sI4, ↓m_oR6, m_aI6, m_sI6, ↓m_oR8, m_aI8, m_sI8, ↓m_oR9, m_aI9, m_sI9, ↓m_oR10, m_aI10, m_sI10, fX2_draw_L48, ↓s_o7 ho, ↓s_o2 ho, ↓ep, ↓es, pl_pl]
    · have e3 : pilz z i = 1 := e
      rw [e3] at ep ⊢
      simp (disch := omega) only [↓reduceIte, Int.reduceEq, Int.reduceNe, Int.reduceLT, Int.reduceLE, Int.reduceNeg, Int.reduceMod, Int.reduceDiv, Int.reduceAdd, Int.reduceSub, Int.reduceMul, not_true_eq_false, not_false_eq_true, Int.lt_irrefl, true_or, or_true, false_or, or_false, true_and, and_true, false_and, and_false, b2_T, b2_F, if_true, if_false, ↓mjn_b, ↓mjn0_b, ↓mjn2_b, iv_lit, iv_add, iv_sub, iv_mul, iv_neg, iv_le_t, iv_le_f, iv_lt_t, iv_lt_f, iv_eq_t, iv_eq_f, iv_div, iv_mod, mretT_p, mretT_b, e_mret, ↓e_bret, ↓m_mon, ↓m_oI0, m_pI0, ↓m_oI3, m_pI3, ↓m_oI5, m_pI5, ↓m_oI7, m_pI7, ↓m_oI11, m_pI11, ↓m_oI12, m_pI12, ↓m_oI13, m_pI13, ↓m_oI14, m_pI14, ↓m_oI15, m_pI15, ↓m_oI16, m_pI16, ↓m_oI17, m_pI17, m_pZ5, m_pZ12, ↓m_oR1, m_aI1, m_sI1, ↓m_oR2, m_aI2, m_sI2, ↓m_oR4, m_aI4, m_sI4, ↓m_oR6, m_aI6, m_sI6, ↓m_oR8, m_aI8, m_sI8, ↓m_oR9, m_aI9, m_sI9, ↓m_oR10, m_aI10, m_sI10, fX2_draw_L48, ↓s_o7 ho, ↓s_o2 ho, ↓ep, ↓es, pl_pl]
theorem X2_draw_L12_ev {g : Nat → Nat} {h : Nat → Option hC} {n w a : Nat} {D : Nat → Nat} {tb : Int → Nat} {z : Int → Int} {K : HM Int32} (hg : gD g) (hd : HD g h a D tb z) (hw : wH z) : ∀ (k nn : Nat) (t : Int), k < nn → 0 ≤ t → t + k = z 15 →
    fX2_draw_L12 g nn (some a) (iv (z 15)) (iv t) K (h, n, w) = @ite (Option (Int32 × Hp)) (∀ j, t ≤ j → j < z 15 → inT z j) (Classical.propDecidable _) (K (h, n, w)) (some (iv 1, (h, n, w))) := by
  have h15 := hw.2.2.2.2.1
  have ho := hd.1
  unfold SO at ho
  intro k
  induction k with
  | zero =>
    intro nn t hn ht he
    obtain ⟨q, rfl⟩ : ∃ q, nn = q + 1 := ⟨nn - 1, by omega⟩
    rw [if_pos (fun j u v => absurd v (by omega))]
    simp (disch := omega) only [↓reduceIte, Int.reduceEq, Int.reduceNe, Int.reduceLT, Int.reduceLE, Int.reduceNeg, Int.reduceMod, Int.reduceDiv, Int.reduceAdd, Int.reduceSub, Int.reduceMul, not_true_eq_false, not_false_eq_true, Int.lt_irrefl, true_or, or_true, false_or, or_false, true_and, and_true, false_and, and_false, b2_T, b2_F, if_true, if_false, ↓mjn_b, ↓mjn0_b, ↓mjn2_b, iv_lit, iv_add, iv_sub, iv_mul, iv_neg, iv_le_t, iv_le_f, iv_lt_t, iv_lt_f, iv_eq_t, iv_eq_f, iv_div, iv_mod, mretT_p, mretT_b, e_mret, ↓e_bret, ↓m_mon, ↓m_oI0, m_pI0, ↓m_oI3, m_pI3, ↓m_oI5, m_pI5, ↓m_oI7, m_pI7, ↓m_oI11, m_pI11, ↓m_oI12, m_pI12, ↓m_oI13, m_pI13, ↓m_oI14, m_pI14, ↓m_oI15, m_pI15, ↓m_oI16, m_pI16, ↓m_oI17, m_pI17, m_pZ5, m_pZ12, ↓m_oR1, m_aI1, m_sI1, ↓m_oR2, m_aI2, m_sI2, ↓m_oR4, m_aI4, m_sI4, ↓m_oR6, m_aI6, m_sI6, ↓m_oR8, m_aI8, m_sI8, ↓m_oR9, m_aI9, m_sI9, ↓m_oR10, m_aI10, m_sI10, fX2_draw_L12]
  | succ k ih =>
    intro nn t hn ht he
    obtain ⟨q, rfl⟩ : ∃ q, nn = q + 1 := ⟨nn - 1, by omega⟩
    have htt : 0 ≤ t ∧ t < z 15 := ⟨ht, by omega⟩
    have hwt := wT_of hw htt
    have hwt2 := hwt.2.1
    have hb := hd.2.2.2 t ht htt.2
    obtain ⟨s, hts, hss⟩ := id hb
    have eg := fun (K : Option Nat → HM Int32) => J2_get_c (K := K) (n := n) (w := w) (i := t) hd.2.2.1 htt
    have ec := fun (K : Unit → HM Int32) => c_mcst (K := K) (n := n) (w := w) (cs := [2]) hts (List.mem_cons_self ..)
    have ei := fun (K : Int32 → HM Int32) => X3_isInHall_c (K := K) (n := n) (w := w) hg hb hwt.2.2.1 (by omega) (by omega)
    by_cases hc : inH (zk z t) (zt z t) (zp z t % 16) (zp z t / 16)
    · rw [b2_t hc] at ei
      rw [c_ite (show (∀ j, t ≤ j → j < z 15 → inT z j) ↔ (∀ j, t + 1 ≤ j → j < z 15 → inT z j) from ⟨fun w j a b => w j (by omega) b, fun w j a b => by
        by_cases e : j = t
        · rw [e]; exact hc
        · exact w j (by omega) b⟩), ← ih q (t + 1) (by omega) (by omega) (by omega)]
      simp (disch := omega) only [↓reduceIte, Int.reduceEq, Int.reduceNe, Int.reduceLT, Int.reduceLE, Int.reduceNeg, Int.reduceMod, Int.reduceDiv, Int.reduceAdd, Int.reduceSub, Int.reduceMul, not_true_eq_false, not_false_eq_true, Int.lt_irrefl, true_or, or_true, false_or, or_false, true_and, and_true, false_and, and_false, b2_T, b2_F, if_true, if_false, ↓mjn_b, ↓mjn0_b, ↓mjn2_b, iv_lit, iv_add, iv_sub, iv_mul, iv_neg, iv_le_t, iv_le_f, iv_lt_t, iv_lt_f, iv_eq_t, iv_eq_f, iv_div, iv_mod, mretT_p, mretT_b, e_mret, ↓e_bret, ↓m_mon, ↓m_oI0, m_pI0, ↓m_oI3, m_pI3, ↓m_oI5, m_pI5, ↓m_oI7, m_pI7, ↓m_oI11, m_pI11, ↓m_oI12, m_pI12, ↓m_oI13, m_pI13, ↓m_oI14, m_pI14, ↓m_oI15, m_pI15, ↓m_oI16, m_pI16, ↓m_oI17, m_pI17, m_pZ5, m_pZ12, ↓m_oR1, m_aI1, m_sI1, ↓m_oR2, m_aI2, m_sI2, ↓m_oR4, m_aI4, m_sI4, ↓m_oR6, m_aI6, m_sI6, ↓m_oR8, m_aI8, m_sI8, ↓m_oR9, m_aI9, m_sI9, ↓m_oR10, m_aI10, m_sI10, fX2_draw_L12, ↓s_o4 ho, ↓eg, ↓ec, ↓ei]
    · rw [b2_f hc] at ei
      rw [if_neg (fun w => hc (w t (by omega) htt.2))]
      simp (disch := omega) only [↓reduceIte, Int.reduceEq, Int.reduceNe, Int.reduceLT, Int.reduceLE, Int.reduceNeg, Int.reduceMod, Int.reduceDiv, Int.reduceAdd, Int.reduceSub, Int.reduceMul, not_true_eq_false, not_false_eq_true, Int.lt_irrefl, true_or, or_true, false_or, or_false, true_and, and_true, false_and, and_false, b2_T, b2_F, if_true, if_false, ↓mjn_b, ↓mjn0_b, ↓mjn2_b, iv_lit, iv_add, iv_sub, iv_mul, iv_neg, iv_le_t, iv_le_f, iv_lt_t, iv_lt_f, iv_eq_t, iv_eq_f, iv_div, iv_mod, mretT_p, mretT_b, e_mret, ↓e_bret, ↓m_mon, ↓m_oI0, m_pI0, ↓m_oI3, m_pI3, ↓m_oI5, m_pI5, ↓m_oI7, m_pI7, ↓m_oI11, m_pI11, ↓m_oI12, m_pI12, ↓m_oI13, m_pI13, ↓m_oI14, m_pI14, ↓m_oI15, m_pI15, ↓m_oI16, m_pI16, ↓m_oI17, m_pI17, m_pZ5, m_pZ12, ↓m_oR1, m_aI1, m_sI1, ↓m_oR2, m_aI2, m_sI2, ↓m_oR4, m_aI4, m_sI4, ↓m_oR6, m_aI6, m_sI6, ↓m_oR8, m_aI8, m_sI8, ↓m_oR9, m_aI9, m_sI9, ↓m_oR10, m_aI10, m_sI10, fX2_draw_L12, ↓s_o4 ho, ↓eg, ↓ec, ↓ei]
