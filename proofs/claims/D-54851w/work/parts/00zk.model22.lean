/-! ===== the model: changes of tables and guests ===== -/
theorem sttr_0 {z : Int → Int} {t : Int} (h60 : 0 ≤ z 60) : (0 ≤ sttr z t ∧ sttr z t ≤ z 60) ∧ (sttr z t = 0 ↔ ∀ g, 0 ≤ g → g < z 60 → ga z g ≠ t) := by
  have h := foldI_inv (s := fun (a : Int) j => if ga z j = t then a + 1 else a) (fun i a => (0 ≤ a ∧ a ≤ i) ∧ (a = 0 ↔ ∀ g, 0 ≤ g → g < i → ga z g ≠ t)) (z 60).toNat 0 0 ⟨by omega, ⟨fun _ g a b => by omega, fun _ => rfl⟩⟩ (fun b j h1 h2 h3 => by
    obtain ⟨p, q⟩ := h3
    split
    · rename_i e
      refine ⟨by omega, ⟨fun a => by omega, fun a => absurd e (a j h1 (by omega))⟩⟩
    · rename_i e
      refine ⟨by omega, ⟨fun a g u v => ?_, fun a => q.2 (fun g u v => a g u (by omega))⟩⟩
      by_cases w : g = j
      · rw [w]; exact e
      · exact q.1 a g u (by omega))
  have e : (0 : Int) + (z 60).toNat = z 60 := by omega
  rw [e] at h
  exact h
theorem zrem_eq {Mb : Mm} {z : Int → Int} {t : Int} (hb : Mb 1 = z) (ht : 0 ≤ t ∧ t < z 15) (h15 : z 15 ≤ 10) (h60 : 0 ≤ z 60 ∧ z 60 ≤ 30) : (gdec (cpy (mu Mb 1 15 (z 15 - 1)) 1 (16 + 4 * t) (16 + 4 * (z 15 - 1)) (fun j => (mu Mb 1 15 (z 15 - 1)) 1 (j + 4))) t 0 (z 60)) 1 = zrem z t := by
  funext j
  unfold gdec
  have hc : ∀ i, (cpy (mu Mb 1 15 (z 15 - 1)) 1 (16 + 4 * t) (16 + 4 * (z 15 - 1)) (fun j => (mu Mb 1 15 (z 15 - 1)) 1 (j + 4))) 1 i = if i = 15 then z 15 - 1 else if 16 + 4 * t ≤ i ∧ i < 16 + 4 * (z 15 - 1) then z (i + 4) else z i := fun i => by
    by_cases e : i = 15
    · rw [if_pos e, cpy_out (by omega), mu_at e]
    · rw [if_neg e]
      by_cases k : 16 + 4 * t ≤ i ∧ i < 16 + 4 * (z 15 - 1)
      · rw [if_pos k, cpy_at k, mu_ni (by omega), hb]
      · rw [if_neg k, cpy_out k, mu_ni e, hb]
  rw [hc]
  unfold zrem dec
  by_cases h1 : (61 ≤ j ∧ j < 61 + 18 * z 60) ∧ (j - 61) % 18 = 1
  · rw [if_pos ⟨rfl, by omega, h1.2⟩, if_neg (show ¬ j = 15 by omega), if_neg (show ¬ (16 + 4 * t ≤ j ∧ j < 16 + 4 * (z 15 - 1)) by omega), if_neg (show ¬ j = 15 by omega), if_neg (show ¬ (16 + 4 * t ≤ j ∧ j < 16 + 4 * (z 15 - 1)) by omega), if_pos h1]
  · rw [if_neg (fun q => h1 ⟨by omega, q.2.2⟩), if_neg h1]
theorem zgst_eq {Mb : Mm} {z T : Int → Int} {v l : Int} (hb : Mb 1 = z) (h60 : 0 ≤ z 60 ∧ z 60 < 30) :
    (mu (mu (cpy (mu (mu (mu (mu Mb 1 (61 + 18 * z 60 + 0) v) 1 (61 + 18 * z 60 + 1) (-1)) 1 (61 + 18 * z 60 + 2) (-1)) 1 (61 + 18 * z 60 + 3) l) 1 (61 + 18 * z 60 + (4 + 0)) (61 + 18 * z 60 + 18) (fun j => if j - (61 + 18 * z 60 + 4) < l then T (j - (61 + 18 * z 60 + 4)) else 0)) 1 (601 + z 60) 0) 1 60 (z 60 + 1)) 1 = zgst z v l T := by
  funext j
  unfold zgst
  by_cases a : j = 60
  · rw [mu_at a, if_pos a]
  · rw [mu_ni a, if_neg a]
    by_cases b : j = 601 + z 60
    · rw [mu_at b, if_pos b]
    · rw [mu_ni b, if_neg b]
      by_cases c : 61 + 18 * z 60 + (4 + 0) ≤ j ∧ j < 61 + 18 * z 60 + 18
      · rw [cpy_at c, if_pos (show 61 + 18 * z 60 ≤ j ∧ j < 61 + 18 * z 60 + 18 by omega), if_neg (show ¬ j = 61 + 18 * z 60 by omega), if_neg (show ¬ j = 61 + 18 * z 60 + 3 by omega), if_neg (show ¬ j < 61 + 18 * z 60 + 3 by omega)]
      · rw [cpy_out c]
        by_cases d : j = 61 + 18 * z 60 + 3
        · rw [mu_at d, if_pos (by omega), if_neg (by omega), if_pos (by omega)]
        · rw [mu_ni d]
          by_cases e : j = 61 + 18 * z 60 + 2
          · rw [mu_at e, if_pos (by omega), if_neg (by omega), if_neg (by omega), if_pos (by omega)]
          · rw [mu_ni e]
            by_cases f : j = 61 + 18 * z 60 + 1
            · rw [mu_at f, if_pos (by omega), if_neg (by omega), if_neg (by omega), if_pos (by omega)]
            · rw [mu_ni f]
              by_cases k : j = 61 + 18 * z 60 + 0
              · rw [mu_at k, if_pos (by omega), if_pos (by omega)]
              · rw [mu_ni k, if_neg (by omega), hb]
theorem MS_7 {M : Mm} {x : XS} (h : MS M x) : MS (mu M 0 7 0) (x.1, x.2.1, x.2.2.1, x.2.2.2.1, 0) := by
  obtain ⟨h1, h2, ⟨h3, h4, h5⟩, h6, h7, h8, h9⟩ := h
  refine ⟨by rw [mu_ob (by decide)]; exact h1, h2, ⟨h3, by rw [mu_ni (by omega)]; exact h4, fun j z hj => ?_⟩, ?_, by rw [mu_ob (by decide)]; exact h7, mu_eq, ⟨Int.le_refl 0, (by decide : (0 : Int) ≤ 60)⟩, fun k a b => absurd (Int.lt_of_le_of_lt a b) (Int.lt_irrefl 0)⟩
  · have e : hrow (mu M 0 7 0) j = hrow M j := by unfold hrow; rw [mu_ob (by decide)]
    rw [e]; exact h5 j z hj
  · rcases h6 with ⟨a, b⟩ | ⟨s, a, b, c, d⟩
    · exact Or.inl ⟨a, by rw [mu_ni (by omega)]; exact b⟩
    · exact Or.inr ⟨s, a, by rw [mu_ni (by omega)]; exact b, by rw [mu_ob (by decide)]; exact c, d⟩
theorem nse_0 {z : Int → Int} (h60 : 0 ≤ z 60) {y t c : Int} (h : nse z y t c = 0) : ∀ x, 0 ≤ x → x < z 60 → ga z x = t → gc z x ≠ c := by
  intro x u v q q2
  have hs := (sitr_rg h60 t c).2.2.2
  have h0 : sitr z t c = -1 := by
    unfold nse at h
    split at h
    · omega
    · split at h
      · assumption
      · omega
  exact hs h0 x u v ⟨q, q2⟩
theorem nsw_0 {z : Int → Int} {y k : Int} (h : nsw z y k = 0) : y ≠ k := by
  intro e
  unfold nsw at h
  split at h <;> first | omega | (rw [if_pos e] at h; omega)
noncomputable def o_removeTable (x : XS) (t : Int) : Int × Int × XS := @ite (Int × Int × XS) (0 ≤ t ∧ t ≤ x.1 15 - 1) (Classical.propDecidable _) (@ite (Int × Int × XS) (sttr x.1 t = 0) (Classical.propDecidable _) (0, x.1 15 - 1, xupd x (zrem x.1 t)) (2, 0, x)) (1, 0, x)
theorem MR_removeTable {g : Nat → Nat} {h : Nat → Option hC} {n m : Nat} {M : Mm} {x : XS} {t : Int} (hs : MS M x) (ht : -2147483648 ≤ t ∧ t < 2147483648) : MR m h n (fX7_removeTable g (some m) (iv t) (md m M h, n, 0)) (o_removeTable x t) := by
  have hz := MS_z hs
  have hx := hs.1
  unfold o_removeTable
  rw [hx]
  have h15 := wZ_15 hz
  have h60 := wZ_60 hz
  have hh := hz.1
  have hst := sttr_0 (z := M 1) (t := t) h60.1
  by_cases h1 : 0 ≤ t ∧ t ≤ M 1 15 - 1
  · rw [if_pos h1]
    have es := X7_sitters_ev (g := g) (h := h) (n := n) (w := 0) (m := m) (M := M) (t := t) hz (by omega)
    by_cases hg : sttr (M 1) t = 0
    · rw [if_pos hg]
      obtain ⟨Mb, rb, b1, b0, bu, bj, b6⟩ := rec_u (g := g) (h := h) (n := n) (m := m) hs (qsm_rf) (zeq_rf)
      have hga : ∀ x, 0 ≤ x → x < M 1 60 → -1 ≤ M 1 (61 + 18 * x + 1) ∧ M 1 (61 + 18 * x + 1) ≤ 10 := fun x a b => by
        have r := wZ_graw hz ⟨a, b⟩
        omega
      have k1 := fun (K : HM Int32) => X7_removeTable_L60_ev (g := g) (h := h) (n := n) (w := 0) (m := m) (K := K) (t := t) (s := M 1 15 - 1) (by omega) (4 * (M 1 15 - 1) - 4 * t).toNat 5000 (mu Mb 1 15 (M 1 15 - 1)) (16 + 4 * t) (by omega) (by omega) (by omega) mu_eq
      have kc : ∀ i, 61 ≤ i → (cpy (mu Mb 1 15 (M 1 15 - 1)) 1 (16 + 4 * t) (16 + 4 * (M 1 15 - 1)) (fun j => (mu Mb 1 15 (M 1 15 - 1)) 1 (j + 4))) 1 i = M 1 i := fun i hi => by rw [cpy_out (by omega), mu_ni (by omega), b1]
      have k2 := fun (K : HM Int32) => X7_removeTable_L98_ev (g := g) (h := h) (n := n) (w := 0) (m := m) (K := K) (t := t) (ng := M 1 60) (by omega) h60 (M 1 60).toNat 5000 (cpy (mu Mb 1 15 (M 1 15 - 1)) 1 (16 + 4 * t) (16 + 4 * (M 1 15 - 1)) (fun j => (mu Mb 1 15 (M 1 15 - 1)) 1 (j + 4))) 0 (by omega) (by omega) (by omega) (by rw [cpy_out (by omega), mu_ni (by omega), b1]) (fun x a b => by rw [kc _ (by omega)]; exact hga x a b)
      have ke := zrem_eq b1 (t := t) ⟨h1.1, by omega⟩ h15.2 h60
      have k15 : zrem (M 1) t 15 = M 1 15 - 1 := if_pos rfl
      refine MR_u hs bu b0 (gdec (cpy (mu Mb 1 15 (M 1 15 - 1)) 1 (16 + 4 * t) (16 + 4 * (M 1 15 - 1)) (fun j => (mu Mb 1 15 (M 1 15 - 1)) 1 (j + 4))) t 0 (M 1 60)) ?_ (qsm_b (fun b q => by rw [gdec_ob q, cpy_ob q, mu_ob q])) (by rw [ke]; exact zeq_rf) (wZ_rem hz ⟨h1.1, by omega⟩ (hst.2.1 hg))
      unfold fX7_removeTable
      simp (disch := omega) only [↓reduceIte, Int.reduceEq, Int.reduceNe, Int.reduceLT, Int.reduceLE, Int.reduceNeg, Int.reduceMod, Int.reduceDiv, Int.reduceAdd, Int.reduceSub, Int.reduceMul, not_true_eq_false, not_false_eq_true, Int.lt_irrefl, true_or, or_true, false_or, or_false, true_and, and_true, false_and, and_false, b2_T, b2_F, if_true, if_false, ↓mjn_b, ↓mjn0_b, ↓mjn2_b, iv_lit, iv_add, iv_sub, iv_mul, iv_neg, iv_le_t, iv_le_f, iv_lt_t, iv_lt_f, iv_eq_t, iv_eq_f, iv_div, iv_mod, mretT_p, mretT_b, e_mret, ↓e_bret, ↓m_mon, ↓m_oI0, m_pI0, ↓m_oI3, m_pI3, ↓m_oI5, m_pI5, ↓m_oI7, m_pI7, ↓m_oI11, m_pI11, ↓m_oI12, m_pI12, ↓m_oI13, m_pI13, ↓m_oI14, m_pI14, ↓m_oI15, m_pI15, ↓m_oI16, m_pI16, ↓m_oI17, m_pI17, m_pZ5, m_pZ12, ↓m_oR1, m_aI1, m_sI1, ↓m_oR2, m_aI2, m_sI2, ↓m_oR4, m_aI4, m_sI4, ↓m_oR6, m_aI6, m_sI6, ↓m_oR8, m_aI8, m_sI8, ↓m_oR9, m_aI9, m_sI9, ↓m_oR10, m_aI10, m_sI10, X7_isTable_c, b2_t h1, e_call0 es, hg, e_call0 rb, ↓k1, ↓k2, ke, k15, b1, mu_nb, mu_at, mu_ni]
    · rw [if_neg hg]
      refine MR_q hs (mu M 0 0 2) (iv 0) ?_ mu_eq (fun q => by omega) qeff_0
      unfold fX7_removeTable
      simp (disch := omega) only [↓reduceIte, Int.reduceEq, Int.reduceNe, Int.reduceLT, Int.reduceLE, Int.reduceNeg, Int.reduceMod, Int.reduceDiv, Int.reduceAdd, Int.reduceSub, Int.reduceMul, not_true_eq_false, not_false_eq_true, Int.lt_irrefl, true_or, or_true, false_or, or_false, true_and, and_true, false_and, and_false, b2_T, b2_F, if_true, if_false, ↓mjn_b, ↓mjn0_b, ↓mjn2_b, iv_lit, iv_add, iv_sub, iv_mul, iv_neg, iv_le_t, iv_le_f, iv_lt_t, iv_lt_f, iv_eq_t, iv_eq_f, iv_div, iv_mod, mretT_p, mretT_b, e_mret, ↓e_bret, ↓m_mon, ↓m_oI0, m_pI0, ↓m_oI3, m_pI3, ↓m_oI5, m_pI5, ↓m_oI7, m_pI7, ↓m_oI11, m_pI11, ↓m_oI12, m_pI12, ↓m_oI13, m_pI13, ↓m_oI14, m_pI14, ↓m_oI15, m_pI15, ↓m_oI16, m_pI16, ↓m_oI17, m_pI17, m_pZ5, m_pZ12, ↓m_oR1, m_aI1, m_sI1, ↓m_oR2, m_aI2, m_sI2, ↓m_oR4, m_aI4, m_sI4, ↓m_oR6, m_aI6, m_sI6, ↓m_oR8, m_aI8, m_sI8, ↓m_oR9, m_aI9, m_sI9, ↓m_oR10, m_aI10, m_sI10, X7_isTable_c, b2_t h1, e_call0 es, mu_nb, mu_at, mu_ni]
  · rw [if_neg h1]
    refine MR_q hs (mu M 0 0 1) (iv 0) ?_ mu_eq (fun q => by omega) qeff_0
    unfold fX7_removeTable
    simp (disch := omega) only [↓reduceIte, Int.reduceEq, Int.reduceNe, Int.reduceLT, Int.reduceLE, Int.reduceNeg, Int.reduceMod, Int.reduceDiv, Int.reduceAdd, Int.reduceSub, Int.reduceMul, not_true_eq_false, not_false_eq_true, Int.lt_irrefl, true_or, or_true, false_or, or_false, true_and, and_true, false_and, and_false, b2_T, b2_F, if_true, if_false, ↓mjn_b, ↓mjn0_b, ↓mjn2_b, iv_lit, iv_add, iv_sub, iv_mul, iv_neg, iv_le_t, iv_le_f, iv_lt_t, iv_lt_f, iv_eq_t, iv_eq_f, iv_div, iv_mod, mretT_p, mretT_b, e_mret, ↓e_bret, ↓m_mon, ↓m_oI0, m_pI0, ↓m_oI3, m_pI3, ↓m_oI5, m_pI5, ↓m_oI7, m_pI7, ↓m_oI11, m_pI11, ↓m_oI12, m_pI12, ↓m_oI13, m_pI13, ↓m_oI14, m_pI14, ↓m_oI15, m_pI15, ↓m_oI16, m_pI16, ↓m_oI17, m_pI17, m_pZ5, m_pZ12, ↓m_oR1, m_aI1, m_sI1, ↓m_oR2, m_aI2, m_sI2, ↓m_oR4, m_aI4, m_sI4, ↓m_oR6, m_aI6, m_sI6, ↓m_oR8, m_aI8, m_sI8, ↓m_oR9, m_aI9, m_sI9, ↓m_oR10, m_aI10, m_sI10, X7_isTable_c, b2_f h1, mu_nb, mu_at, mu_ni]
noncomputable def o_addGuest (x : XS) (v : Int) : Int × Int × XS := @ite (Int × Int × XS) (1 ≤ v ∧ v ≤ 9) (Classical.propDecidable _) (@ite (Int × Int × XS) (x.1 60 = 30 ∨ ¬ isn x.2.2.2.1 x.2.2.2.2) (Classical.propDecidable _) (2, 0, x) (0, x.1 60, (zgst x.1 v x.2.2.2.2 x.2.2.2.1, xpush x.2.1 x.1, x.2.2.1, x.2.2.2.1, 0))) (1, 0, x)
theorem MR_addGuest {g : Nat → Nat} {h : Nat → Option hC} {n m : Nat} {M : Mm} {x : XS} {v : Int} (hs : MS M x) (hv : -2147483648 ≤ v ∧ v < 2147483648) : MR m h n (fX7_addGuest g (some m) (iv v) (md m M h, n, 0)) (o_addGuest x v) := by
  have hz := MS_z hs
  have hx := hs.1
  unfold o_addGuest
  rw [hx]
  have h15 := wZ_15 hz
  have h60 := wZ_60 hz
  have hh := hz.1
  obtain ⟨t6, t7, ht⟩ := hs.2.2.2.2
  have hwX : wX M := by unfold wX; rw [t6, t7]; exact ht
  have en := X7_isName_ev (g := g) (h := h) (n := n) (w := 0) (m := m) hwX
  rw [t6, t7] at en
  by_cases hg : 1 ≤ v ∧ v ≤ 9
  · rw [if_pos hg]
    by_cases h30 : M 1 60 = 30
    · rw [if_pos (Or.inl h30)]
      refine MR_q hs (mu M 0 0 2) (iv 0) ?_ mu_eq (fun q => by omega) qeff_0
      unfold fX7_addGuest
      simp (disch := omega) only [↓reduceIte, Int.reduceEq, Int.reduceNe, Int.reduceLT, Int.reduceLE, Int.reduceNeg, Int.reduceMod, Int.reduceDiv, Int.reduceAdd, Int.reduceSub, Int.reduceMul, not_true_eq_false, not_false_eq_true, Int.lt_irrefl, true_or, or_true, false_or, or_false, true_and, and_true, false_and, and_false, b2_T, b2_F, if_true, if_false, ↓mjn_b, ↓mjn0_b, ↓mjn2_b, iv_lit, iv_add, iv_sub, iv_mul, iv_neg, iv_le_t, iv_le_f, iv_lt_t, iv_lt_f, iv_eq_t, iv_eq_f, iv_div, iv_mod, mretT_p, mretT_b, e_mret, ↓e_bret, ↓m_mon, ↓m_oI0, m_pI0, ↓m_oI3, m_pI3, ↓m_oI5, m_pI5, ↓m_oI7, m_pI7, ↓m_oI11, m_pI11, ↓m_oI12, m_pI12, ↓m_oI13, m_pI13, ↓m_oI14, m_pI14, ↓m_oI15, m_pI15, ↓m_oI16, m_pI16, ↓m_oI17, m_pI17, m_pZ5, m_pZ12, ↓m_oR1, m_aI1, m_sI1, ↓m_oR2, m_aI2, m_sI2, ↓m_oR4, m_aI4, m_sI4, ↓m_oR6, m_aI6, m_sI6, ↓m_oR8, m_aI8, m_sI8, ↓m_oR9, m_aI9, m_sI9, ↓m_oR10, m_aI10, m_sI10, X7_in_c, b2_t hg, h30, mu_nb, mu_at, mu_ni]
    · by_cases hn : isn x.2.2.2.1 x.2.2.2.2
      · rw [if_neg (fun q => q.elim h30 (fun w => w hn))]
        have hn2 := hn.1
        rw [b2_t hn] at en
        obtain ⟨Mb, rb, b1, b0, bu, bj, b6⟩ := rec_u (g := g) (h := h) (n := n) (m := m) hs (qsm_rf) (zeq_rf)
        have b7 : Mb 0 7 = x.2.2.2.2 := by rw [bj 7 (by omega) (by omega), t7]
        have k1 := fun (K : HM Int32) => X7_addGuest_L96_ev (g := g) (h := h) (n := n) (w := 0) (m := m) (K := K) (x := M 1 60) (l := x.2.2.2.2) (by omega) (by omega) 14 5000 (mu (mu (mu (mu Mb 1 (61 + 18 * M 1 60 + 0) v) 1 (61 + 18 * M 1 60 + 1) (-1)) 1 (61 + 18 * M 1 60 + 2) (-1)) 1 (61 + 18 * M 1 60 + 3) x.2.2.2.2) 0 (by omega) (by omega) (by omega) (by rw [mu_nb (by decide), mu_nb (by decide), mu_nb (by decide), mu_nb (by decide), b7])
        rw [mu_ob (show (6 : Nat) ≠ 1 by decide), mu_ob (show (6 : Nat) ≠ 1 by decide), mu_ob (show (6 : Nat) ≠ 1 by decide), mu_ob (show (6 : Nat) ≠ 1 by decide), b6, t6] at k1
        have ke := zgst_eq (T := x.2.2.2.1) (v := v) (l := x.2.2.2.2) b1 (by omega)
        have kq : ∀ b, b ≠ 1 → (mu (mu (cpy (mu (mu (mu (mu Mb 1 (61 + 18 * M 1 60 + 0) v) 1 (61 + 18 * M 1 60 + 1) (-1)) 1 (61 + 18 * M 1 60 + 2) (-1)) 1 (61 + 18 * M 1 60 + 3) x.2.2.2.2) 1 (61 + 18 * M 1 60 + (4 + 0)) (61 + 18 * M 1 60 + 18) (fun j => if j - (61 + 18 * M 1 60 + 4) < x.2.2.2.2 then x.2.2.2.1 (j - (61 + 18 * M 1 60 + 4)) else 0)) 1 (601 + M 1 60) 0) 1 60 (M 1 60 + 1)) b = Mb b := fun b q => by
          rw [mu_ob q, mu_ob q, cpy_ob q, mu_ob q, mu_ob q, mu_ob q, mu_ob q]
        have kz : ∀ i, (i = 60 ∨ i = 601 + M 1 60) → (cpy (mu (mu (mu (mu Mb 1 (61 + 18 * M 1 60 + 0) v) 1 (61 + 18 * M 1 60 + 1) (-1)) 1 (61 + 18 * M 1 60 + 2) (-1)) 1 (61 + 18 * M 1 60 + 3) x.2.2.2.2) 1 (61 + 18 * M 1 60 + (4 + 0)) (61 + 18 * M 1 60 + 18) (fun j => if j - (61 + 18 * M 1 60 + 4) < x.2.2.2.2 then x.2.2.2.1 (j - (61 + 18 * M 1 60 + 4)) else 0)) 1 i = M 1 i := fun i hi => by
          rw [cpy_out (by omega), mu_ni (by omega), mu_ni (by omega), mu_ni (by omega), mu_ni (by omega), b1]
        generalize hC : cpy (mu (mu (mu (mu Mb 1 (61 + 18 * M 1 60 + 0) v) 1 (61 + 18 * M 1 60 + 1) (-1)) 1 (61 + 18 * M 1 60 + 2) (-1)) 1 (61 + 18 * M 1 60 + 3) x.2.2.2.2) 1 (61 + 18 * M 1 60 + (4 + 0)) (61 + 18 * M 1 60 + 18) (fun j => if j - (61 + 18 * M 1 60 + 4) < x.2.2.2.2 then x.2.2.2.1 (j - (61 + 18 * M 1 60 + 4)) else 0) = C at k1 ke kq kz
        have kz1 := kz 60 (Or.inl rfl)
        obtain ⟨A, B⟩ := MS_u hs (ueff_tr bu (qsm_b kq)) (z' := zgst (M 1) v x.2.2.2.2 x.2.2.2.1) (by rw [ke]; exact zeq_rf) (wZ_gst hz (by omega) hg hn)
        refine ⟨mu (mu (mu C 1 (601 + M 1 60) 0) 1 60 (M 1 60 + 1)) 0 7 0, iv (M 1 60), ?_, ?_, fun _ => rfl, _, MS_7 A, ?_⟩
        · unfold fX7_addGuest
          simp (disch := omega) only [↓reduceIte, Int.reduceEq, Int.reduceNe, Int.reduceLT, Int.reduceLE, Int.reduceNeg, Int.reduceMod, Int.reduceDiv, Int.reduceAdd, Int.reduceSub, Int.reduceMul, not_true_eq_false, not_false_eq_true, Int.lt_irrefl, true_or, or_true, false_or, or_false, true_and, and_true, false_and, and_false, b2_T, b2_F, if_true, if_false, ↓mjn_b, ↓mjn0_b, ↓mjn2_b, iv_lit, iv_add, iv_sub, iv_mul, iv_neg, iv_le_t, iv_le_f, iv_lt_t, iv_lt_f, iv_eq_t, iv_eq_f, iv_div, iv_mod, mretT_p, mretT_b, e_mret, ↓e_bret, ↓m_mon, ↓m_oI0, m_pI0, ↓m_oI3, m_pI3, ↓m_oI5, m_pI5, ↓m_oI7, m_pI7, ↓m_oI11, m_pI11, ↓m_oI12, m_pI12, ↓m_oI13, m_pI13, ↓m_oI14, m_pI14, ↓m_oI15, m_pI15, ↓m_oI16, m_pI16, ↓m_oI17, m_pI17, m_pZ5, m_pZ12, ↓m_oR1, m_aI1, m_sI1, ↓m_oR2, m_aI2, m_sI2, ↓m_oR4, m_aI4, m_sI4, ↓m_oR6, m_aI6, m_sI6, ↓m_oR8, m_aI8, m_sI8, ↓m_oR9, m_aI9, m_sI9, ↓m_oR10, m_aI10, m_sI10, X7_in_c, b2_t hg, e_call0 en, e_call0 rb, X7_setGuest_c, ↓k1, kz1, b1, b7, mu_nb, mu_at, mu_ni]
        · rw [mu_ni (by omega), kq 0 (by decide), b0]
        · refine ⟨B.1, ?_⟩
          exact congrArg (fun q => (xpush x.2.1 q, x.2.2.1, x.2.2.2.1, (0 : Int))) hx
      · rw [if_pos (Or.inr hn)]
        rw [b2_f hn] at en
        refine MR_q hs (mu M 0 0 2) (iv 0) ?_ mu_eq (fun q => by omega) qeff_0
        unfold fX7_addGuest
        simp (disch := omega) only [↓reduceIte, Int.reduceEq, Int.reduceNe, Int.reduceLT, Int.reduceLE, Int.reduceNeg, Int.reduceMod, Int.reduceDiv, Int.reduceAdd, Int.reduceSub, Int.reduceMul, not_true_eq_false, not_false_eq_true, Int.lt_irrefl, true_or, or_true, false_or, or_false, true_and, and_true, false_and, and_false, b2_T, b2_F, if_true, if_false, ↓mjn_b, ↓mjn0_b, ↓mjn2_b, iv_lit, iv_add, iv_sub, iv_mul, iv_neg, iv_le_t, iv_le_f, iv_lt_t, iv_lt_f, iv_eq_t, iv_eq_f, iv_div, iv_mod, mretT_p, mretT_b, e_mret, ↓e_bret, ↓m_mon, ↓m_oI0, m_pI0, ↓m_oI3, m_pI3, ↓m_oI5, m_pI5, ↓m_oI7, m_pI7, ↓m_oI11, m_pI11, ↓m_oI12, m_pI12, ↓m_oI13, m_pI13, ↓m_oI14, m_pI14, ↓m_oI15, m_pI15, ↓m_oI16, m_pI16, ↓m_oI17, m_pI17, m_pZ5, m_pZ12, ↓m_oR1, m_aI1, m_sI1, ↓m_oR2, m_aI2, m_sI2, ↓m_oR4, m_aI4, m_sI4, ↓m_oR6, m_aI6, m_sI6, ↓m_oR8, m_aI8, m_sI8, ↓m_oR9, m_aI9, m_sI9, ↓m_oR10, m_aI10, m_sI10, X7_in_c, b2_t hg, e_call0 en, mu_nb, mu_at, mu_ni]
  · rw [if_neg hg]
    refine MR_q hs (mu M 0 0 1) (iv 0) ?_ mu_eq (fun q => by omega) qeff_0
    unfold fX7_addGuest
    simp (disch := omega) only [↓reduceIte, Int.reduceEq, Int.reduceNe, Int.reduceLT, Int.reduceLE, Int.reduceNeg, Int.reduceMod, Int.reduceDiv, Int.reduceAdd, Int.reduceSub, Int.reduceMul, not_true_eq_false, not_false_eq_true, Int.lt_irrefl, true_or, or_true, false_or, or_false, true_and, and_true, false_and, and_false, b2_T, b2_F, if_true, if_false, ↓mjn_b, ↓mjn0_b, ↓mjn2_b, iv_lit, iv_add, iv_sub, iv_mul, iv_neg, iv_le_t, iv_le_f, iv_lt_t, iv_lt_f, iv_eq_t, iv_eq_f, iv_div, iv_mod, mretT_p, mretT_b, e_mret, ↓e_bret, ↓m_mon, ↓m_oI0, m_pI0, ↓m_oI3, m_pI3, ↓m_oI5, m_pI5, ↓m_oI7, m_pI7, ↓m_oI11, m_pI11, ↓m_oI12, m_pI12, ↓m_oI13, m_pI13, ↓m_oI14, m_pI14, ↓m_oI15, m_pI15, ↓m_oI16, m_pI16, ↓m_oI17, m_pI17, m_pZ5, m_pZ12, ↓m_oR1, m_aI1, m_sI1, ↓m_oR2, m_aI2, m_sI2, ↓m_oR4, m_aI4, m_sI4, ↓m_oR6, m_aI6, m_sI6, ↓m_oR8, m_aI8, m_sI8, ↓m_oR9, m_aI9, m_sI9, ↓m_oR10, m_aI10, m_sI10, X7_in_c, b2_f hg, mu_nb, mu_at, mu_ni]
noncomputable def o_seat (x : XS) (y : Int) (t : Int) (c : Int) : Int × Int × XS := @ite (Int × Int × XS) ((0 ≤ y ∧ y ≤ x.1 60 - 1) ∧ isCh x.1 t c) (Classical.propDecidable _) (@ite (Int × Int × XS) (nse x.1 y t c = 0) (Classical.propDecidable _) (0, chT x.1 t c, xupd x (zput x.1 y t c)) (2, 0, x)) (1, 0, x)
theorem MR_seat {g : Nat → Nat} {h : Nat → Option hC} {n m : Nat} {M : Mm} {x : XS} {y t c : Int} (hs : MS M x) (hy : -2147483648 ≤ y ∧ y < 2147483648) (ht : -2147483648 ≤ t ∧ t < 2147483648) (hc : -2147483648 ≤ c ∧ c < 2147483648) : MR m h n (fX7_seat g (some m) (iv y) (iv t) (iv c) (md m M h, n, 0)) (o_seat x y t c) := by
  have hz := MS_z hs
  have hx := hs.1
  unfold o_seat
  rw [hx]
  have h15 := wZ_15 hz
  have h60 := wZ_60 hz
  have hh := hz.1
  have ec := X7_isChair_ev (g := g) (h := h) (n := n) (w := 0) (m := m) (M := M) hz ht hc
  by_cases hg : 0 ≤ y ∧ y ≤ M 1 60 - 1
  · have hy2 : 0 ≤ y ∧ y < M 1 60 := by omega
    by_cases hi0 : isCh (M 1) t c
    · rw [if_pos ⟨hg, hi0⟩]
      have hg2 := hi0
      unfold isCh at hg2
      have hcn := chN_rg (zk (M 1) t)
      have hnr := nse_rg (z := M 1) (g := y) (t := t) (c := c)
      have en := X7_noSeat_ev (g := g) (h := h) (n := n) (w := 0) (m := m) hz hy2 hg2.1 (c := c) (by omega)
      by_cases hn : nse (M 1) y t c = 0
      · rw [if_pos hn]
        obtain ⟨Mb, rb, b1, b0, bu, bj, b6⟩ := rec_u (g := g) (h := h) (n := n) (m := m) hs (qsm_rf) (zeq_rf)
        have ep := X7_put_ev (g := g) (h := h) (n := n) (w := 0) (m := m) (M := Mb) (x := y) (t := t) (c := c) (by omega)
        have ez : (mu (mu Mb 1 (61 + 18 * y + 1) t) 1 (61 + 18 * y + 2) c) 1 = zput (M 1) y t c := by rw [mu_put, b1]
        have e1 := X7_cellOfChair_ev (g := g) (h := h) (n := n) (w := 0) (m := m) (M := mu (mu Mb 1 (61 + 18 * y + 1) t) 1 (61 + 18 * y + 2) c) (t := t) (c := c) (by omega) (by rw [ez]; unfold wT zk zp zt zf; rw [zput_lo hg.1 (by omega), zput_lo hg.1 (by omega), zput_lo hg.1 (by omega), zput_lo hg.1 (by omega)]; exact wZ_t hz hg2.1) (by omega)
        have e2 : chT (zput (M 1) y t c) t c = chT (M 1) t c := by unfold chT zk zp zt; rw [zput_lo hg.1 (by omega), zput_lo hg.1 (by omega), zput_lo hg.1 (by omega)]
        rw [ez, e2] at e1
        refine MR_u hs bu b0 (mu (mu Mb 1 (61 + 18 * y + 1) t) 1 (61 + 18 * y + 2) c) ?_ (qsm_b (fun b q => by rw [mu_ob q, mu_ob q])) (by rw [ez]; exact zeq_rf) (wZ_put hz hy2 (Or.inr ⟨hg2.1, hg2.2⟩) (fun _ a u v _ q => nse_0 h60.1 hn a u v q))
        unfold fX7_seat
        simp (disch := omega) only [↓reduceIte, Int.reduceEq, Int.reduceNe, Int.reduceLT, Int.reduceLE, Int.reduceNeg, Int.reduceMod, Int.reduceDiv, Int.reduceAdd, Int.reduceSub, Int.reduceMul, not_true_eq_false, not_false_eq_true, Int.lt_irrefl, true_or, or_true, false_or, or_false, true_and, and_true, false_and, and_false, b2_T, b2_F, if_true, if_false, ↓mjn_b, ↓mjn0_b, ↓mjn2_b, iv_lit, iv_add, iv_sub, iv_mul, iv_neg, iv_le_t, iv_le_f, iv_lt_t, iv_lt_f, iv_eq_t, iv_eq_f, iv_div, iv_mod, mretT_p, mretT_b, e_mret, ↓e_bret, ↓m_mon, ↓m_oI0, m_pI0, ↓m_oI3, m_pI3, ↓m_oI5, m_pI5, ↓m_oI7, m_pI7, ↓m_oI11, m_pI11, ↓m_oI12, m_pI12, ↓m_oI13, m_pI13, ↓m_oI14, m_pI14, ↓m_oI15, m_pI15, ↓m_oI16, m_pI16, ↓m_oI17, m_pI17, m_pZ5, m_pZ12, ↓m_oR1, m_aI1, m_sI1, ↓m_oR2, m_aI2, m_sI2, ↓m_oR4, m_aI4, m_sI4, ↓m_oR6, m_aI6, m_sI6, ↓m_oR8, m_aI8, m_sI8, ↓m_oR9, m_aI9, m_sI9, ↓m_oR10, m_aI10, m_sI10, X7_isGuest_c, b2_t hg, e_call0 ec, b2_t hi0, e_call0 en, hn, e_call0 rb, e_call0 ep, e_call0 e1, mu_nb, mu_at, mu_ni]
      · rw [if_neg hn]
        refine MR_q hs (mu M 0 0 2) (iv 0) ?_ mu_eq (fun q => by omega) qeff_0
        unfold fX7_seat
        simp (disch := omega) only [↓reduceIte, Int.reduceEq, Int.reduceNe, Int.reduceLT, Int.reduceLE, Int.reduceNeg, Int.reduceMod, Int.reduceDiv, Int.reduceAdd, Int.reduceSub, Int.reduceMul, not_true_eq_false, not_false_eq_true, Int.lt_irrefl, true_or, or_true, false_or, or_false, true_and, and_true, false_and, and_false, b2_T, b2_F, if_true, if_false, ↓mjn_b, ↓mjn0_b, ↓mjn2_b, iv_lit, iv_add, iv_sub, iv_mul, iv_neg, iv_le_t, iv_le_f, iv_lt_t, iv_lt_f, iv_eq_t, iv_eq_f, iv_div, iv_mod, mretT_p, mretT_b, e_mret, ↓e_bret, ↓m_mon, ↓m_oI0, m_pI0, ↓m_oI3, m_pI3, ↓m_oI5, m_pI5, ↓m_oI7, m_pI7, ↓m_oI11, m_pI11, ↓m_oI12, m_pI12, ↓m_oI13, m_pI13, ↓m_oI14, m_pI14, ↓m_oI15, m_pI15, ↓m_oI16, m_pI16, ↓m_oI17, m_pI17, m_pZ5, m_pZ12, ↓m_oR1, m_aI1, m_sI1, ↓m_oR2, m_aI2, m_sI2, ↓m_oR4, m_aI4, m_sI4, ↓m_oR6, m_aI6, m_sI6, ↓m_oR8, m_aI8, m_sI8, ↓m_oR9, m_aI9, m_sI9, ↓m_oR10, m_aI10, m_sI10, X7_isGuest_c, b2_t hg, e_call0 ec, b2_t hi0, e_call0 en, mu_nb, mu_at, mu_ni]
    · rw [if_neg (fun q => hi0 q.2)]
      refine MR_q hs (mu M 0 0 1) (iv 0) ?_ mu_eq (fun q => by omega) qeff_0
      unfold fX7_seat
      simp (disch := omega) only [↓reduceIte, Int.reduceEq, Int.reduceNe, Int.reduceLT, Int.reduceLE, Int.reduceNeg, Int.reduceMod, Int.reduceDiv, Int.reduceAdd, Int.reduceSub, Int.reduceMul, not_true_eq_false, not_false_eq_true, Int.lt_irrefl, true_or, or_true, false_or, or_false, true_and, and_true, false_and, and_false, b2_T, b2_F, if_true, if_false, ↓mjn_b, ↓mjn0_b, ↓mjn2_b, iv_lit, iv_add, iv_sub, iv_mul, iv_neg, iv_le_t, iv_le_f, iv_lt_t, iv_lt_f, iv_eq_t, iv_eq_f, iv_div, iv_mod, mretT_p, mretT_b, e_mret, ↓e_bret, ↓m_mon, ↓m_oI0, m_pI0, ↓m_oI3, m_pI3, ↓m_oI5, m_pI5, ↓m_oI7, m_pI7, ↓m_oI11, m_pI11, ↓m_oI12, m_pI12, ↓m_oI13, m_pI13, ↓m_oI14, m_pI14, ↓m_oI15, m_pI15, ↓m_oI16, m_pI16, ↓m_oI17, m_pI17, m_pZ5, m_pZ12, ↓m_oR1, m_aI1, m_sI1, ↓m_oR2, m_aI2, m_sI2, ↓m_oR4, m_aI4, m_sI4, ↓m_oR6, m_aI6, m_sI6, ↓m_oR8, m_aI8, m_sI8, ↓m_oR9, m_aI9, m_sI9, ↓m_oR10, m_aI10, m_sI10, X7_isGuest_c, b2_t hg, e_call0 ec, b2_f hi0, mu_nb, mu_at, mu_ni]
  · rw [if_neg (fun q => hg q.1)]
    refine MR_q hs (mu M 0 0 1) (iv 0) ?_ mu_eq (fun q => by omega) qeff_0
    unfold fX7_seat
    simp (disch := omega) only [↓reduceIte, Int.reduceEq, Int.reduceNe, Int.reduceLT, Int.reduceLE, Int.reduceNeg, Int.reduceMod, Int.reduceDiv, Int.reduceAdd, Int.reduceSub, Int.reduceMul, not_true_eq_false, not_false_eq_true, Int.lt_irrefl, true_or, or_true, false_or, or_false, true_and, and_true, false_and, and_false, b2_T, b2_F, if_true, if_false, ↓mjn_b, ↓mjn0_b, ↓mjn2_b, iv_lit, iv_add, iv_sub, iv_mul, iv_neg, iv_le_t, iv_le_f, iv_lt_t, iv_lt_f, iv_eq_t, iv_eq_f, iv_div, iv_mod, mretT_p, mretT_b, e_mret, ↓e_bret, ↓m_mon, ↓m_oI0, m_pI0, ↓m_oI3, m_pI3, ↓m_oI5, m_pI5, ↓m_oI7, m_pI7, ↓m_oI11, m_pI11, ↓m_oI12, m_pI12, ↓m_oI13, m_pI13, ↓m_oI14, m_pI14, ↓m_oI15, m_pI15, ↓m_oI16, m_pI16, ↓m_oI17, m_pI17, m_pZ5, m_pZ12, ↓m_oR1, m_aI1, m_sI1, ↓m_oR2, m_aI2, m_sI2, ↓m_oR4, m_aI4, m_sI4, ↓m_oR6, m_aI6, m_sI6, ↓m_oR8, m_aI8, m_sI8, ↓m_oR9, m_aI9, m_sI9, ↓m_oR10, m_aI10, m_sI10, X7_isGuest_c, b2_f hg, mu_nb, mu_at, mu_ni]
noncomputable def o_unseat (x : XS) (y : Int) : Int × Int × XS := @ite (Int × Int × XS) (0 ≤ y ∧ y ≤ x.1 60 - 1) (Classical.propDecidable _) (@ite (Int × Int × XS) (sits x.1 y) (Classical.propDecidable _) (0, cgl x.1 y, xupd x (zput x.1 y (-1) (-1))) (2, 0, x)) (1, 0, x)
theorem MR_unseat {g : Nat → Nat} {h : Nat → Option hC} {n m : Nat} {M : Mm} {x : XS} {y : Int} (hs : MS M x) (hy : -2147483648 ≤ y ∧ y < 2147483648) : MR m h n (fX7_unseat g (some m) (iv y) (md m M h, n, 0)) (o_unseat x y) := by
  have hz := MS_z hs
  have hx := hs.1
  unfold o_unseat
  rw [hx]
  have h15 := wZ_15 hz
  have h60 := wZ_60 hz
  have hh := hz.1
  by_cases hg : 0 ≤ y ∧ y ≤ M 1 60 - 1
  · have hy2 : 0 ≤ y ∧ y < M 1 60 := by omega
    rw [if_pos hg]
    by_cases hn : sits (M 1) y
    · rw [if_pos hn]
      obtain ⟨Mb, rb, b1, b0, bu, bj, b6⟩ := rec_u (g := g) (h := h) (n := n) (m := m) hs (qsm_rf) (zeq_rf)
      have ep := X7_put_ev (g := g) (h := h) (n := n) (w := 0) (m := m) (M := Mb) (x := y) (t := -1) (c := -1) (by omega)
      have ec := X7_cellOfGuest_ev (g := g) (h := h) (n := n) (w := 0) (m := m) (M := Mb) (x := y) (by rw [b1]; exact hz) (by rw [b1]; exact hy2) (by rw [b1]; exact hn)
      rw [b1] at ec
      refine MR_u hs bu b0 (mu (mu Mb 1 (61 + 18 * y + 1) (-1)) 1 (61 + 18 * y + 2) (-1)) ?_ (qsm_b (fun b q => by rw [mu_ob q, mu_ob q])) (by rw [mu_put, b1]; exact zeq_rf) (wZ_put hz hy2 (Or.inl ⟨rfl, rfl⟩) (fun q => absurd rfl q))
      unfold fX7_unseat
      simp (disch := omega) only [↓reduceIte, Int.reduceEq, Int.reduceNe, Int.reduceLT, Int.reduceLE, Int.reduceNeg, Int.reduceMod, Int.reduceDiv, Int.reduceAdd, Int.reduceSub, Int.reduceMul, not_true_eq_false, not_false_eq_true, Int.lt_irrefl, true_or, or_true, false_or, or_false, true_and, and_true, false_and, and_false, b2_T, b2_F, if_true, if_false, ↓mjn_b, ↓mjn0_b, ↓mjn2_b, iv_lit, iv_add, iv_sub, iv_mul, iv_neg, iv_le_t, iv_le_f, iv_lt_t, iv_lt_f, iv_eq_t, iv_eq_f, iv_div, iv_mod, mretT_p, mretT_b, e_mret, ↓e_bret, ↓m_mon, ↓m_oI0, m_pI0, ↓m_oI3, m_pI3, ↓m_oI5, m_pI5, ↓m_oI7, m_pI7, ↓m_oI11, m_pI11, ↓m_oI12, m_pI12, ↓m_oI13, m_pI13, ↓m_oI14, m_pI14, ↓m_oI15, m_pI15, ↓m_oI16, m_pI16, ↓m_oI17, m_pI17, m_pZ5, m_pZ12, ↓m_oR1, m_aI1, m_sI1, ↓m_oR2, m_aI2, m_sI2, ↓m_oR4, m_aI4, m_sI4, ↓m_oR6, m_aI6, m_sI6, ↓m_oR8, m_aI8, m_sI8, ↓m_oR9, m_aI9, m_sI9, ↓m_oR10, m_aI10, m_sI10, X7_isGuest_c, b2_t hg, X7_sits_b hz hy2, b2_t hn, e_call0 rb, e_call0 ep, e_call0 ec, mu_nb, mu_at, mu_ni]
    · rw [if_neg hn]
      refine MR_q hs (mu M 0 0 2) (iv 0) ?_ mu_eq (fun q => by omega) qeff_0
      unfold fX7_unseat
      simp (disch := omega) only [↓reduceIte, Int.reduceEq, Int.reduceNe, Int.reduceLT, Int.reduceLE, Int.reduceNeg, Int.reduceMod, Int.reduceDiv, Int.reduceAdd, Int.reduceSub, Int.reduceMul, not_true_eq_false, not_false_eq_true, Int.lt_irrefl, true_or, or_true, false_or, or_false, true_and, and_true, false_and, and_false, b2_T, b2_F, if_true, if_false, ↓mjn_b, ↓mjn0_b, ↓mjn2_b, iv_lit, iv_add, iv_sub, iv_mul, iv_neg, iv_le_t, iv_le_f, iv_lt_t, iv_lt_f, iv_eq_t, iv_eq_f, iv_div, iv_mod, mretT_p, mretT_b, e_mret, ↓e_bret, ↓m_mon, ↓m_oI0, m_pI0, ↓m_oI3, m_pI3, ↓m_oI5, m_pI5, ↓m_oI7, m_pI7, ↓m_oI11, m_pI11, ↓m_oI12, m_pI12, ↓m_oI13, m_pI13, ↓m_oI14, m_pI14, ↓m_oI15, m_pI15, ↓m_oI16, m_pI16, ↓m_oI17, m_pI17, m_pZ5, m_pZ12, ↓m_oR1, m_aI1, m_sI1, ↓m_oR2, m_aI2, m_sI2, ↓m_oR4, m_aI4, m_sI4, ↓m_oR6, m_aI6, m_sI6, ↓m_oR8, m_aI8, m_sI8, ↓m_oR9, m_aI9, m_sI9, ↓m_oR10, m_aI10, m_sI10, X7_isGuest_c, b2_t hg, X7_sits_b hz hy2, b2_f hn, mu_nb, mu_at, mu_ni]
  · rw [if_neg hg]
    refine MR_q hs (mu M 0 0 1) (iv 0) ?_ mu_eq (fun q => by omega) qeff_0
    unfold fX7_unseat
    simp (disch := omega) only [↓reduceIte, Int.reduceEq, Int.reduceNe, Int.reduceLT, Int.reduceLE, Int.reduceNeg, Int.reduceMod, Int.reduceDiv, Int.reduceAdd, Int.reduceSub, Int.reduceMul, not_true_eq_false, not_false_eq_true, Int.lt_irrefl, true_or, or_true, false_or, or_false, true_and, and_true, false_and, and_false, b2_T, b2_F, if_true, if_false, ↓mjn_b, ↓mjn0_b, ↓mjn2_b, iv_lit, iv_add, iv_sub, iv_mul, iv_neg, iv_le_t, iv_le_f, iv_lt_t, iv_lt_f, iv_eq_t, iv_eq_f, iv_div, iv_mod, mretT_p, mretT_b, e_mret, ↓e_bret, ↓m_mon, ↓m_oI0, m_pI0, ↓m_oI3, m_pI3, ↓m_oI5, m_pI5, ↓m_oI7, m_pI7, ↓m_oI11, m_pI11, ↓m_oI12, m_pI12, ↓m_oI13, m_pI13, ↓m_oI14, m_pI14, ↓m_oI15, m_pI15, ↓m_oI16, m_pI16, ↓m_oI17, m_pI17, m_pZ5, m_pZ12, ↓m_oR1, m_aI1, m_sI1, ↓m_oR2, m_aI2, m_sI2, ↓m_oR4, m_aI4, m_sI4, ↓m_oR6, m_aI6, m_sI6, ↓m_oR8, m_aI8, m_sI8, ↓m_oR9, m_aI9, m_sI9, ↓m_oR10, m_aI10, m_sI10, X7_isGuest_c, b2_f hg, mu_nb, mu_at, mu_ni]
noncomputable def o_swapGuests (x : XS) (y : Int) (k : Int) : Int × Int × XS := @ite (Int × Int × XS) ((0 ≤ y ∧ y ≤ x.1 60 - 1) ∧ 0 ≤ k ∧ k ≤ x.1 60 - 1) (Classical.propDecidable _) (@ite (Int × Int × XS) (nsw x.1 y k = 0) (Classical.propDecidable _) (0, seez (zswp x.1 y k) - seez x.1, xupd x (zswp x.1 y k)) (2, 0, x)) (1, 0, x)
theorem MR_swapGuests {g : Nat → Nat} {h : Nat → Option hC} {n m : Nat} {M : Mm} {x : XS} {y k : Int} (hs : MS M x) (hy : -2147483648 ≤ y ∧ y < 2147483648) (hk : -2147483648 ≤ k ∧ k < 2147483648) : MR m h n (fX7_swapGuests g (some m) (iv y) (iv k) (md m M h, n, 0)) (o_swapGuests x y k) := by
  have hz := MS_z hs
  have hx := hs.1
  unfold o_swapGuests
  rw [hx]
  have h15 := wZ_15 hz
  have h60 := wZ_60 hz
  have hh := hz.1
  by_cases hg : 0 ≤ y ∧ y ≤ M 1 60 - 1
  · have hy2 : 0 ≤ y ∧ y < M 1 60 := by omega
    by_cases hi0 : 0 ≤ k ∧ k ≤ M 1 60 - 1
    · rw [if_pos ⟨hg, hi0⟩]
      have hk2 : 0 ≤ k ∧ k < M 1 60 := by omega
      have hnr := nsw_rg (z := M 1) (g := y) (t := k)
      have en := X7_noSwap_ev (g := g) (h := h) (n := n) (w := 0) (m := m) hz hy2 hk2
      by_cases hn : nsw (M 1) y k = 0
      · rw [if_pos hn]
        have hw := wZ_swp hz hy2 hk2 (nsw_0 hn)
        obtain ⟨Mb, rb, b1, b0, bu, bj, b6⟩ := rec_u (g := g) (h := h) (n := n) (m := m) hs (qsm_rf) (zeq_rf)
        obtain ⟨M1, s1, s2⟩ := X7_see_ev (g := g) (h := h) (n := n) (w := 0) (m := m) (M := Mb) (by rw [b1]; exact hz)
        obtain ⟨M2, k1, k2, k3⟩ := X7_swaps_ev (g := g) (h := h) (n := n) (w := 0) (m := m) (M := M1) (x := y) (y := k) (by omega) (by omega)
        rw [s2 1 (by decide) (by decide) (by decide), b1] at k3
        rw [b1] at s1
        obtain ⟨M3, r1, r2⟩ := X7_see_ev (g := g) (h := h) (n := n) (w := 0) (m := m) (M := M2) (by rw [k3]; exact hw)
        rw [k3] at r1
        refine MR_u hs bu b0 M3 ?_ (fun b b1 b8 b9 b10 => by rw [r2 b b8 b9 b10, k2 b b1, s2 b b8 b9 b10]) (by rw [r2 1 (by decide) (by decide) (by decide), k3]; exact zeq_rf) hw
        unfold fX7_swapGuests
        simp (disch := omega) only [↓reduceIte, Int.reduceEq, Int.reduceNe, Int.reduceLT, Int.reduceLE, Int.reduceNeg, Int.reduceMod, Int.reduceDiv, Int.reduceAdd, Int.reduceSub, Int.reduceMul, not_true_eq_false, not_false_eq_true, Int.lt_irrefl, true_or, or_true, false_or, or_false, true_and, and_true, false_and, and_false, b2_T, b2_F, if_true, if_false, ↓mjn_b, ↓mjn0_b, ↓mjn2_b, iv_lit, iv_add, iv_sub, iv_mul, iv_neg, iv_le_t, iv_le_f, iv_lt_t, iv_lt_f, iv_eq_t, iv_eq_f, iv_div, iv_mod, mretT_p, mretT_b, e_mret, ↓e_bret, ↓m_mon, ↓m_oI0, m_pI0, ↓m_oI3, m_pI3, ↓m_oI5, m_pI5, ↓m_oI7, m_pI7, ↓m_oI11, m_pI11, ↓m_oI12, m_pI12, ↓m_oI13, m_pI13, ↓m_oI14, m_pI14, ↓m_oI15, m_pI15, ↓m_oI16, m_pI16, ↓m_oI17, m_pI17, m_pZ5, m_pZ12, ↓m_oR1, m_aI1, m_sI1, ↓m_oR2, m_aI2, m_sI2, ↓m_oR4, m_aI4, m_sI4, ↓m_oR6, m_aI6, m_sI6, ↓m_oR8, m_aI8, m_sI8, ↓m_oR9, m_aI9, m_sI9, ↓m_oR10, m_aI10, m_sI10, X7_isGuest_c, b2_t hg, b2_t hi0, e_call0 en, hn, e_call0 rb, e_call0 s1, e_call0 k1, e_call0 r1, mu_nb, mu_at, mu_ni]
      · rw [if_neg hn]
        refine MR_q hs (mu M 0 0 2) (iv 0) ?_ mu_eq (fun q => by omega) qeff_0
        unfold fX7_swapGuests
        simp (disch := omega) only [↓reduceIte, Int.reduceEq, Int.reduceNe, Int.reduceLT, Int.reduceLE, Int.reduceNeg, Int.reduceMod, Int.reduceDiv, Int.reduceAdd, Int.reduceSub, Int.reduceMul, not_true_eq_false, not_false_eq_true, Int.lt_irrefl, true_or, or_true, false_or, or_false, true_and, and_true, false_and, and_false, b2_T, b2_F, if_true, if_false, ↓mjn_b, ↓mjn0_b, ↓mjn2_b, iv_lit, iv_add, iv_sub, iv_mul, iv_neg, iv_le_t, iv_le_f, iv_lt_t, iv_lt_f, iv_eq_t, iv_eq_f, iv_div, iv_mod, mretT_p, mretT_b, e_mret, ↓e_bret, ↓m_mon, ↓m_oI0, m_pI0, ↓m_oI3, m_pI3, ↓m_oI5, m_pI5, ↓m_oI7, m_pI7, ↓m_oI11, m_pI11, ↓m_oI12, m_pI12, ↓m_oI13, m_pI13, ↓m_oI14, m_pI14, ↓m_oI15, m_pI15, ↓m_oI16, m_pI16, ↓m_oI17, m_pI17, m_pZ5, m_pZ12, ↓m_oR1, m_aI1, m_sI1, ↓m_oR2, m_aI2, m_sI2, ↓m_oR4, m_aI4, m_sI4, ↓m_oR6, m_aI6, m_sI6, ↓m_oR8, m_aI8, m_sI8, ↓m_oR9, m_aI9, m_sI9, ↓m_oR10, m_aI10, m_sI10, X7_isGuest_c, b2_t hg, b2_t hi0, e_call0 en, mu_nb, mu_at, mu_ni]
    · rw [if_neg (fun q => hi0 q.2)]
      refine MR_q hs (mu M 0 0 1) (iv 0) ?_ mu_eq (fun q => by omega) qeff_0
      unfold fX7_swapGuests
      simp (disch := omega) only [↓reduceIte, Int.reduceEq, Int.reduceNe, Int.reduceLT, Int.reduceLE, Int.reduceNeg, Int.reduceMod, Int.reduceDiv, Int.reduceAdd, Int.reduceSub, Int.reduceMul, not_true_eq_false, not_false_eq_true, Int.lt_irrefl, true_or, or_true, false_or, or_false, true_and, and_true, false_and, and_false, b2_T, b2_F, if_true, if_false, ↓mjn_b, ↓mjn0_b, ↓mjn2_b, iv_lit, iv_add, iv_sub, iv_mul, iv_neg, iv_le_t, iv_le_f, iv_lt_t, iv_lt_f, iv_eq_t, iv_eq_f, iv_div, iv_mod, mretT_p, mretT_b, e_mret, ↓e_bret, ↓m_mon, ↓m_oI0, m_pI0, ↓m_oI3, m_pI3, ↓m_oI5, m_pI5, ↓m_oI7, m_pI7, ↓m_oI11, m_pI11, ↓m_oI12, m_pI12, ↓m_oI13, m_pI13, ↓m_oI14, m_pI14, ↓m_oI15, m_pI15, ↓m_oI16, m_pI16, ↓m_oI17, m_pI17, m_pZ5, m_pZ12, ↓m_oR1, m_aI1, m_sI1, ↓m_oR2, m_aI2, m_sI2, ↓m_oR4, m_aI4, m_sI4, ↓m_oR6, m_aI6, m_sI6, ↓m_oR8, m_aI8, m_sI8, ↓m_oR9, m_aI9, m_sI9, ↓m_oR10, m_aI10, m_sI10, X7_isGuest_c, b2_t hg, b2_f hi0, mu_nb, mu_at, mu_ni]
  · rw [if_neg (fun q => hg q.1)]
    refine MR_q hs (mu M 0 0 1) (iv 0) ?_ mu_eq (fun q => by omega) qeff_0
    unfold fX7_swapGuests
    simp (disch := omega) only [↓reduceIte, Int.reduceEq, Int.reduceNe, Int.reduceLT, Int.reduceLE, Int.reduceNeg, Int.reduceMod, Int.reduceDiv, Int.reduceAdd, Int.reduceSub, Int.reduceMul, not_true_eq_false, not_false_eq_true, Int.lt_irrefl, true_or, or_true, false_or, or_false, true_and, and_true, false_and, and_false, b2_T, b2_F, if_true, if_false, ↓mjn_b, ↓mjn0_b, ↓mjn2_b, iv_lit, iv_add, iv_sub, iv_mul, iv_neg, iv_le_t, iv_le_f, iv_lt_t, iv_lt_f, iv_eq_t, iv_eq_f, iv_div, iv_mod, mretT_p, mretT_b, e_mret, ↓e_bret, ↓m_mon, ↓m_oI0, m_pI0, ↓m_oI3, m_pI3, ↓m_oI5, m_pI5, ↓m_oI7, m_pI7, ↓m_oI11, m_pI11, ↓m_oI12, m_pI12, ↓m_oI13, m_pI13, ↓m_oI14, m_pI14, ↓m_oI15, m_pI15, ↓m_oI16, m_pI16, ↓m_oI17, m_pI17, m_pZ5, m_pZ12, ↓m_oR1, m_aI1, m_sI1, ↓m_oR2, m_aI2, m_sI2, ↓m_oR4, m_aI4, m_sI4, ↓m_oR6, m_aI6, m_sI6, ↓m_oR8, m_aI8, m_sI8, ↓m_oR9, m_aI9, m_sI9, ↓m_oR10, m_aI10, m_sI10, X7_isGuest_c, b2_f hg, mu_nb, mu_at, mu_ni]
noncomputable def o_turnPair (x : XS) (y : Int) (k : Int) : Int × Int × XS := @ite (Int × Int × XS) ((0 ≤ y ∧ y ≤ x.1 60 - 1) ∧ 0 ≤ k ∧ k ≤ x.1 60 - 1) (Classical.propDecidable _) (@ite (Int × Int × XS) (y = k) (Classical.propDecidable _) (2, 0, x) (0, pcnt (zflp x.1 y k), xupd x (zflp x.1 y k))) (1, 0, x)
theorem MR_turnPair {g : Nat → Nat} {h : Nat → Option hC} {n m : Nat} {M : Mm} {x : XS} {y k : Int} (hs : MS M x) (hy : -2147483648 ≤ y ∧ y < 2147483648) (hk : -2147483648 ≤ k ∧ k < 2147483648) : MR m h n (fX7_turnPair g (some m) (iv y) (iv k) (md m M h, n, 0)) (o_turnPair x y k) := by
  have hz := MS_z hs
  have hx := hs.1
  unfold o_turnPair
  rw [hx]
  have h15 := wZ_15 hz
  have h60 := wZ_60 hz
  have hh := hz.1
  by_cases hg : 0 ≤ y ∧ y ≤ M 1 60 - 1
  · have hy2 : 0 ≤ y ∧ y < M 1 60 := by omega
    by_cases hi0 : 0 ≤ k ∧ k ≤ M 1 60 - 1
    · rw [if_pos ⟨hg, hi0⟩]
      have hk2 : 0 ≤ k ∧ k < M 1 60 := by omega
      by_cases hn : y = k
      · rw [if_pos hn]
        refine MR_q hs (mu M 0 0 2) (iv 0) ?_ mu_eq (fun q => by omega) qeff_0
        unfold fX7_turnPair
        simp (disch := omega) only [↓reduceIte, Int.reduceEq, Int.reduceNe, Int.reduceLT, Int.reduceLE, Int.reduceNeg, Int.reduceMod, Int.reduceDiv, Int.reduceAdd, Int.reduceSub, Int.reduceMul, not_true_eq_false, not_false_eq_true, Int.lt_irrefl, true_or, or_true, false_or, or_false, true_and, and_true, false_and, and_false, b2_T, b2_F, if_true, if_false, ↓mjn_b, ↓mjn0_b, ↓mjn2_b, iv_lit, iv_add, iv_sub, iv_mul, iv_neg, iv_le_t, iv_le_f, iv_lt_t, iv_lt_f, iv_eq_t, iv_eq_f, iv_div, iv_mod, mretT_p, mretT_b, e_mret, ↓e_bret, ↓m_mon, ↓m_oI0, m_pI0, ↓m_oI3, m_pI3, ↓m_oI5, m_pI5, ↓m_oI7, m_pI7, ↓m_oI11, m_pI11, ↓m_oI12, m_pI12, ↓m_oI13, m_pI13, ↓m_oI14, m_pI14, ↓m_oI15, m_pI15, ↓m_oI16, m_pI16, ↓m_oI17, m_pI17, m_pZ5, m_pZ12, ↓m_oR1, m_aI1, m_sI1, ↓m_oR2, m_aI2, m_sI2, ↓m_oR4, m_aI4, m_sI4, ↓m_oR6, m_aI6, m_sI6, ↓m_oR8, m_aI8, m_sI8, ↓m_oR9, m_aI9, m_sI9, ↓m_oR10, m_aI10, m_sI10, X7_isGuest_c, b2_t hg, b2_t hi0, mu_nb, mu_at, mu_ni]
      · rw [if_neg hn]
        have hw := wZ_flp hz hy2 hk2 hn
        have p1 := wZ_p hz hy2
        have p2 := wZ_p hz hk2
        have f1 := iv_flip (X := M 1 (601 + y)) (H := k) p1 (by omega)
        have f2 := iv_flip (X := M 1 (601 + k)) (H := y) p2 (by omega)
        obtain ⟨Mb, rb, b1, b0, bu, bj, b6⟩ := rec_u (g := g) (h := h) (n := n) (m := m) hs (qsm_rf) (zeq_rf)
        have ez : (mu (mu Mb 1 (601 + y) (flipb (M 1 (601 + y)) k)) 1 (601 + k) (flipb (M 1 (601 + k)) y)) 1 = zflp (M 1) y k := by rw [mu_iu, mu_iu, b1]; rfl
        have ep := X7_pairCount_ev (g := g) (h := h) (n := n) (w := 0) (m := m) (M := mu (mu Mb 1 (601 + y) (flipb (M 1 (601 + y)) k)) 1 (601 + k) (flipb (M 1 (601 + k)) y)) (by rw [ez]; exact hw)
        rw [ez] at ep
        refine MR_u hs bu b0 (mu (mu Mb 1 (601 + y) (flipb (M 1 (601 + y)) k)) 1 (601 + k) (flipb (M 1 (601 + k)) y)) ?_ (qsm_b (fun b q => by rw [mu_ob q, mu_ob q])) (by rw [ez]; exact zeq_rf) hw
        unfold fX7_turnPair
        simp (disch := omega) only [↓reduceIte, Int.reduceEq, Int.reduceNe, Int.reduceLT, Int.reduceLE, Int.reduceNeg, Int.reduceMod, Int.reduceDiv, Int.reduceAdd, Int.reduceSub, Int.reduceMul, not_true_eq_false, not_false_eq_true, Int.lt_irrefl, true_or, or_true, false_or, or_false, true_and, and_true, false_and, and_false, b2_T, b2_F, if_true, if_false, ↓mjn_b, ↓mjn0_b, ↓mjn2_b, iv_lit, iv_add, iv_sub, iv_mul, iv_neg, iv_le_t, iv_le_f, iv_lt_t, iv_lt_f, iv_eq_t, iv_eq_f, iv_div, iv_mod, mretT_p, mretT_b, e_mret, ↓e_bret, ↓m_mon, ↓m_oI0, m_pI0, ↓m_oI3, m_pI3, ↓m_oI5, m_pI5, ↓m_oI7, m_pI7, ↓m_oI11, m_pI11, ↓m_oI12, m_pI12, ↓m_oI13, m_pI13, ↓m_oI14, m_pI14, ↓m_oI15, m_pI15, ↓m_oI16, m_pI16, ↓m_oI17, m_pI17, m_pZ5, m_pZ12, ↓m_oR1, m_aI1, m_sI1, ↓m_oR2, m_aI2, m_sI2, ↓m_oR4, m_aI4, m_sI4, ↓m_oR6, m_aI6, m_sI6, ↓m_oR8, m_aI8, m_sI8, ↓m_oR9, m_aI9, m_sI9, ↓m_oR10, m_aI10, m_sI10, X7_isGuest_c, b2_t hg, b2_t hi0, e_call0 rb, b1, f1, f2, e_call0 ep, mu_nb, mu_at, mu_ni]
    · rw [if_neg (fun q => hi0 q.2)]
      refine MR_q hs (mu M 0 0 1) (iv 0) ?_ mu_eq (fun q => by omega) qeff_0
      unfold fX7_turnPair
      simp (disch := omega) only [↓reduceIte, Int.reduceEq, Int.reduceNe, Int.reduceLT, Int.reduceLE, Int.reduceNeg, Int.reduceMod, Int.reduceDiv, Int.reduceAdd, Int.reduceSub, Int.reduceMul, not_true_eq_false, not_false_eq_true, Int.lt_irrefl, true_or, or_true, false_or, or_false, true_and, and_true, false_and, and_false, b2_T, b2_F, if_true, if_false, ↓mjn_b, ↓mjn0_b, ↓mjn2_b, iv_lit, iv_add, iv_sub, iv_mul, iv_neg, iv_le_t, iv_le_f, iv_lt_t, iv_lt_f, iv_eq_t, iv_eq_f, iv_div, iv_mod, mretT_p, mretT_b, e_mret, ↓e_bret, ↓m_mon, ↓m_oI0, m_pI0, ↓m_oI3, m_pI3, ↓m_oI5, m_pI5, ↓m_oI7, m_pI7, ↓m_oI11, m_pI11, ↓m_oI12, m_pI12, ↓m_oI13, m_pI13, ↓m_oI14, m_pI14, ↓m_oI15, m_pI15, ↓m_oI16, m_pI16, ↓m_oI17, m_pI17, m_pZ5, m_pZ12, ↓m_oR1, m_aI1, m_sI1, ↓m_oR2, m_aI2, m_sI2, ↓m_oR4, m_aI4, m_sI4, ↓m_oR6, m_aI6, m_sI6, ↓m_oR8, m_aI8, m_sI8, ↓m_oR9, m_aI9, m_sI9, ↓m_oR10, m_aI10, m_sI10, X7_isGuest_c, b2_t hg, b2_f hi0, mu_nb, mu_at, mu_ni]
  · rw [if_neg (fun q => hg q.1)]
    refine MR_q hs (mu M 0 0 1) (iv 0) ?_ mu_eq (fun q => by omega) qeff_0
    unfold fX7_turnPair
    simp (disch := omega) only [↓reduceIte, Int.reduceEq, Int.reduceNe, Int.reduceLT, Int.reduceLE, Int.reduceNeg, Int.reduceMod, Int.reduceDiv, Int.reduceAdd, Int.reduceSub, Int.reduceMul, not_true_eq_false, not_false_eq_true, Int.lt_irrefl, true_or, or_true, false_or, or_false, true_and, and_true, false_and, and_false, b2_T, b2_F, if_true, if_false, ↓mjn_b, ↓mjn0_b, ↓mjn2_b, iv_lit, iv_add, iv_sub, iv_mul, iv_neg, iv_le_t, iv_le_f, iv_lt_t, iv_lt_f, iv_eq_t, iv_eq_f, iv_div, iv_mod, mretT_p, mretT_b, e_mret, ↓e_bret, ↓m_mon, ↓m_oI0, m_pI0, ↓m_oI3, m_pI3, ↓m_oI5, m_pI5, ↓m_oI7, m_pI7, ↓m_oI11, m_pI11, ↓m_oI12, m_pI12, ↓m_oI13, m_pI13, ↓m_oI14, m_pI14, ↓m_oI15, m_pI15, ↓m_oI16, m_pI16, ↓m_oI17, m_pI17, m_pZ5, m_pZ12, ↓m_oR1, m_aI1, m_sI1, ↓m_oR2, m_aI2, m_sI2, ↓m_oR4, m_aI4, m_sI4, ↓m_oR6, m_aI6, m_sI6, ↓m_oR8, m_aI8, m_sI8, ↓m_oR9, m_aI9, m_sI9, ↓m_oR10, m_aI10, m_sI10, X7_isGuest_c, b2_f hg, mu_nb, mu_at, mu_ni]
