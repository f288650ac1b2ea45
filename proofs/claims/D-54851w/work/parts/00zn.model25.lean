/-! ===== the share of those who see ===== -/
theorem share_k : ∀ x : Fin 31, ∀ y : Fin 31, 0 < y.val → (FP.ddiv (FP.i2d (Int32.ofNat x.val)) (FP.i2d (Int32.ofNat y.val))) &&& 0x7fffffffffffffff ≤ 0x7ff0000000000000 := by decide +kernel
theorem iv_nat {x : Int} (h : 0 ≤ x) : iv x = Int32.ofNat x.toNat := by
  obtain ⟨k, rfl⟩ : ∃ k : Nat, x = k := ⟨x.toNat, by omega⟩
  exact Eq.trans rfl rfl
theorem share_n {x y : Int} (hx : 0 ≤ x ∧ x ≤ 30) (hy : 1 ≤ y ∧ y ≤ 30) : vf_n64 (FP.ddiv (FP.i2d (iv x)) (FP.i2d (iv y))) := by
  have h := share_k ⟨x.toNat, by omega⟩ ⟨y.toNat, by omega⟩ (by show 0 < y.toNat; omega)
  rw [iv_nat hx.1, iv_nat (by omega)]
  exact h
theorem seez_rg {z : Int → Int} (h : 0 ≤ z 60 ∧ z 60 ≤ 30) : 0 ≤ seez z ∧ seez z ≤ 30 := by
  have q := foldI_inv (s := fun (a : Int) j => a + b2 (sees z j)) (fun i a => 0 ≤ a ∧ a ≤ i) (z 60).toNat 0 0 ⟨by omega, by omega⟩ (fun b j h1 h2 h3 => by
    have := b2_rg (p := sees z j)
    omega)
  unfold seez
  omega
/-- the share's bits -/
noncomputable def shr (z : Int → Int) : UInt64 := if sitg z = 0 then FP.dconst0 else FP.ddiv (FP.i2d (iv (seez z))) (FP.i2d (iv (sitg z)))
theorem mdv_b {β : Type} {K : Unit → HM β} {x y : UInt64} {σ : Hp} (h : vf_n64 (FP.ddiv x y)) : mb (mdv x y) K σ = K () σ := by
  unfold mb mdv
  rw [if_pos h]
theorem MR_seeingShare {g : Nat → Nat} {h : Nat → Option hC} {n m : Nat} {M : Mm} {x : XS} (hs : MS M x) : ∃ M', fX7_seeingShare g (some m) (md m M h, n, 0) = some (shr x.1, (md m M' h, n, 0)) ∧ M' 0 0 = 0 ∧ ∃ x', MS M' x' ∧ xeq x x' := by
  have hz := MS_z hs
  have hx := hs.1
  rw [hx]
  have h60 := wZ_60 hz
  have e1 := X7_sitting_ev (g := g) (h := h) (n := n) (w := 0) (m := m) (M := mu M 0 0 0) (by rw [mu_ob (by decide)]; exact hz)
  rw [mu_ob (show (1 : Nat) ≠ 0 by decide)] at e1
  have r1 := sitg_rg h60
  have r2 := seez_rg h60
  by_cases h0 : sitg (M 1) = 0
  · refine ⟨mu M 0 0 0, ?_, mu_eq, _, MS_q hs qeff_0⟩
    unfold fX7_seeingShare shr
    rw [if_pos h0]
    rw [h0] at e1
    simp (disch := omega) only [↓reduceIte, Int.reduceEq, Int.reduceNe, Int.reduceLT, Int.reduceLE, Int.reduceNeg, Int.reduceMod, Int.reduceDiv, Int.reduceAdd, Int.reduceSub, Int.reduceMul, not_true_eq_false, not_false_eq_true, Int.lt_irrefl, true_or, or_true, false_or, or_false, true_and, and_true, false_and, and_false, b2_T, b2_F, if_true, if_false, ↓mjn_b, ↓mjn0_b, ↓mjn2_b, iv_lit, iv_add, iv_sub, iv_mul, iv_neg, iv_le_t, iv_le_f, iv_lt_t, iv_lt_f, iv_eq_t, iv_eq_f, iv_div, iv_mod, mretT_p, mretT_b, e_mret, ↓e_bret, ↓m_mon, ↓m_oI0, m_pI0, ↓m_oI3, m_pI3, ↓m_oI5, m_pI5, ↓m_oI7, m_pI7, ↓m_oI11, m_pI11, ↓m_oI12, m_pI12, ↓m_oI13, m_pI13, ↓m_oI14, m_pI14, ↓m_oI15, m_pI15, ↓m_oI16, m_pI16, ↓m_oI17, m_pI17, m_pZ5, m_pZ12, ↓m_oR1, m_aI1, m_sI1, ↓m_oR2, m_aI2, m_sI2, ↓m_oR4, m_aI4, m_sI4, ↓m_oR6, m_aI6, m_sI6, ↓m_oR8, m_aI8, m_sI8, ↓m_oR9, m_aI9, m_sI9, ↓m_oR10, m_aI10, m_sI10, e_call0 e1]
  · obtain ⟨M2, d1, d2⟩ := X7_see_ev (g := g) (h := h) (n := n) (w := 0) (m := m) (M := mu M 0 0 0) (by rw [mu_ob (by decide)]; exact hz)
    rw [mu_ob (show (1 : Nat) ≠ 0 by decide)] at d1
    have d3 : qsm (mu M 0 0 0) M2 := fun b b1 b8 b9 b10 => d2 b b8 b9 b10
    refine ⟨M2, ?_, qsm_0 d3, _, MS_q hs (qeff_of rfl d3 (by rw [d2 1 (by decide) (by decide) (by decide)]; exact zeq_rf))⟩
    unfold fX7_seeingShare shr
    rw [if_neg h0]
    have hv := share_n r2 (show 1 ≤ sitg (M 1) ∧ sitg (M 1) ≤ 30 by omega)
    simp (disch := omega) only [↓reduceIte, Int.reduceEq, Int.reduceNe, Int.reduceLT, Int.reduceLE, Int.reduceNeg, Int.reduceMod, Int.reduceDiv, Int.reduceAdd, Int.reduceSub, Int.reduceMul, not_true_eq_false, not_false_eq_true, Int.lt_irrefl, true_or, or_true, false_or, or_false, true_and, and_true, false_and, and_false, b2_T, b2_F, if_true, if_false, ↓mjn_b, ↓mjn0_b, ↓mjn2_b, iv_lit, iv_add, iv_sub, iv_mul, iv_neg, iv_le_t, iv_le_f, iv_lt_t, iv_lt_f, iv_eq_t, iv_eq_f, iv_div, iv_mod, mretT_p, mretT_b, e_mret, ↓e_bret, ↓m_mon, ↓m_oI0, m_pI0, ↓m_oI3, m_pI3, ↓m_oI5, m_pI5, ↓m_oI7, m_pI7, ↓m_oI11, m_pI11, ↓m_oI12, m_pI12, ↓m_oI13, m_pI13, ↓m_oI14, m_pI14, ↓m_oI15, m_pI15, ↓m_oI16, m_pI16, ↓m_oI17, m_pI17, m_pZ5, m_pZ12, ↓m_oR1, m_aI1, m_sI1, ↓m_oR2, m_aI2, m_sI2, ↓m_oR4, m_aI4, m_sI4, ↓m_oR6, m_aI6, m_sI6, ↓m_oR8, m_aI8, m_sI8, ↓m_oR9, m_aI9, m_sI9, ↓m_oR10, m_aI10, m_sI10, e_call0 e1, e_call0 d1, mdv_b hv]
