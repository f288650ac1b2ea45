/-! ===== the model: sight ===== -/
theorem mapOf_ex {P : List (Int × Int)} {c : Int} (h : mapOf P c ≠ 0) : (c, mapOf P c) ∈ P := by
  revert h
  refine snoc_ind (C := fun P => mapOf P c ≠ 0 → (c, mapOf P c) ∈ P) ?_ ?_ P
  · intro h; exact absurd rfl h
  · intro l a ih h
    rw [mapOf_snoc] at h ⊢
    unfold iu at h ⊢
    by_cases e : c = a.1
    · rw [if_pos e]
      refine List.mem_append_right _ (List.mem_singleton.mpr ?_)
      rw [e]
    · rw [if_neg e] at h ⊢
      exact List.mem_append_left _ (ih h)
theorem laid_mem {B : Int} {z : Int → Int} {p : Int × Int} (h : p ∈ laid B z) : p = (z 1, 2) ∨ (∃ k, (0 ≤ k ∧ k < z 2) ∧ p = (z (3 + k), 1)) ∨ ∃ t, (0 ≤ t ∧ t < z 15) ∧ ((∃ j, (0 ≤ j ∧ j < ceN (zk z t)) ∧ p = (ceT z t j, 10 + t)) ∨ ∃ c, (0 ≤ c ∧ c < chN (zk z t)) ∧ p = (chT z t c, B + t)) := by
  unfold laid at h
  rcases List.mem_append.mp h with h | h
  · rcases List.mem_cons.mp h with h | h
    · exact Or.inl h
    · unfold play at h
      rw [runL_mem] at h
      obtain ⟨j, a, b, e⟩ := h
      exact Or.inr (Or.inl ⟨j, ⟨a, by omega⟩, e⟩)
  · unfold tslay at h
    rw [List.mem_flatten] at h
    obtain ⟨l, h1, h2⟩ := h
    rw [runL_mem] at h1
    obtain ⟨t, a, b, e⟩ := h1
    rw [e] at h2
    unfold tlay at h2
    refine Or.inr (Or.inr ⟨t, ⟨a, by omega⟩, ?_⟩)
    rcases List.mem_append.mp h2 with h2 | h2 <;> rw [runL_mem] at h2
    · obtain ⟨j, c, d, e2⟩ := h2
      exact Or.inl ⟨j, ⟨c, by omega⟩, e2⟩
    · obtain ⟨j, c, d, e2⟩ := h2
      exact Or.inr ⟨j, ⟨c, by omega⟩, e2⟩
theorem mpz_tab {z : Int → Int} {c : Int} (h : 10 ≤ mpz z c ∧ mpz z c ≤ 29) : 0 ≤ mpz z c - 10 ∧ mpz z c - 10 < z 15 := by
  have h1 := mapOf_ex (P := laid 30 z) (c := c) (by unfold mpz at h; omega)
  unfold mpz at *
  rcases laid_mem h1 with e | ⟨k, -, e⟩ | ⟨t, ht, ⟨j, -, e⟩ | ⟨j, -, e⟩⟩
  · have := congrArg Prod.snd e; simp only at this; omega
  · have := congrArg Prod.snd e; simp only at this; omega
  · have := congrArg Prod.snd e; simp only at this; omega
  · have := congrArg Prod.snd e; simp only at this; omega
theorem foldI_or {P : Int → Prop} (k : Nat) (i : Int) (q : Prop) : foldI (fun (a : Int) j => if a = 0 then b2 (P j) else 1) (b2 q) i k = b2 (q ∨ ∃ j, (i ≤ j ∧ j < i + k) ∧ P j) := by
  have h := foldI_inv (s := fun (a : Int) j => if a = 0 then b2 (P j) else 1) (fun j a => a = b2 (q ∨ ∃ x, (i ≤ x ∧ x < j) ∧ P x)) k (b2 q) i (b2_c ⟨fun h => Or.inl h, fun h => h.elim id (fun ⟨x, a, _⟩ => by omega)⟩) (fun b j h1 h2 hb => by
    by_cases hq : q ∨ ∃ x, (i ≤ x ∧ x < j) ∧ P x
    · rw [b2_t hq] at hb
      subst hb
      show (1 : Int) = _
      rw [b2_t]
      rcases hq with hq | ⟨x, a, b⟩
      · exact Or.inl hq
      · exact Or.inr ⟨x, by omega, b⟩
    · rw [b2_f hq] at hb
      subst hb
      show b2 (P j) = _
      refine b2_c ⟨fun hp => Or.inr ⟨j, by omega, hp⟩, fun z => ?_⟩
      rcases z with z | ⟨x, a, b⟩
      · exact absurd (Or.inl z) hq
      · by_cases e : x = j
        · rw [← e]; exact b
        · exact absurd (Or.inr ⟨x, by omega, b⟩) hq)
  exact h
theorem lcol_rg {z : Int → Int} {c r : Int} (h0 : 0 ≤ z 0 ∧ z 0 ≤ 15) (hc : 0 ≤ c ∧ c < 192) (hr : 0 ≤ r ∧ r < c / 16) : 0 ≤ lcol z c r ∧ lcol z c r ≤ 15 := by
  unfold lcol
  have hx : 0 ≤ c % 16 ∧ c % 16 ≤ 15 := by omega
  have hy : 0 ≤ c / 16 ∧ c / 16 ≤ 11 := by omega
  generalize c % 16 = x at *
  generalize c / 16 = y at *
  generalize z 0 = s at *
  have h1 : y = 0 ∨ y = 1 ∨ y = 2 ∨ y = 3 ∨ y = 4 ∨ y = 5 ∨ y = 6 ∨ y = 7 ∨ y = 8 ∨ y = 9 ∨ y = 10 ∨ y = 11 := by omega
  have h2 : r = 0 ∨ r = 1 ∨ r = 2 ∨ r = 3 ∨ r = 4 ∨ r = 5 ∨ r = 6 ∨ r = 7 ∨ r = 8 ∨ r = 9 ∨ r = 10 := by omega
  rcases h1 with rfl | rfl | rfl | rfl | rfl | rfl | rfl | rfl | rfl | rfl | rfl | rfl <;> rcases h2 with rfl | rfl | rfl | rfl | rfl | rfl | rfl | rfl | rfl | rfl | rfl <;> omega

theorem X7_stands_ev {g : Nat → Nat} {h : Nat → Option hC} {n w : Nat} {m : Nat} {M : Mm} {x c : Int} (hz : wZ (M 1)) (hl : lay8 M) (hx : 0 ≤ x ∧ x < M 1 60) (hc : cin c) : fX7_stands g (some m) (iv x) (iv c) (md m M h, n, w) = some (iv (b2 (stn (M 1) x c)), (md m M h, n, w)) := by
  have h60 := wZ_60 hz
  have h15 := wZ_15 hz
  have hr := mpz_rg hl hz.1 hc
  have h8 := hl.1 c hc
  have hc2 := hc
  unfold cin at hc2
  have r1 := wZ_graw hz hx
  have key : ∀ q : Prop, fX7_stands_L64 g 5000 (some m) (iv x) (iv c) (iv (b2 q)) (iv 0) (md m M h, n, w) = some (iv (b2 (q ∨ ∃ j, (0 ≤ j ∧ j < 0 + (((M 1 60).toNat : Nat) : Int)) ∧ j ≠ x ∧ sits (M 1) j ∧ cgl (M 1) j = c ∧ gh (M 1) x < gh (M 1) j)), (md m M h, n, w)) := fun q => by
    rw [X7_stands_L64_ev hz hx hc2 (M 1 60).toNat 5000 (b2 q) 0 (by omega) (by omega) (by omega) b2_or, foldI_or]
  have fin : ∀ q : Prop, (q ↔ (mpz (M 1) c = 1 ∨ ((10 ≤ mpz (M 1) c ∧ mpz (M 1) c ≤ 29) ∧ gh (M 1) x ≤ zf (M 1) (mpz (M 1) c - 10)))) → b2 (q ∨ ∃ j, (0 ≤ j ∧ j < 0 + (((M 1 60).toNat : Nat) : Int)) ∧ j ≠ x ∧ sits (M 1) j ∧ cgl (M 1) j = c ∧ gh (M 1) x < gh (M 1) j) = b2 (stn (M 1) x c) := fun q hq => by
    refine b2_c ?_
    unfold stn
    rw [hq, or_assoc]
    refine or_congr Iff.rfl (or_congr Iff.rfl ⟨fun ⟨j, a, b⟩ => ⟨j, by omega, b⟩, fun ⟨j, a, b⟩ => ⟨j, by omega, b⟩⟩)
  by_cases ht : 10 ≤ mpz (M 1) c ∧ mpz (M 1) c ≤ 29
  · have h3 := mpz_tab ht
    have r2 := wZ_traw hz h3
    by_cases hf : M 1 (16 + 4 * (mpz (M 1) c - 10) + 3) < M 1 (61 + 18 * x + 0)
    · have k1 := key False
      rw [b2_f id] at k1
      rw [← fin False ⟨False.elim, fun q => by unfold gh zf at q; omega⟩, ← k1]
      unfold fX7_stands
      by_cases hv : mpz (M 1) c = 1
      · omega
      · simp (disch := omega) only [↓reduceIte, Int.reduceEq, Int.reduceNe, Int.reduceLT, Int.reduceLE, Int.reduceNeg, Int.reduceMod, Int.reduceDiv, Int.reduceAdd, Int.reduceSub, Int.reduceMul, not_true_eq_false, not_false_eq_true, true_or, or_true, false_or, or_false, true_and, and_true, false_and, and_false, b2_T, b2_F, if_true, if_false, ↓mjn_b, ↓mjn0_b, ↓mjn2_b, iv_lit, iv_add, iv_sub, iv_mul, iv_neg, iv_le_t, iv_le_f, iv_lt_t, iv_lt_f, iv_eq_t, iv_eq_f, iv_div, iv_mod, mretT_p, mretT_b, e_mret, ↓e_bret, ↓m_mon, ↓m_oI0, m_pI0, ↓m_oI3, m_pI3, ↓m_oI5, m_pI5, ↓m_oI7, m_pI7, ↓m_oI11, m_pI11, ↓m_oI12, m_pI12, ↓m_oI13, m_pI13, ↓m_oI14, m_pI14, ↓m_oI15, m_pI15, ↓m_oI16, m_pI16, ↓m_oI17, m_pI17, m_pZ5, m_pZ12, ↓m_oR1, m_aI1, m_sI1, ↓m_oR2, m_aI2, m_sI2, ↓m_oR4, m_aI4, m_sI4, ↓m_oR6, m_aI6, m_sI6, ↓m_oR8, m_aI8, m_sI8, ↓m_oR9, m_aI9, m_sI9, ↓m_oR10, m_aI10, m_sI10, h8, hv, X7_in_c, b2_t ht, X7_table_c, X7_guest_c, hf]
    · have k1 := key True
      rw [b2_t trivial] at k1
      rw [← fin True ⟨fun _ => Or.inr ⟨ht, by unfold gh zf; omega⟩, fun _ => trivial⟩, ← k1]
      unfold fX7_stands
      by_cases hv : mpz (M 1) c = 1
      · omega
      · simp (disch := omega) only [↓reduceIte, Int.reduceEq, Int.reduceNe, Int.reduceLT, Int.reduceLE, Int.reduceNeg, Int.reduceMod, Int.reduceDiv, Int.reduceAdd, Int.reduceSub, Int.reduceMul, not_true_eq_false, not_false_eq_true, true_or, or_true, false_or, or_false, true_and, and_true, false_and, and_false, b2_T, b2_F, if_true, if_false, ↓mjn_b, ↓mjn0_b, ↓mjn2_b, iv_lit, iv_add, iv_sub, iv_mul, iv_neg, iv_le_t, iv_le_f, iv_lt_t, iv_lt_f, iv_eq_t, iv_eq_f, iv_div, iv_mod, mretT_p, mretT_b, e_mret, ↓e_bret, ↓m_mon, ↓m_oI0, m_pI0, ↓m_oI3, m_pI3, ↓m_oI5, m_pI5, ↓m_oI7, m_pI7, ↓m_oI11, m_pI11, ↓m_oI12, m_pI12, ↓m_oI13, m_pI13, ↓m_oI14, m_pI14, ↓m_oI15, m_pI15, ↓m_oI16, m_pI16, ↓m_oI17, m_pI17, m_pZ5, m_pZ12, ↓m_oR1, m_aI1, m_sI1, ↓m_oR2, m_aI2, m_sI2, ↓m_oR4, m_aI4, m_sI4, ↓m_oR6, m_aI6, m_sI6, ↓m_oR8, m_aI8, m_sI8, ↓m_oR9, m_aI9, m_sI9, ↓m_oR10, m_aI10, m_sI10, h8, hv, X7_in_c, b2_t ht, X7_table_c, X7_guest_c, hf]
  · by_cases hv : mpz (M 1) c = 1
    · have k1 := key True
      rw [b2_t trivial] at k1
      rw [← fin True ⟨fun _ => Or.inl hv, fun _ => trivial⟩, ← k1]
      unfold fX7_stands
      simp (disch := omega) only [↓reduceIte, Int.reduceEq, Int.reduceNe, Int.reduceLT, Int.reduceLE, Int.reduceNeg, Int.reduceMod, Int.reduceDiv, Int.reduceAdd, Int.reduceSub, Int.reduceMul, not_true_eq_false, not_false_eq_true, true_or, or_true, false_or, or_false, true_and, and_true, false_and, and_false, b2_T, b2_F, if_true, if_false, ↓mjn_b, ↓mjn0_b, ↓mjn2_b, iv_lit, iv_add, iv_sub, iv_mul, iv_neg, iv_le_t, iv_le_f, iv_lt_t, iv_lt_f, iv_eq_t, iv_eq_f, iv_div, iv_mod, mretT_p, mretT_b, e_mret, ↓e_bret, ↓m_mon, ↓m_oI0, m_pI0, ↓m_oI3, m_pI3, ↓m_oI5, m_pI5, ↓m_oI7, m_pI7, ↓m_oI11, m_pI11, ↓m_oI12, m_pI12, ↓m_oI13, m_pI13, ↓m_oI14, m_pI14, ↓m_oI15, m_pI15, ↓m_oI16, m_pI16, ↓m_oI17, m_pI17, m_pZ5, m_pZ12, ↓m_oR1, m_aI1, m_sI1, ↓m_oR2, m_aI2, m_sI2, ↓m_oR4, m_aI4, m_sI4, ↓m_oR6, m_aI6, m_sI6, ↓m_oR8, m_aI8, m_sI8, ↓m_oR9, m_aI9, m_sI9, ↓m_oR10, m_aI10, m_sI10, h8, hv, X7_in_c, (show b2 (10 ≤ (1 : Int) ∧ (1 : Int) ≤ 29) = 0 from b2_f (by omega))]
    · have k1 := key False
      rw [b2_f id] at k1
      rw [← fin False ⟨False.elim, fun q => q.elim hv (fun z => ht z.1)⟩, ← k1]
      unfold fX7_stands
      simp (disch := omega) only [↓reduceIte, Int.reduceEq, Int.reduceNe, Int.reduceLT, Int.reduceLE, Int.reduceNeg, Int.reduceMod, Int.reduceDiv, Int.reduceAdd, Int.reduceSub, Int.reduceMul, not_true_eq_false, not_false_eq_true, true_or, or_true, false_or, or_false, true_and, and_true, false_and, and_false, b2_T, b2_F, if_true, if_false, ↓mjn_b, ↓mjn0_b, ↓mjn2_b, iv_lit, iv_add, iv_sub, iv_mul, iv_neg, iv_le_t, iv_le_f, iv_lt_t, iv_lt_f, iv_eq_t, iv_eq_f, iv_div, iv_mod, mretT_p, mretT_b, e_mret, ↓e_bret, ↓m_mon, ↓m_oI0, m_pI0, ↓m_oI3, m_pI3, ↓m_oI5, m_pI5, ↓m_oI7, m_pI7, ↓m_oI11, m_pI11, ↓m_oI12, m_pI12, ↓m_oI13, m_pI13, ↓m_oI14, m_pI14, ↓m_oI15, m_pI15, ↓m_oI16, m_pI16, ↓m_oI17, m_pI17, m_pZ5, m_pZ12, ↓m_oR1, m_aI1, m_sI1, ↓m_oR2, m_aI2, m_sI2, ↓m_oR4, m_aI4, m_sI4, ↓m_oR6, m_aI6, m_sI6, ↓m_oR8, m_aI8, m_sI8, ↓m_oR9, m_aI9, m_sI9, ↓m_oR10, m_aI10, m_sI10, h8, hv, X7_in_c, b2_f ht]
theorem X7_stands_c {β : Type} {K : Int32 → HM β} {g : Nat → Nat} {h : Nat → Option hC} {n w : Nat} {m : Nat} {M : Mm} {x c : Int} (hz : wZ (M 1)) (hl : lay8 M) (hx : 0 ≤ x ∧ x < M 1 60) (hc : cin c) : mb (mcall0 (fX7_stands g (some m) (iv x) (iv c))) K (md m M h, n, w) = K (iv (b2 (stn (M 1) x c))) (md m M h, n, w) := e_call0 (X7_stands_ev hz hl hx hc)
theorem X7_blocked_L7_ev {g : Nat → Nat} {h : Nat → Option hC} {n w m : Nat} {M : Mm} {x c : Int} (hz : wZ (M 1)) (hl : lay8 M) (hx : 0 ≤ x ∧ x < M 1 60) (hc : cin c) : ∀ (k nn : Nat), k < nn → (k : Int) ≤ c / 16 → fX7_blocked_L7 g nn (some m) (iv x) (iv c) (iv ((k : Int) - 1)) (md m M h, n, w) = some (iv (blk (M 1) x c k), (md m M h, n, w)) := by
  have hc2 := hc
  unfold cin at hc2
  have h0 := hz.1.1
  intro k
  induction k with
  | zero =>
    intro nn hn he
    obtain ⟨q, rfl⟩ : ∃ q, nn = q + 1 := ⟨nn - 1, by omega⟩
    simp (disch := omega) only [↓reduceIte, Int.reduceEq, Int.reduceNe, Int.reduceLT, Int.reduceLE, Int.reduceNeg, Int.reduceMod, Int.reduceDiv, Int.reduceAdd, Int.reduceSub, Int.reduceMul, not_true_eq_false, not_false_eq_true, true_or, or_true, false_or, or_false, true_and, and_true, false_and, and_false, b2_T, b2_F, if_true, if_false, ↓mjn_b, ↓mjn0_b, ↓mjn2_b, iv_lit, iv_add, iv_sub, iv_mul, iv_neg, iv_le_t, iv_le_f, iv_lt_t, iv_lt_f, iv_eq_t, iv_eq_f, iv_div, iv_mod, mretT_p, mretT_b, e_mret, ↓e_bret, ↓m_mon, ↓m_oI0, m_pI0, ↓m_oI3, m_pI3, ↓m_oI5, m_pI5, ↓m_oI7, m_pI7, ↓m_oI11, m_pI11, ↓m_oI12, m_pI12, ↓m_oI13, m_pI13, ↓m_oI14, m_pI14, ↓m_oI15, m_pI15, ↓m_oI16, m_pI16, ↓m_oI17, m_pI17, m_pZ5, m_pZ12, ↓m_oR1, m_aI1, m_sI1, ↓m_oR2, m_aI2, m_sI2, ↓m_oR4, m_aI4, m_sI4, ↓m_oR6, m_aI6, m_sI6, ↓m_oR8, m_aI8, m_sI8, ↓m_oR9, m_aI9, m_sI9, ↓m_oR10, m_aI10, m_sI10, fX7_blocked_L7, blk, Int.natCast_zero, Int.zero_sub]
  | succ k ih =>
    intro nn hn he
    obtain ⟨q, rfl⟩ : ∃ q, nn = q + 1 := ⟨nn - 1, by omega⟩
    have hk : ((k + 1 : Nat) : Int) - 1 = k := by omega
    rw [hk]
    have hr : 0 ≤ (k : Int) ∧ (k : Int) < c / 16 := by omega
    have hcol := lcol_rg h0 hc2 hr
    have hcc : cin (16 * (k : Int) + lcol (M 1) c k) := by unfold cin; omega
    by_cases hs : stn (M 1) x (16 * (k : Int) + lcol (M 1) c k)
    · simp (disch := omega) only [↓reduceIte, Int.reduceEq, Int.reduceNe, Int.reduceLT, Int.reduceLE, Int.reduceNeg, Int.reduceMod, Int.reduceDiv, Int.reduceAdd, Int.reduceSub, Int.reduceMul, not_true_eq_false, not_false_eq_true, true_or, or_true, false_or, or_false, true_and, and_true, false_and, and_false, b2_T, b2_F, if_true, if_false, ↓mjn_b, ↓mjn0_b, ↓mjn2_b, iv_lit, iv_add, iv_sub, iv_mul, iv_neg, iv_le_t, iv_le_f, iv_lt_t, iv_lt_f, iv_eq_t, iv_eq_f, iv_div, iv_mod, mretT_p, mretT_b, e_mret, ↓e_bret, ↓m_mon, ↓m_oI0, m_pI0, ↓m_oI3, m_pI3, ↓m_oI5, m_pI5, ↓m_oI7, m_pI7, ↓m_oI11, m_pI11, ↓m_oI12, m_pI12, ↓m_oI13, m_pI13, ↓m_oI14, m_pI14, ↓m_oI15, m_pI15, ↓m_oI16, m_pI16, ↓m_oI17, m_pI17, m_pZ5, m_pZ12, ↓m_oR1, m_aI1, m_sI1, ↓m_oR2, m_aI2, m_sI2, ↓m_oR4, m_aI4, m_sI4, ↓m_oR6, m_aI6, m_sI6, ↓m_oR8, m_aI8, m_sI8, ↓m_oR9, m_aI9, m_sI9, ↓m_oR10, m_aI10, m_sI10, fX7_blocked_L7, blk, X7_column_c, X7_stands_c hz hl hx hcc, b2_t hs, hs]
    · have e := ih q (by omega) (by omega)
      rw [show (k : Int) - 1 = (k : Int) + -1 by omega] at e
      simp (disch := omega) only [↓reduceIte, Int.reduceEq, Int.reduceNe, Int.reduceLT, Int.reduceLE, Int.reduceNeg, Int.reduceMod, Int.reduceDiv, Int.reduceAdd, Int.reduceSub, Int.reduceMul, not_true_eq_false, not_false_eq_true, true_or, or_true, false_or, or_false, true_and, and_true, false_and, and_false, b2_T, b2_F, if_true, if_false, ↓mjn_b, ↓mjn0_b, ↓mjn2_b, iv_lit, iv_add, iv_sub, iv_mul, iv_neg, iv_le_t, iv_le_f, iv_lt_t, iv_lt_f, iv_eq_t, iv_eq_f, iv_div, iv_mod, mretT_p, mretT_b, e_mret, ↓e_bret, ↓m_mon, ↓m_oI0, m_pI0, ↓m_oI3, m_pI3, ↓m_oI5, m_pI5, ↓m_oI7, m_pI7, ↓m_oI11, m_pI11, ↓m_oI12, m_pI12, ↓m_oI13, m_pI13, ↓m_oI14, m_pI14, ↓m_oI15, m_pI15, ↓m_oI16, m_pI16, ↓m_oI17, m_pI17, m_pZ5, m_pZ12, ↓m_oR1, m_aI1, m_sI1, ↓m_oR2, m_aI2, m_sI2, ↓m_oR4, m_aI4, m_sI4, ↓m_oR6, m_aI6, m_sI6, ↓m_oR8, m_aI8, m_sI8, ↓m_oR9, m_aI9, m_sI9, ↓m_oR10, m_aI10, m_sI10, fX7_blocked_L7, blk, X7_column_c, X7_stands_c hz hl hx hcc, b2_f hs, hs, e]
theorem X7_blocked_ev {g : Nat → Nat} {h : Nat → Option hC} {n w : Nat} {m : Nat} {M : Mm} {x c : Int} (hz : wZ (M 1)) (hl : lay8 M) (hx : 0 ≤ x ∧ x < M 1 60) (hc : cin c) : fX7_blocked g (some m) (iv x) (iv c) (md m M h, n, w) = some (iv (blkd (M 1) x c), (md m M h, n, w)) := by
  have hc2 := hc
  unfold cin at hc2
  unfold fX7_blocked blkd
  have e := X7_blocked_L7_ev (g := g) (h := h) (n := n) (w := w) (m := m) hz hl hx hc (c / 16).toNat 5000 (by omega) (by omega)
  rw [show (((c / 16).toNat : Nat) : Int) = c / 16 by omega] at e
  rw [← e]
  simp (disch := omega) only [↓reduceIte, Int.reduceEq, Int.reduceNe, Int.reduceLT, Int.reduceLE, Int.reduceNeg, Int.reduceMod, Int.reduceDiv, Int.reduceAdd, Int.reduceSub, Int.reduceMul, not_true_eq_false, not_false_eq_true, true_or, or_true, false_or, or_false, true_and, and_true, false_and, and_false, b2_T, b2_F, if_true, if_false, ↓mjn_b, ↓mjn0_b, ↓mjn2_b, iv_lit, iv_add, iv_sub, iv_mul, iv_neg, iv_le_t, iv_le_f, iv_lt_t, iv_lt_f, iv_eq_t, iv_eq_f, iv_div, iv_mod, mretT_p, mretT_b, e_mret, ↓e_bret]
theorem X7_blocked_c {β : Type} {K : Int32 → HM β} {g : Nat → Nat} {h : Nat → Option hC} {n w : Nat} {m : Nat} {M : Mm} {x c : Int} (hz : wZ (M 1)) (hl : lay8 M) (hx : 0 ≤ x ∧ x < M 1 60) (hc : cin c) : mb (mcall0 (fX7_blocked g (some m) (iv x) (iv c))) K (md m M h, n, w) = K (iv (blkd (M 1) x c)) (md m M h, n, w) := e_call0 (X7_blocked_ev hz hl hx hc)
theorem blk_rg {z : Int → Int} (h0 : 0 ≤ z 0 ∧ z 0 ≤ 15) {g c : Int} (hc : 0 ≤ c ∧ c < 192) : ∀ (k : Nat), (k : Int) ≤ c / 16 → -1 ≤ blk z g c k ∧ blk z g c k < 192 := by
  intro k
  induction k with
  | zero => intro _; show -1 ≤ (-1 : Int) ∧ (-1 : Int) < 192; omega
  | succ k ih =>
    intro hk
    have hr := lcol_rg h0 hc (r := k) (by omega)
    unfold blk
    split
    · omega
    · exact ih (by omega)
theorem blkd_rg {z : Int → Int} (h0 : 0 ≤ z 0 ∧ z 0 ≤ 15) {g c : Int} (hc : 0 ≤ c ∧ c < 192) : -1 ≤ blkd z g c ∧ blkd z g c < 192 := by
  unfold blkd
  exact blk_rg h0 hc _ (by omega)
theorem iv_m1 {x : Int} (h : -1 ≤ x ∧ x < 192) : (iv x = iv (-1)) = (x = -1) := propext (iv_eq (by omega) (by omega))
theorem X7_see_L7_ev {g : Nat → Nat} {h : Nat → Option hC} {n w : Nat} {m : Nat} {M : Mm}  (hz : wZ (M 1)) (hl : lay8 M) : ∀ (k nn : Nat) (a i : Int), k < nn → 0 ≤ i → i + k = M 1 60 → fX7_see_L7 g nn (some m) (iv a) (iv i) (md m M h, n, w) = some (iv (foldI (fun a j => a + b2 (sees (M 1) j)) a i k), (md m M h, n, w)) := by
  intro k
  induction k with
  | zero =>
    intro nn a i hn hi he 
    obtain ⟨q, rfl⟩ : ∃ q, nn = q + 1 := ⟨nn - 1, by omega⟩
    have h60 := wZ_60 hz
    simp (disch := omega) only [↓reduceIte, Int.reduceEq, Int.reduceNe, Int.reduceLT, Int.reduceLE, Int.reduceNeg, Int.reduceMod, Int.reduceDiv, Int.reduceAdd, Int.reduceSub, Int.reduceMul, not_true_eq_false, not_false_eq_true, true_or, or_true, false_or, or_false, true_and, and_true, false_and, and_false, b2_T, b2_F, if_true, if_false, ↓mjn_b, ↓mjn0_b, ↓mjn2_b, iv_lit, iv_add, iv_sub, iv_mul, iv_neg, iv_le_t, iv_le_f, iv_lt_t, iv_lt_f, iv_eq_t, iv_eq_f, iv_div, iv_mod, mretT_p, mretT_b, e_mret, ↓e_bret, ↓m_mon, ↓m_oI0, m_pI0, ↓m_oI3, m_pI3, ↓m_oI5, m_pI5, ↓m_oI7, m_pI7, ↓m_oI11, m_pI11, ↓m_oI12, m_pI12, ↓m_oI13, m_pI13, ↓m_oI14, m_pI14, ↓m_oI15, m_pI15, ↓m_oI16, m_pI16, ↓m_oI17, m_pI17, m_pZ5, m_pZ12, ↓m_oR1, m_aI1, m_sI1, ↓m_oR2, m_aI2, m_sI2, ↓m_oR4, m_aI4, m_sI4, ↓m_oR6, m_aI6, m_sI6, ↓m_oR8, m_aI8, m_sI8, ↓m_oR9, m_aI9, m_sI9, ↓m_oR10, m_aI10, m_sI10, fX7_see_L7, foldI]
  | succ k ih =>
    intro nn a i hn hi he 
    obtain ⟨q, rfl⟩ : ∃ q, nn = q + 1 := ⟨nn - 1, by omega⟩
    have h60 := wZ_60 hz
    have hg : 0 ≤ i ∧ i < M 1 60 := by omega
    by_cases h1 : sits (M 1) i
    · have q1 := X7_cellOfGuest_ev (g := g) (h := h) (n := n) (w := 0) (m := m) hz hg h1
      have q2 := cgl_cin hz hg h1
      have q3 := blkd_rg hz.1.1 (g := i) q2
      by_cases h2 : blkd (M 1) i (cgl (M 1) i) = -1
      · simp (disch := omega) only [↓reduceIte, Int.reduceEq, Int.reduceNe, Int.reduceLT, Int.reduceLE, Int.reduceNeg, Int.reduceMod, Int.reduceDiv, Int.reduceAdd, Int.reduceSub, Int.reduceMul, not_true_eq_false, not_false_eq_true, true_or, or_true, false_or, or_false, true_and, and_true, false_and, and_false, b2_T, b2_F, if_true, if_false, ↓mjn_b, ↓mjn0_b, ↓mjn2_b, iv_lit, iv_add, iv_sub, iv_mul, iv_neg, iv_le_t, iv_le_f, iv_lt_t, iv_lt_f, iv_eq_t, iv_eq_f, iv_div, iv_mod, mretT_p, mretT_b, e_mret, ↓e_bret, ↓m_mon, ↓m_oI0, m_pI0, ↓m_oI3, m_pI3, ↓m_oI5, m_pI5, ↓m_oI7, m_pI7, ↓m_oI11, m_pI11, ↓m_oI12, m_pI12, ↓m_oI13, m_pI13, ↓m_oI14, m_pI14, ↓m_oI15, m_pI15, ↓m_oI16, m_pI16, ↓m_oI17, m_pI17, m_pZ5, m_pZ12, ↓m_oR1, m_aI1, m_sI1, ↓m_oR2, m_aI2, m_sI2, ↓m_oR4, m_aI4, m_sI4, ↓m_oR6, m_aI6, m_sI6, ↓m_oR8, m_aI8, m_sI8, ↓m_oR9, m_aI9, m_sI9, ↓m_oR10, m_aI10, m_sI10, fX7_see_L7, foldI, ih, X7_sits_b hz hg, b2_t h1, e_call0 q1, X7_blocked_c hz hl hg q2, sees, h1, h2]
      · simp (disch := omega) only [↓reduceIte, Int.reduceEq, Int.reduceNe, Int.reduceLT, Int.reduceLE, Int.reduceNeg, Int.reduceMod, Int.reduceDiv, Int.reduceAdd, Int.reduceSub, Int.reduceMul, not_true_eq_false, not_false_eq_true, true_or, or_true, false_or, or_false, true_and, and_true, false_and, and_false, b2_T, b2_F, if_true, if_false, ↓mjn_b, ↓mjn0_b, ↓mjn2_b, iv_lit, iv_add, iv_sub, iv_mul, iv_neg, iv_le_t, iv_le_f, iv_lt_t, iv_lt_f, iv_eq_t, iv_eq_f, iv_div, iv_mod, mretT_p, mretT_b, e_mret, ↓e_bret, ↓m_mon, ↓m_oI0, m_pI0, ↓m_oI3, m_pI3, ↓m_oI5, m_pI5, ↓m_oI7, m_pI7, ↓m_oI11, m_pI11, ↓m_oI12, m_pI12, ↓m_oI13, m_pI13, ↓m_oI14, m_pI14, ↓m_oI15, m_pI15, ↓m_oI16, m_pI16, ↓m_oI17, m_pI17, m_pZ5, m_pZ12, ↓m_oR1, m_aI1, m_sI1, ↓m_oR2, m_aI2, m_sI2, ↓m_oR4, m_aI4, m_sI4, ↓m_oR6, m_aI6, m_sI6, ↓m_oR8, m_aI8, m_sI8, ↓m_oR9, m_aI9, m_sI9, ↓m_oR10, m_aI10, m_sI10, fX7_see_L7, foldI, ih, X7_sits_b hz hg, b2_t h1, e_call0 q1, X7_blocked_c hz hl hg q2, sees, h1, h2]
    · simp (disch := omega) only [↓reduceIte, Int.reduceEq, Int.reduceNe, Int.reduceLT, Int.reduceLE, Int.reduceNeg, Int.reduceMod, Int.reduceDiv, Int.reduceAdd, Int.reduceSub, Int.reduceMul, not_true_eq_false, not_false_eq_true, true_or, or_true, false_or, or_false, true_and, and_true, false_and, and_false, b2_T, b2_F, if_true, if_false, ↓mjn_b, ↓mjn0_b, ↓mjn2_b, iv_lit, iv_add, iv_sub, iv_mul, iv_neg, iv_le_t, iv_le_f, iv_lt_t, iv_lt_f, iv_eq_t, iv_eq_f, iv_div, iv_mod, mretT_p, mretT_b, e_mret, ↓e_bret, ↓m_mon, ↓m_oI0, m_pI0, ↓m_oI3, m_pI3, ↓m_oI5, m_pI5, ↓m_oI7, m_pI7, ↓m_oI11, m_pI11, ↓m_oI12, m_pI12, ↓m_oI13, m_pI13, ↓m_oI14, m_pI14, ↓m_oI15, m_pI15, ↓m_oI16, m_pI16, ↓m_oI17, m_pI17, m_pZ5, m_pZ12, ↓m_oR1, m_aI1, m_sI1, ↓m_oR2, m_aI2, m_sI2, ↓m_oR4, m_aI4, m_sI4, ↓m_oR6, m_aI6, m_sI6, ↓m_oR8, m_aI8, m_sI8, ↓m_oR9, m_aI9, m_sI9, ↓m_oR10, m_aI10, m_sI10, fX7_see_L7, foldI, ih, X7_sits_b hz hg, b2_f h1, sees, h1]
theorem X7_see_ev {g : Nat → Nat} {h : Nat → Option hC} {n w m : Nat} {M : Mm} (hz : wZ (M 1)) :
    ∃ (M' : Mm), fX7_see g (some m) (md m M h, n, w) = some (iv (seez (M 1)), (md m M' h, n, w)) ∧ ∀ b, b ≠ 8 → b ≠ 9 → b ≠ 10 → M' b = M b := by
  have h60 := wZ_60 hz
  obtain ⟨M', e1, e2, e3⟩ := X7_check0 (g := g) (h := h) (n := n) (w := 0) (m := m) hz.1
  have h1 : M' 1 = M 1 := e2 1 (by decide) (by decide) (by decide)
  have h0 := hz.2.2.2.2.2.2
  rw [h0] at e1
  refine ⟨M', ?_, e2⟩
  have e4 := X7_see_L7_ev (g := g) (h := h) (n := n) (w := w) (m := m) (M := M') (by rw [h1]; exact hz) (e3 h0) (M 1 60).toNat 5000 0 0 (by omega) (by omega) (by rw [h1]; omega)
  rw [h1] at e4
  unfold fX7_see seez
  rw [← e4]
  simp (disch := omega) only [↓reduceIte, Int.reduceEq, Int.reduceNe, Int.reduceLT, Int.reduceLE, Int.reduceNeg, Int.reduceMod, Int.reduceDiv, Int.reduceAdd, Int.reduceSub, Int.reduceMul, not_true_eq_false, not_false_eq_true, true_or, or_true, false_or, or_false, true_and, and_true, false_and, and_false, b2_T, b2_F, if_true, if_false, ↓mjn_b, ↓mjn0_b, ↓mjn2_b, iv_lit, iv_add, iv_sub, iv_mul, iv_neg, iv_le_t, iv_le_f, iv_lt_t, iv_lt_f, iv_eq_t, iv_eq_f, iv_div, iv_mod, mretT_p, mretT_b, e_mret, ↓e_bret, ↓m_mon, ↓m_oI0, m_pI0, ↓m_oI3, m_pI3, ↓m_oI5, m_pI5, ↓m_oI7, m_pI7, ↓m_oI11, m_pI11, ↓m_oI12, m_pI12, ↓m_oI13, m_pI13, ↓m_oI14, m_pI14, ↓m_oI15, m_pI15, ↓m_oI16, m_pI16, ↓m_oI17, m_pI17, m_pZ5, m_pZ12, ↓m_oR1, m_aI1, m_sI1, ↓m_oR2, m_aI2, m_sI2, ↓m_oR4, m_aI4, m_sI4, ↓m_oR6, m_aI6, m_sI6, ↓m_oR8, m_aI8, m_sI8, ↓m_oR9, m_aI9, m_sI9, ↓m_oR10, m_aI10, m_sI10, e_call0 e1]
