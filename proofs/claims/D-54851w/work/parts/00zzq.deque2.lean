/-! ===== ArrayDeque: taking -/
theorem J10_removeFirst_ev {g : Nat → Nat} {h : Nat → Option hC} {n r arr : Nat} {len : Int} {f : Int → Nat} (hd : DQ h r arr len f) (hl : 0 < len) :
    ∃ h', fJ10_removeFirst g (some r) (h, n, 0) = some (some (f 0), (h', n, 0)) ∧ DQ h' r arr (len - 1) (fun i => f (i + 1)) ∧ ∀ p, p ≠ r → p ≠ arr → h' p = h p := by
  obtain ⟨hd, q, h1, h2, h3, h4, h5⟩ := hd
  have hra : r ≠ arr := fun e => by rw [e, h4] at h1; cases h1
  have hr2 : hset h arr (arq 17 (va_up q hd.toNat none)) r = some (.inr (14, [.ref arr, .int (iv hd), .int (iv ((hd + len) % 17))])) := by rw [hset_ne hra]; exact h1
  have e0 : q hd.toNat = some (f 0) := by
    have := h5 0 (by omega) hl
    rwa [show (hd + 0) % 17 = hd by omega] at this
  have eat : fJ10_elementAt g (some arr) (iv hd) (h, n, 0) = some (some (f 0), (h, n, 0)) := by
    unfold fJ10_elementAt
    rw [c_aQ h4 (Or.inl rfl) (by decide) (by omega), e0]
    rfl
  have ep : fJ10_pollFirst g (some r) (h, n, 0) = some (some (f 0), (hset (hset h arr (arq 17 (va_up q hd.toNat none))) r (.inr (14, [.ref arr, .int (iv ((hd + 1) % 17)), .int (iv ((hd + len) % 17))])), n, 0)) := by
    unfold fJ10_pollFirst
    rw [d_o0 h1, d_o1 h1, e_call0 eat, if_neg (fun e => by cases e), c_sQ h4 (by decide) (by omega) rfl, c_aN (L := 17) (by rw [hset_at]; rfl), J10_inc_c (by omega), d_p1 hr2]
    rfl
  refine ⟨hset (hset h arr (arq 17 (va_up q hd.toNat none))) r (.inr (14, [.ref arr, .int (iv ((hd + 1) % 17)), .int (iv ((hd + len) % 17))])), ?_, ⟨(hd + 1) % 17, va_up q hd.toNat none, ?_, by omega, by omega, ?_, fun i u v => ?_⟩, fun p pr pa => ?_⟩
  · unfold fJ10_removeFirst
    rw [c_mon h1, e_call0 ep, if_neg (fun e => by cases e)]
    rfl
  · rw [hset_at]
    exact congrArg (fun t => some (Sum.inr (14, [Value.ref arr, Value.int (iv ((hd + 1) % 17)), Value.int (iv t)]))) (by omega)
  · rw [hset_ne (fun e => hra e.symm)]; exact hset_at
  · rw [va_up_ne _ _ (by omega)]
    have := h5 (i + 1) (by omega) (by omega)
    rwa [show (hd + (i + 1)) % 17 = ((hd + 1) % 17 + i) % 17 by omega] at this
  · rw [hset_ne pr, hset_ne pa]
theorem J10_removeLast_ev {g : Nat → Nat} {h : Nat → Option hC} {n r arr : Nat} {len : Int} {f : Int → Nat} (hd : DQ h r arr len f) (hl : 0 < len) :
    ∃ h', fJ10_removeLast g (some r) (h, n, 0) = some (some (f (len - 1)), (h', n, 0)) ∧ DQ h' r arr (len - 1) f ∧ ∀ p, p ≠ r → p ≠ arr → h' p = h p := by
  obtain ⟨hd, q, h1, h2, h3, h4, h5⟩ := hd
  have hra : r ≠ arr := fun e => by rw [e, h4] at h1; cases h1
  have ht : 0 ≤ (hd + (len - 1)) % 17 ∧ (hd + (len - 1)) % 17 < ((17 : Nat) : Int) := by omega
  have e0 : q ((hd + (len - 1)) % 17).toNat = some (f (len - 1)) := h5 (len - 1) (by omega) (by omega)
  have ed : fJ10_dec g (iv ((hd + len) % 17)) (iv ((17 : Nat) : Int)) (h, n, 0) = some (iv ((hd + (len - 1)) % 17), (h, n, 0)) := by
    have e1 : iv ((hd + len) % 17) + (-1) = iv ((hd + len) % 17 + (-1)) := by simp only [iv_lit, iv_neg, iv_add]
    have e2 : iv ((17 : Nat) : Int) - 1 = iv (((17 : Nat) : Int) - 1) := iv_sub _ 1
    unfold fJ10_dec
    rw [e1, e2]
    by_cases e : 0 ≤ (hd + len) % 17 + (-1)
    · rw [if_pos (by show iv 0 ≤ _; rw [iv_le (by omega) (by omega)]; exact e), show (hd + len) % 17 + (-1) = (hd + (len - 1)) % 17 by omega]
      rfl
    · rw [if_neg (by show ¬ iv 0 ≤ _; rw [iv_le (by omega) (by omega)]; exact e), show ((17 : Nat) : Int) - 1 = (hd + (len - 1)) % 17 by omega]
      rfl
  have eat : fJ10_elementAt g (some arr) (iv ((hd + (len - 1)) % 17)) (h, n, 0) = some (some (f (len - 1)), (h, n, 0)) := by
    unfold fJ10_elementAt
    rw [c_aQ h4 (Or.inl rfl) (by decide) ht, e0]
    rfl
  have ha2 : hset h r (.inr (14, [.ref arr, .int (iv hd), .int (iv ((hd + (len - 1)) % 17))])) arr = some (arq 17 q) := by rw [hset_ne (fun e => hra e.symm)]; exact h4
  have ep : fJ10_pollLast g (some r) (h, n, 0) = some (some (f (len - 1)), (hset (hset h r (.inr (14, [.ref arr, .int (iv hd), .int (iv ((hd + (len - 1)) % 17))]))) arr (arq 17 (va_up q ((hd + (len - 1)) % 17).toNat none)), n, 0)) := by
    unfold fJ10_pollLast
    rw [d_o0 h1, d_o2 h1, c_aN h4, e_call0 ed, e_call0 eat, if_neg (fun e => by cases e), d_p2 h1, c_sQ ha2 (by decide) ht rfl]
    rfl
  refine ⟨hset (hset h r (.inr (14, [.ref arr, .int (iv hd), .int (iv ((hd + (len - 1)) % 17))]))) arr (arq 17 (va_up q ((hd + (len - 1)) % 17).toNat none)), ?_, ⟨hd, va_up q ((hd + (len - 1)) % 17).toNat none, ?_, h2, by omega, hset_at, fun i u v => ?_⟩, fun p pr pa => ?_⟩
  · unfold fJ10_removeLast
    rw [c_mon h1, e_call0 ep, if_neg (fun e => by cases e)]
    rfl
  · rw [hset_ne hra, hset_at]
  · rw [va_up_ne _ _ (by omega)]
    exact h5 i u (by omega)
  · rw [hset_ne pa, hset_ne pr]
theorem J10_isEmpty_c {β : Type} {K : Int32 → HM β} {g : Nat → Nat} {h : Nat → Option hC} {n w r arr : Nat} {len : Int} {f : Int → Nat} (hd : DQ h r arr len f) : mb (mon 14 (some r) (mcall0 (fJ10_isEmpty g (some r)))) K (h, n, w) = K (iv (b2 (len = 0))) (h, n, w) := by
  obtain ⟨hd, q, h1, h2, h3, h4, -⟩ := hd
  rw [c_mon h1]
  refine e_call0 (u' := 0) ?_
  unfold fJ10_isEmpty
  rw [d_o1 h1, d_o2 h1]
  by_cases e : len = 0
  · rw [b2_t e, if_pos (congrArg iv (by omega))]
    exact congrFun (mretT_b (a := 1) (Or.inr rfl)) _
  · rw [b2_f e, if_neg (by rw [iv_eq (by omega) (by omega)]; omega)]
    exact congrFun (mretT_b (a := 0) (Or.inl rfl)) _
