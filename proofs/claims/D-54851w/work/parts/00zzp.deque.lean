/-! ===== ArrayDeque of 17 places ===== -/
def DQ (h : Nat → Option hC) (r arr : Nat) (len : Int) (f : Int → Nat) : Prop := ∃ (hd : Int) (q : Nat → Option Nat), h r = some (.inr (14, [.ref arr, .int (iv hd), .int (iv ((hd + len) % 17))])) ∧ (0 ≤ hd ∧ hd < 17) ∧ (0 ≤ len ∧ len ≤ 10) ∧ h arr = some (arq 17 q) ∧ ∀ i, 0 ≤ i → i < len → q ((hd + i) % 17).toNat = some (f i)
theorem d_o0 {β : Type} {K : Option Nat → HM β} {h : Nat → Option hC} {n w a v : Nat} {x y : Int32} (ha : h a = some (.inr (14, [.ref v, .int x, .int y]))) : mb (oR 14 0 (some a)) K (h, n, w) = K (some v) (h, n, w) := c_oR ha rfl
theorem d_o1 {β : Type} {K : Int32 → HM β} {h : Nat → Option hC} {n w a v : Nat} {x y : Int32} (ha : h a = some (.inr (14, [.ref v, .int x, .int y]))) : mb (oI 14 1 (some a)) K (h, n, w) = K x (h, n, w) := c_oI ha rfl
theorem d_o2 {β : Type} {K : Int32 → HM β} {h : Nat → Option hC} {n w a v : Nat} {x y : Int32} (ha : h a = some (.inr (14, [.ref v, .int x, .int y]))) : mb (oI 14 2 (some a)) K (h, n, w) = K y (h, n, w) := c_oI ha rfl
theorem d_p1 {β : Type} {K : Unit → HM β} {h : Nat → Option hC} {n w a v : Nat} {x y u : Int32} (ha : h a = some (.inr (14, [.ref v, .int x, .int y]))) : mb (pI 14 1 (some a) u) K (h, n, w) = K () (hset h a (.inr (14, [.ref v, .int u, .int y])), n, w) := c_pI ha (show (1 : Nat) < 3 by decide)
theorem d_p2 {β : Type} {K : Unit → HM β} {h : Nat → Option hC} {n w a v : Nat} {x y u : Int32} (ha : h a = some (.inr (14, [.ref v, .int x, .int y]))) : mb (pI 14 2 (some a) u) K (h, n, w) = K () (hset h a (.inr (14, [.ref v, .int x, .int u])), n, w) := c_pI ha (show (2 : Nat) < 3 by decide)
theorem J10_size_c {β : Type} {K : Int32 → HM β} {g : Nat → Nat} {h : Nat → Option hC} {n w r arr : Nat} {len : Int} {f : Int → Nat} (hd : DQ h r arr len f) : mb (mon 14 (some r) (mcall0 (fJ10_size g (some r)))) K (h, n, w) = K (iv len) (h, n, w) := by
  obtain ⟨hd, q, h1, h2, h3, h4, -⟩ := hd
  rw [c_mon h1]
  refine e_call0 (u' := 0) ?_
  have es : fJ10_sub g (iv ((hd + len) % 17)) (iv hd) (iv ((17 : Nat) : Int)) (h, n, 0) = some (iv len, (h, n, 0)) := by
    unfold fJ10_sub
    rw [iv_sub, iv_add]
    by_cases e : 0 ≤ (hd + len) % 17 - hd
    · rw [if_pos (by show iv 0 ≤ _; rw [iv_le (by omega) (by omega)]; exact e)]
      rw [show (hd + len) % 17 - hd = len by omega]
      rfl
    · rw [if_neg (by show ¬ iv 0 ≤ _; rw [iv_le (by omega) (by omega)]; exact e)]
      rw [show (hd + len) % 17 - hd + ((17 : Nat) : Int) = len by omega]
      rfl
  unfold fJ10_size
  rw [d_o2 h1, d_o1 h1, d_o0 h1, c_aN h4, e_call0 es]
  rfl
theorem J10_inc_c {β : Type} {K : Int32 → HM β} {g : Nat → Nat} {h : Nat → Option hC} {n w : Nat} {i : Int} (hi : 0 ≤ i ∧ i < 17) : mb (mcall0 (fJ10_inc g (iv i) (iv ((17 : Nat) : Int)))) K (h, n, w) = K (iv ((i + 1) % 17)) (h, n, w) := by
  refine e_call0 (u' := 0) ?_
  have e1 : iv i + 1 = iv (i + 1) := iv_add i 1
  unfold fJ10_inc
  rw [e1]
  by_cases e : i + 1 < ((17 : Nat) : Int)
  · rw [if_pos (by rw [iv_lt (by omega) (by omega)]; exact e), show (i + 1) % 17 = i + 1 by omega]
    rfl
  · rw [if_neg (by rw [iv_lt (by omega) (by omega)]; exact e), show (i + 1) % 17 = 0 by omega]
    rfl
theorem J10_addLast_ev {g : Nat → Nat} {h : Nat → Option hC} {n r arr b : Nat} {len : Int} {f : Int → Nat} (hd : DQ h r arr len f) (hl : len < 10) (hb : OB h b) :
    ∃ h', fJ10_addLast g (some r) (some b) (h, n, 0) = some ((), (h', n, 0)) ∧ DQ h' r arr (len + 1) (fup f len b) ∧ ∀ p, p ≠ r → p ≠ arr → h' p = h p := by
  obtain ⟨hd, q, h1, h2, h3, h4, h5⟩ := hd
  have hra : r ≠ arr := fun e => by rw [e, h4] at h1; cases h1
  have hr2 : hset h arr (arq 17 (va_up q ((hd + len) % 17).toNat (some b))) r = some (.inr (14, [.ref arr, .int (iv hd), .int (iv ((hd + len) % 17))])) := by rw [hset_ne hra]; exact h1
  have ht : 0 ≤ (hd + len) % 17 ∧ (hd + len) % 17 < ((17 : Nat) : Int) := by omega
  refine ⟨hset (hset h arr (arq 17 (va_up q ((hd + len) % 17).toNat (some b)))) r (.inr (14, [.ref arr, .int (iv hd), .int (iv (((hd + len) % 17 + 1) % 17))])), ?_, ⟨hd, va_up q ((hd + len) % 17).toNat (some b), ?_, h2, by omega, ?_, fun i u v => ?_⟩, fun p pr pa => ?_⟩
  · unfold fJ10_addLast
    rw [if_neg (fun e => by cases e), d_o0 h1, d_o2 h1, c_sQ h4 (by decide) ht (okV_of hb), d_o1 hr2, d_o2 hr2, c_aN (L := 17) (by rw [hset_at]; rfl), J10_inc_c (by omega), d_p2 hr2, if_neg (by rw [iv_eq (by omega) (by omega)]; omega)]
    rfl
  · rw [hset_at]
    exact congrArg (fun t => some (Sum.inr (14, [Value.ref arr, Value.int (iv hd), Value.int (iv t)]))) (by omega)
  · rw [hset_ne (fun e => hra e.symm)]; exact hset_at
  · unfold fup
    by_cases e : i = len
    · rw [if_pos e, e, va_up_self]
    · rw [if_neg e, va_up_ne _ _ (by omega)]
      exact h5 i u (by omega)
  · rw [hset_ne pr, hset_ne pa]
