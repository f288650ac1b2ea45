/-! ===== ArrayList: add, where there is room ===== -/
def fup (f : Int → Nat) (len : Int) (b : Nat) : Int → Nat := fun i => if i = len then b else f i
theorem J2_add_in {g : Nat → Nat} {h : Nat → Option hC} {n r arr b : Nat} {len : Int} {f : Int → Nat} {mc : Int32} {cap : Nat} {q : Nat → Option Nat} (hr : h r = some (.inr (13, [.int mc, .ref arr, .int (iv len)]))) (hl : 0 ≤ len ∧ len < cap) (hc : cap = 10 ∨ cap = 15 ∨ cap = 22) (ha : h arr = some (arq cap q)) (hq : ∀ i, 0 ≤ i → i < len → q i.toNat = some (f i)) (hb : OB h b) :
    ∃ h', fJ2_add g (some r) (some b) (h, n, 0) = some (iv 1, (h', n, 34)) ∧ AX g h' r arr (len + 1) (fup f len b) ∧ ∀ p, p ≠ r → p ≠ arr → h' p = h p := by
  have hne : r ≠ arr := fun e => by rw [e, ha] at hr; cases hr
  have hr1 : hset h r (.inr (13, [.int (mc + 1), .ref arr, .int (iv len)])) r = some (.inr (13, [.int (mc + 1), .ref arr, .int (iv len)])) := hset_at
  have ha1 : hset h r (.inr (13, [.int (mc + 1), .ref arr, .int (iv len)])) arr = some (arq cap q) := by rw [hset_ne (fun e => hne e.symm)]; exact ha
  have hb1 := OB_set (a := r) (o := (13, [.int (mc + 1), .ref arr, .int (iv len)])) hb (show (13 : Nat) < 24 by decide)
  generalize hh1 : hset h r (.inr (13, [.int (mc + 1), .ref arr, .int (iv len)])) = h1 at hr1 ha1 hb1
  have hr2 : hset h1 arr (arq cap (va_up q len.toNat (some b))) r = some (.inr (13, [.int (mc + 1), .ref arr, .int (iv len)])) := by rw [hset_ne hne]; exact hr1
  have e2 : fJ2_add_2 g (some r) (some b) (some arr) (iv len) (h1, n, 0) = some ((), (hset (hset h1 arr (arq cap (va_up q len.toNat (some b)))) r (.inr (13, [.int (mc + 1), .ref arr, .int (iv len + 1)])), n, 0)) := by
    unfold fJ2_add_2
    rw [c_aN ha1]
    show (if iv len = iv (cap : Int) then _ else mb (sQ (some arr) (iv len) (some b)) fun _ => mb (pI 13 2 (some r) (iv len + 1)) fun _ => mret ()) (h1, n, 0) = _
    rw [if_neg (fun e => by rw [iv_eq (by omega) (by omega)] at e; omega), c_sQ ha1 (by omega) hl (okV_of hb1), l_p2 hr2]
    rfl
  refine ⟨hset (hset h1 arr (arq cap (va_up q len.toNat (some b)))) r (.inr (13, [.int (mc + 1), .ref arr, .int (iv (len + 1))])), ?_, ⟨mc + 1, hset_at, by omega, Or.inr ⟨cap, va_up q len.toNat (some b), ?_, by omega, hc, fun i u v => ?_⟩⟩, fun p pr pa => ?_⟩
  · unfold fJ2_add
    rw [l_o0 hr, l_p0 hr, hh1, l_o1 hr1, l_o2 hr1, c_mon hr1, c_mcall e2 (by decide)]
    have e1 : iv len + 1 = iv (len + 1) := iv_add len 1
    rw [e1]
    exact congrFun (mretT_b (a := 1) (Or.inr rfl)) _
  · rw [hset_ne (fun e => hne e.symm)]; exact hset_at
  · unfold fup
    by_cases e : i = len
    · rw [if_pos e, e, va_up_self]
    · rw [if_neg e, va_up_ne _ _ (by omega)]
      exact hq i u (by omega)
  · rw [hset_ne pr, hset_ne pa, ← hh1, hset_ne pr]
