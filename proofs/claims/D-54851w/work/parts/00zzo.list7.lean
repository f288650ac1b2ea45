/-! ===== ArrayList: remove ===== -/
def fdn (f : Int → Nat) (i : Int) : Int → Nat := fun j => if j < i then f j else f (j + 1)
theorem J2_remove_ev {g : Nat → Nat} {h : Nat → Option hC} {n r arr : Nat} {len i : Int} {f : Int → Nat} (ha : AX g h r arr len f) (hi : 0 ≤ i ∧ i < len) (hok : ∀ j : Int, 0 ≤ j → j < len → OB h (f j)) :
    ∃ h', fJ2_remove g (some r) (iv i) (h, n, 0) = some (some (f i), (h', n, 0)) ∧ AX g h' r arr (len - 1) (fdn f i) ∧ ∀ p, p ≠ r → p ≠ arr → h' p = h p := by
  obtain ⟨mc, h1, h2, h3⟩ := ha
  rcases h3 with ⟨rfl, -, -⟩ | ⟨cap, q, k1, k2, k3, k4⟩
  · omega
  have hra : r ≠ arr := fun e => by rw [e, k1] at h1; cases h1
  have hc9 : cap ≤ 22 := by omega
  have hr1 : hset h r (.inr (13, [.int (mc + 1), .ref arr, .int (iv len)])) r = some (.inr (13, [.int (mc + 1), .ref arr, .int (iv len)])) := hset_at
  have ha1 : hset h r (.inr (13, [.int (mc + 1), .ref arr, .int (iv len)])) arr = some (arq cap q) := by rw [hset_ne (fun e => hra e.symm)]; exact k1
  have hob : ∀ x, OB h x → OB (hset h r (.inr (13, [.int (mc + 1), .ref arr, .int (iv len)]))) x := fun x hx => OB_set (a := r) (o := (13, [.int (mc + 1), .ref arr, .int (iv len)])) hx (show (13 : Nat) < 24 by decide)
  generalize hh1 : hset h r (.inr (13, [.int (mc + 1), .ref arr, .int (iv len)])) = h1' at hr1 ha1 hob
  -- the moved array
  have hmv : ∃ y : Nat → Option Nat, (∀ j : Int, 0 ≤ j → j < len - 1 → y j.toNat = some (fdn f i j)) ∧ fJ2_fastRemove g (some r) (some arr) (iv i) (h, n, 0) = some ((), (hset (hset (hset h1' arr (arq cap y)) r (.inr (13, [.int (mc + 1), .ref arr, .int (iv (len - 1))]))) arr (arq cap (va_up y (len - 1).toNat none)), n, 0)) := by
    have hr2 : ∀ y, hset h1' arr (arq cap y) r = some (.inr (13, [.int (mc + 1), .ref arr, .int (iv len)])) := fun y => by rw [hset_ne hra]; exact hr1
    have ha2 : ∀ y, hset (hset h1' arr (arq cap y)) r (.inr (13, [.int (mc + 1), .ref arr, .int (iv (len - 1))])) arr = some (arq cap y) := fun y => by rw [hset_ne (fun e => hra e.symm)]; exact hset_at
    have e1 : iv len - 1 = iv (len - 1) := iv_sub len 1
    have e2 : iv i + 1 = iv (i + 1) := iv_add i 1
    have etail : ∀ y, (mb (pI 13 2 (some r) (iv (len - 1))) fun _ => mb (sQ (some arr) (iv (len - 1)) none) fun _ => mret ()) (hset h1' arr (arq cap y), n, 0) = some ((), (hset (hset (hset h1' arr (arq cap y)) r (.inr (13, [.int (mc + 1), .ref arr, .int (iv (len - 1))]))) arr (arq cap (va_up y (len - 1).toNat none)), n, 0)) := fun y => by
      rw [l_p2 (hr2 y), c_sQ (i := len - 1) (ha2 y) (by omega) (by omega) rfl]
      rfl
    by_cases hl : len - 1 ≤ i
    · refine ⟨q, fun j u v => ?_, ?_⟩
      · unfold fdn
        rw [if_pos (by omega)]
        exact k4 j u (by omega)
      · have et := etail q
        rw [hset_id ha1] at et
        rw [hset_id ha1]
        unfold fJ2_fastRemove
        rw [l_o0 h1, l_p0 h1, hh1, l_o2 hr1, mjn0_b, e1, if_pos (by rw [iv_le (by omega) (by omega)]; exact hl)]
        exact et
    · have ec := fun (K : Unit → HM Unit) => c_cpQ (K := K) (n := n) (w := 0) (sp := i + 1) (dp := i) (k := len - 1 - i) ha1 ha1 (by omega) (by omega) (by omega) (by omega) (by omega) (fun j hj => by
        have e := k4 (i + 1 + j) (by omega) (by omega)
        rw [show (i + 1 + (j : Int)).toNat = (i + 1).toNat + j by omega] at e
        rw [e]
        exact okV_of (hob _ (hok _ (by omega) (by omega))))
      refine ⟨va_cpy q q (i + 1).toNat i.toNat (len - 1 - i).toNat, fun j u v => ?_, ?_⟩
      · unfold va_cpy fdn
        by_cases e : j < i
        · rw [if_neg (by omega), if_pos e]
          exact k4 j u (by omega)
        · rw [if_pos (by omega), if_neg e, show (i + 1).toNat + (j.toNat - i.toNat) = (j + 1).toNat by omega]
          exact k4 (j + 1) (by omega) (by omega)
      · unfold fJ2_fastRemove
        rw [l_o0 h1, l_p0 h1, hh1, l_o2 hr1, mjn0_b, e1, if_neg (by rw [iv_le (by omega) (by omega)]; exact hl), e2, iv_sub, ec]
        exact etail _
  obtain ⟨y, y1, y2⟩ := hmv
  refine ⟨hset (hset (hset h1' arr (arq cap y)) r (.inr (13, [.int (mc + 1), .ref arr, .int (iv (len - 1))]))) arr (arq cap (va_up y (len - 1).toNat none)), ?_, ⟨mc + 1, ?_, by omega, Or.inr ⟨cap, va_up y (len - 1).toNat none, hset_at, by omega, k3, fun j u v => ?_⟩⟩, fun p pr pa => ?_⟩
  · unfold fJ2_remove
    rw [l_o2 h1, J7_checkIndex_c hi (by omega), l_o1 h1, c_aQ k1 (Or.inl rfl) (by omega) (by omega), k4 i hi.1 hi.2, c_mon h1, e_call0 y2]
    rfl
  · rw [hset_ne hra]; exact hset_at
  · rw [va_up_ne _ _ (by omega)]
    exact y1 j u v
  · rw [hset_ne pa, hset_ne pr, hset_ne pa, ← hh1, hset_ne pr]
