/-! ===== ArrayList: add, where the array grows ===== -/
theorem nl_ev {g : Nat → Nat} {h : Nat → Option hC} {n cap m : Nat} (hc : (cap = 10 ∧ m = 15) ∨ (cap = 15 ∧ m = 22)) : fJ32_newLength g (iv cap) (iv ((cap : Int) + 1) - iv cap) (ishr (iv cap) 1) (h, n, 0) = some (iv m, (h, n, 0)) := by
  rcases hc with ⟨rfl, rfl⟩ | ⟨rfl, rfl⟩ <;> exact Eq.trans rfl rfl
theorem J2_add_gr {g : Nat → Nat} {h : Nat → Option hC} {n r arr b : Nat} {f : Int → Nat} {mc : Int32} {cap m : Nat} {q : Nat → Option Nat} (hc : (cap = 10 ∧ m = 15) ∨ (cap = 15 ∧ m = 22)) (hr : h r = some (.inr (13, [.int mc, .ref arr, .int (iv cap)]))) (ha : h arr = some (arq cap q)) (hq : ∀ i : Int, 0 ≤ i → i < cap → q i.toNat = some (f i)) (hok : ∀ i : Int, 0 ≤ i → i < cap → OB h (f i)) (hn : h n = none) (hb : OB h b) :
    ∃ h', fJ2_add g (some r) (some b) (h, n, 0) = some (iv 1, (h', n + 1, 34)) ∧ AX g h' r n ((cap : Int) + 1) (fup f cap b) ∧ ∀ p, p ≠ r → p ≠ n → h' p = h p := by
  have hc9 : cap ≤ 15 ∧ m ≤ 22 ∧ cap < m ∧ 10 ≤ cap := by omega
  have hne : r ≠ n := fun e => by rw [e, hn] at hr; cases hr
  have hra : r ≠ arr := fun e => by rw [e, ha] at hr; cases hr
  have hr1 : hset h r (.inr (13, [.int (mc + 1), .ref arr, .int (iv cap)])) r = some (.inr (13, [.int (mc + 1), .ref arr, .int (iv cap)])) := hset_at
  have ha1 : hset h r (.inr (13, [.int (mc + 1), .ref arr, .int (iv cap)])) arr = some (arq cap q) := by rw [hset_ne (fun e => hra e.symm)]; exact ha
  have hob : ∀ x, OB h x → OB (hset h r (.inr (13, [.int (mc + 1), .ref arr, .int (iv cap)]))) x := fun x hx => OB_set (a := r) (o := (13, [.int (mc + 1), .ref arr, .int (iv cap)])) hx (show (13 : Nat) < 24 by decide)
  have hn1 : hset h r (.inr (13, [.int (mc + 1), .ref arr, .int (iv cap)])) n = none := by rw [hset_ne (fun e => hne e.symm)]; exact hn
  generalize hh1 : hset h r (.inr (13, [.int (mc + 1), .ref arr, .int (iv cap)])) = h1 at hr1 ha1 hob hn1
  have hon : ∀ x y, OB h x → OB (hset h1 n (arq m y)) x := fun x y hx => OB_arr (a := n) (x := arq m y) (hob x hx) (fun o e => by rw [hn1] at e; cases e)
  have ecp := J30_copyOf_2_ev (g := g) ha1 hn1 (m := m) (by omega) (by omega) (fun i hi => by
    have e := hq i (by omega) (by omega)
    rw [Int.toNat_natCast] at e
    rw [e]
    exact okV_of (hon _ _ (hok i (by omega) (by omega))))
  have hr2 : ∀ y, hset h1 n (arq m y) r = some (.inr (13, [.int (mc + 1), .ref arr, .int (iv cap)])) := fun y => by rw [hset_ne hne]; exact hr1
  generalize hy : (fun i => if i < cap then q i else none) = y at ecp
  have eg2 : fJ2_grow_2 g (some r) (iv cap + 1) (h1, n, 0) = some (some n, (hset (hset h1 n (arq m y)) r (.inr (13, [.int (mc + 1), .ref n, .int (iv cap)])), n + 1, 23)) := by
    have e1 : iv cap + 1 = iv ((cap : Int) + 1) := iv_add cap 1
    rw [e1]
    unfold fJ2_grow_2
    rw [l_o1 hr1, c_aN ha1, mjn0_b, if_pos (by show iv 0 < iv (cap : Int); rw [iv_lt (by omega) (by omega)]; omega), e_call0 (nl_ev hc), l_o1 hr1, c_mcall ecp (by decide), l_p1 (hr2 y)]
    rfl
  have eg : fJ2_grow g (some r) (h1, n, 0) = some (some n, (hset (hset h1 n (arq m y)) r (.inr (13, [.int (mc + 1), .ref n, .int (iv cap)])), n + 1, 34)) := by
    unfold fJ2_grow
    rw [l_o2 hr1, c_mon hr1, c_mcall eg2 (by decide)]
    rfl
  have ha3 : hset (hset h1 n (arq m y)) r (.inr (13, [.int (mc + 1), .ref n, .int (iv cap)])) n = some (arq m y) := by rw [hset_ne (fun e => hne e.symm)]; exact hset_at
  have hr3 : hset (hset h1 n (arq m y)) r (.inr (13, [.int (mc + 1), .ref n, .int (iv cap)])) r = some (.inr (13, [.int (mc + 1), .ref n, .int (iv cap)])) := hset_at
  have hb3 := OB_set (a := r) (o := (13, [.int (mc + 1), .ref n, .int (iv cap)])) (hon b y hb) (show (13 : Nat) < 24 by decide)
  generalize hh3 : hset (hset h1 n (arq m y)) r (.inr (13, [.int (mc + 1), .ref n, .int (iv cap)])) = h3 at eg ha3 hr3 hb3
  have hr4 : ∀ u, hset h3 n (arq m u) r = some (.inr (13, [.int (mc + 1), .ref n, .int (iv cap)])) := fun u => by rw [hset_ne hne]; exact hr3
  have e2 : fJ2_add_2 g (some r) (some b) (some arr) (iv cap) (h1, n, 0) = some ((), (hset (hset h3 n (arq m (va_up y (cap : Int).toNat (some b)))) r (.inr (13, [.int (mc + 1), .ref n, .int (iv cap + 1)])), n + 1, 34)) := by
    unfold fJ2_add_2
    rw [c_aN ha1, mjn_b, if_pos rfl, c_mon hr1, c_mcall eg (by decide)]
    show mb (sQ (some n) (iv cap) (some b)) (fun _ => mb (pI 13 2 (some r) (iv cap + 1)) fun _ => mret ()) (h3, n + 1, 0 + 34) = _
    rw [c_sQ (i := (cap : Int)) ha3 (by omega) (by omega) (okV_of hb3), l_p2 (hr4 _)]
    rfl
  refine ⟨hset (hset h3 n (arq m (va_up y (cap : Int).toNat (some b)))) r (.inr (13, [.int (mc + 1), .ref n, .int (iv ((cap : Int) + 1))])), ?_, ⟨mc + 1, hset_at, by omega, Or.inr ⟨m, va_up y (cap : Int).toNat (some b), ?_, by omega, by omega, fun i u v => ?_⟩⟩, fun p pr pn => ?_⟩
  · unfold fJ2_add
    rw [l_o0 hr, l_p0 hr, hh1, l_o1 hr1, l_o2 hr1, c_mon hr1, c_mcall e2 (by decide)]
    have e1 : iv cap + 1 = iv ((cap : Int) + 1) := iv_add cap 1
    rw [e1]
    exact congrFun (mretT_b (a := 1) (Or.inr rfl)) _
  · rw [hset_ne (fun e => hne e.symm)]; exact hset_at
  · unfold fup
    by_cases e : i = cap
    · rw [if_pos e, e, va_up_self]
    · rw [if_neg e, va_up_ne _ _ (by omega), ← hy]
      show (if i.toNat < cap then q i.toNat else none) = some (f i)
      rw [if_pos (by omega)]
      exact hq i u (by omega)
  · rw [hset_ne pr, hset_ne pn, ← hh3, hset_ne pr, hset_ne pn, ← hh1, hset_ne pr]
