/-! ===== ArrayList: the first add ===== -/
theorem c_aN0 {β : Type} {g : Nat → Nat} {K : Int32 → HM β} {h : Nat → Option hC} {n w : Nat} (h0 : h (g 0) = none) : mb (aN g (some (g 0))) K (h, n, w) = K 0 (h, n, w) := by
  unfold mb aN
  simp only [h0, if_true]
theorem J2_add_0 {g : Nat → Nat} {h : Nat → Option hC} {n r b : Nat} {f : Int → Nat} {mc : Int32} (hr : h r = some (.inr (13, [.int mc, .ref (g 0), .int (iv 0)]))) (h0 : h (g 0) = none) (hn : h n = none) (hg : g 0 ≠ n) (hb : OB h b) :
    ∃ h', fJ2_add g (some r) (some b) (h, n, 0) = some (iv 1, (h', n + 1, 34)) ∧ AX g h' r n 1 (fup f 0 b) ∧ ∀ p, p ≠ r → p ≠ n → h' p = h p := by
  have hne : r ≠ n := fun e => by rw [e, hn] at hr; cases hr
  have hrg : r ≠ g 0 := fun e => by rw [e, h0] at hr; cases hr
  have hr1 : hset h r (.inr (13, [.int (mc + 1), .ref (g 0), .int (iv 0)])) r = some (.inr (13, [.int (mc + 1), .ref (g 0), .int (iv 0)])) := hset_at
  have hg1 : hset h r (.inr (13, [.int (mc + 1), .ref (g 0), .int (iv 0)])) (g 0) = none := by rw [hset_ne (fun e => hrg e.symm)]; exact h0
  have hb1 := OB_set (a := r) (o := (13, [.int (mc + 1), .ref (g 0), .int (iv 0)])) hb (show (13 : Nat) < 24 by decide)
  have hn1 : hset h r (.inr (13, [.int (mc + 1), .ref (g 0), .int (iv 0)])) n = none := by rw [hset_ne (fun e => hne e.symm)]; exact hn
  generalize hh1 : hset h r (.inr (13, [.int (mc + 1), .ref (g 0), .int (iv 0)])) = h1 at hr1 hg1 hb1 hn1
  have hr2 : hset h1 n (arq 10 (fun _ => none)) r = some (.inr (13, [.int (mc + 1), .ref (g 0), .int (iv 0)])) := by rw [hset_ne hne]; exact hr1
  have emax : fJ31_max g (iv 10) (iv 1) (h1, n, 0) = some (iv 10, (h1, n, 0)) := by
    unfold fJ31_max
    rw [if_neg (by decide)]
    rfl
  have eg2 : fJ2_grow_2 g (some r) (iv 0 + 1) (h1, n, 0) = some (some n, (hset (hset h1 n (arq 10 (fun _ => none))) r (.inr (13, [.int (mc + 1), .ref n, .int (iv 0)])), n + 1, 11)) := by
    have e1 : iv 0 + 1 = iv 1 := iv_add 0 1
    have en := fun (K : Option Nat → HM (Option Nat)) => c_nQ (K := K) (h := h1) (n := n) (w := 0) (L := 34) (k := 10) (by omega) (by decide)
    rw [show (10 : Int).toNat = 10 from rfl] at en
    rw [e1]
    unfold fJ2_grow_2
    rw [l_o1 hr1, c_aN0 hg1, mjn0_b, if_neg (by decide), l_o1 hr1, if_pos rfl]
    simp only [iv_lit]
    rw [e_call0 emax, en, l_p1 hr2]
    rfl
  have eg : fJ2_grow g (some r) (h1, n, 0) = some (some n, (hset (hset h1 n (arq 10 (fun _ => none))) r (.inr (13, [.int (mc + 1), .ref n, .int (iv 0)])), n + 1, 34)) := by
    unfold fJ2_grow
    rw [l_o2 hr1, c_mon hr1, c_mcall eg2 (by decide)]
    rfl
  have ha3 : hset (hset h1 n (arq 10 (fun _ => none))) r (.inr (13, [.int (mc + 1), .ref n, .int (iv 0)])) n = some (arq 10 (fun _ => none)) := by rw [hset_ne (fun e => hne e.symm)]; exact hset_at
  have hr3 : hset (hset h1 n (arq 10 (fun _ => none))) r (.inr (13, [.int (mc + 1), .ref n, .int (iv 0)])) r = some (.inr (13, [.int (mc + 1), .ref n, .int (iv 0)])) := hset_at
  have hb3 := OB_set (a := r) (o := (13, [.int (mc + 1), .ref n, .int (iv 0)])) (OB_arr (a := n) (x := arq 10 (fun _ => none)) hb1 (fun o e => by rw [hn1] at e; cases e)) (show (13 : Nat) < 24 by decide)
  generalize hh3 : hset (hset h1 n (arq 10 (fun _ => none))) r (.inr (13, [.int (mc + 1), .ref n, .int (iv 0)])) = h3 at eg ha3 hr3 hb3
  have hr4 : hset h3 n (arq 10 (va_up (fun _ => none) (0 : Int).toNat (some b))) r = some (.inr (13, [.int (mc + 1), .ref n, .int (iv 0)])) := by rw [hset_ne hne]; exact hr3
  have e2 : fJ2_add_2 g (some r) (some b) (some (g 0)) (iv 0) (h1, n, 0) = some ((), (hset (hset h3 n (arq 10 (va_up (fun _ => none) (0 : Int).toNat (some b)))) r (.inr (13, [.int (mc + 1), .ref n, .int (iv 0 + 1)])), n + 1, 34)) := by
    unfold fJ2_add_2
    rw [c_aN0 hg1, mjn_b, if_pos (by decide), c_mon hr1, c_mcall eg (by decide)]
    show mb (sQ (some n) (iv 0) (some b)) (fun _ => mb (pI 13 2 (some r) (iv 0 + 1)) fun _ => mret ()) (h3, n + 1, 0 + 34) = _
    rw [c_sQ (i := 0) ha3 (by decide) (by omega) (okV_of hb3), l_p2 hr4]
    rfl
  refine ⟨hset (hset h3 n (arq 10 (va_up (fun _ => none) (0 : Int).toNat (some b)))) r (.inr (13, [.int (mc + 1), .ref n, .int (iv 1)])), ?_, ⟨mc + 1, hset_at, by omega, Or.inr ⟨10, va_up (fun _ => none) (0 : Int).toNat (some b), ?_, by omega, Or.inl rfl, fun i u v => ?_⟩⟩, fun p pr pn => ?_⟩
  · unfold fJ2_add
    rw [l_o0 hr, l_p0 hr, hh1, l_o1 hr1, l_o2 hr1, c_mon hr1, c_mcall e2 (by decide)]
    have e1 : iv 0 + 1 = iv 1 := iv_add 0 1
    rw [e1]
    exact congrFun (mretT_b (a := 1) (Or.inr rfl)) _
  · rw [hset_ne (fun e => hne e.symm)]; exact hset_at
  · have hi : i = 0 := by omega
    subst hi
    unfold fup
    rw [if_pos rfl, va_up_self]
  · rw [hset_ne pr, hset_ne pn, ← hh3, hset_ne pr, hset_ne pn, ← hh1, hset_ne pr]
