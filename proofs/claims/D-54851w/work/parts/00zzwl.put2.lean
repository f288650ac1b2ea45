/-! ===== TreeMap.put of a key that isn't there ===== -/
theorem J7_rnn_c {β : Type} {K : Option Nat → HM β} {g : Nat → Nat} {H : Nat → Option hC} {n w x : Nat} : mb (mcall0 (fJ7_requireNonNull g (some x))) K (H, n, w) = K (some x) (H, n, w) := by
  refine e_call0 (u' := 0) ?_
  unfold fJ7_requireNonNull
  rw [if_neg (fun w => by cases w)]
  rfl
section
variable {r : Nat} {S : Nat → Prop} {cmp ks : Option Nat} {h : Nat → Option hC} {M : Nat → Nat → Option Nat} {C : Nat → Int32} {rt : Option Nat} {sz mc : Int32} {n w : Nat} {g : Nat → Nat} {nn : Int} {pos lo hi : Nat → Int} {e kk : Int → Nat} {PV : Option Nat → Prop}
theorem putN_ev (hr : ¬ S r) (hG : TG S M C rt nn pos lo hi e kk PV) (hn : n ≠ r) (hS : ¬ S n) (hN : nn < 1000) {x : Nat} {v : Option Nat} (hv : PV v) {d : Int → Int} {d0 : Int32} {p : Int} (hp : 0 ≤ p ∧ p ≤ nn)
    (hc : ∀ i, 0 ≤ i → i < nn → (mon 4 (some x) (mcall0 (fX10_compareTo g (some x) (some (kk i))))) (ov r S none ks h M C rt (iv nn) mc, n, 0) = some (iv (d i), (ov r S none ks h M C rt (iv nn) mc, n, 0)))
    (hs : (mon 4 (some x) (mcall0 (fX10_compareTo g (some x) (some x)))) (ov r S none ks h M C rt (iv nn) mc, n, 0) = some (d0, (ov r S none ks h M C rt (iv nn) mc, n, 0)))
    (hk : mcst [4, 15, 16, 23] (some x) (ov r S none ks h M C rt (iv nn) mc, n, 0) = some ((), (ov r S none ks h M C rt (iv nn) mc, n, 0)))
    (hd : ∀ i, 0 ≤ i → i < nn → -2147483648 ≤ d i ∧ d i < 2147483648) (h1 : ∀ i, 0 ≤ i → i < p → 0 < d i) (h2 : ∀ i, p ≤ i → i < nn → d i < 0) :
    ∃ (M' : Nat → Nat → Option Nat) (C' : Nat → Int32) (rt' : Option Nat) (pos' lo' hi' : Nat → Int) (e' : Int → Nat), fJ6_put g (some r) (some x) v (ov r S none ks h M C rt (iv nn) mc, n, 0) = some (none, (ov r (fun q => S q ∨ q = n) none ks h M' C' rt' (iv (nn + 1)) (mc + 1), n + 1, 14)) ∧ TG (fun q => S q ∨ q = n) M' C' rt' (nn + 1) pos' lo' hi' e' (kins kk p x) PV := by
  have hI := hG.1
  have hnn := hG.2.2.2.2.2
  have esz : iv nn + 1 = iv (nn + 1) := iv_add nn 1
  have top : ∀ (σ : Hp), fJ6_put_2 g (some r) (some x) v 1 (ov r S none ks h M C rt (iv nn) mc, n, 0) = some (none, σ) → fJ6_put g (some r) (some x) v (ov r S none ks h M C rt (iv nn) mc, n, 0) = some (none, (σ.1, σ.2.1, 14)) := fun σ hσ => by
    obtain ⟨s1, s2, s3⟩ := σ
    unfold fJ6_put
    rw [v_mon, c_mcall hσ (by decide)]
    rfl
  have hrn : ¬ (S r ∨ r = n) := fun q => q.elim hr (fun q => hn q.symm)
  have hnS : (fun q => S q ∨ q = n) n := Or.inr rfl
  cases hrt : rt with
  | none =>
    rw [hrt] at hc hs hk hG hI top
    have n0 : nn = 0 := by
      rcases hI.2.2.2.2 with ⟨-, q⟩ | ⟨y, q, -⟩
      · omega
      · cases q
    have no : ∀ q, ¬ S q := fun q hq => by have := hI.1 q hq; omega
    have p0 : p = 0 := by omega
    have hC1 : okC (cup (cup C n 0) n 1) := okC_up (okC_up hG.2.1 (Or.inl rfl)) (Or.inr rfl)
    refine ⟨mup (mup (mup (fun f q => if q = n then none else M f q) 0 n (some x)) 1 n v) 4 n none, cup (cup C n 0) n 1, some n, (fun _ => 0), (fun _ => 0), (fun _ => 1), (fun _ => n), ?_, ?_⟩
    rotate_left
    · rw [n0, p0]
      exact TG_one (kk := kk) (PV := PV) (n := n) (v := v) (fun q => ⟨fun z => z.resolve_left (no q), fun z => Or.inr z⟩) hC1 hv (by rw [mup_f (by decide), mup_f (by decide), mup_s]) (by rw [mup_f (by decide), mup_s]) (by rw [mup_f (by decide), mup_f (by decide), mup_f (by decide)]; exact if_pos rfl) (by rw [mup_f (by decide), mup_f (by decide), mup_f (by decide)]; exact if_pos rfl) (by rw [mup_s])
    · refine top (_, _, 7) ?_
      have ec : fJ6_compare g (some r) (some x) (some x) (ov r S none ks h M C none (iv nn) mc, n, 0) = some (d0, (ov r S none ks h M C none (iv nn) mc, n, 0)) := by
        unfold fJ6_compare
        rw [v_m2, if_pos rfl, mb_eq hk, mb_eq hs]
        rfl
      have ee : fJ6_addEntryToEmptyMap g (some r) (some x) v (ov r S none ks h M C none (iv nn) mc, n, 0) = some ((), (ov r (fun q => S q ∨ q = n) none ks h (mup (mup (mup (fun f q => if q = n then none else M f q) 0 n (some x)) 1 n v) 4 n none) (cup (cup C n 0) n 1) (some n) 1 (mc + 1), n + 1, 7)) := by
        unfold fJ6_addEntryToEmptyMap
        rw [v_mon, e_call0 ec, c_nO (by decide), ov_new hn hS, c_mnn, J25_init_c hrn hnS, v_q3, v_q4, v_m5, v_q5]
        rfl
      unfold fJ6_put_2
      rw [v_m3, if_pos rfl, v_mon, c_mcall ee (by decide), n0]
      rfl
  | some y =>
    obtain ⟨sy, -, y1, y2⟩ := TI_rt hI hrt
    rw [hrt] at hc hs hk hG hI top
    obtain ⟨b, b1, b2, b3⟩ := srN_put (v0 := some r) (v2 := v) (v3 := 1) (K0 := fun (x17 : Option Nat) => mb (oR 19 1 x17) fun x18 => mjn0 (mb (pR 19 1 x17 v) fun _ => mret x18) fun j187 => if (1 : Int32) = 0 then (if x18 = none then (j187) else (mret x18)) else (j187))
      (K1 := fun (x13 : Int32) (x14 : Option Nat) => mjn (fun (x15 : Int32) => mb (mon 18 (some r) (mcall 14 7 (fJ6_addEntry g (some r) (some x) v x14 x15))) fun _ => mret none) fun j216 => if 0 ≤ x13 then (j216 0) else (j216 1)) hr hG hc hd h1 h2 5000 y sy (by omega) (by omega) (by omega)
    have gd := hd (pos b) (by have := hI.1 b b2; omega) (by have := hI.1 b b2; omega)
    have hfl : ∃ fl : Int32, (if 0 ≤ iv (d (pos b)) then (0 : Int32) else 1) = fl ∧ ((fl ≠ 0 ∧ M 2 b = none ∧ p = pos b) ∨ (fl = 0 ∧ M 3 b = none ∧ p = pos b + 1)) := by
      refine ⟨_, rfl, ?_⟩
      rcases b3 with ⟨q1, q2, q3⟩ | ⟨q1, q2, q3⟩
      · left
        rw [if_neg (by show ¬ iv 0 ≤ iv _; rw [iv_le (by omega) gd]; omega)]
        exact ⟨by decide, q1, q2⟩
      · right
        rw [if_pos (by show iv 0 ≤ iv _; rw [iv_le (by omega) gd]; omega)]
        exact ⟨rfl, q1, q2⟩
    obtain ⟨fl, hfl, hq⟩ := hfl
    obtain ⟨M', C', rt', pos', lo', hi', e', k1, k2⟩ := addE_ev (cmp := none) (ks := ks) (h := h) (sz := iv nn) (mc := mc) (g := g) hr hG hn hS hN (x := x) hv b2 hq
    refine ⟨M', C', rt', pos', lo', hi', e', top (ov r (fun q => S q ∨ q = n) none ks h M' C' rt' (iv (nn + 1)) (mc + 1), n + 1, 7) ?_, k2⟩
    rw [esz] at k1
    unfold fJ6_put_2
    rw [v_m3, if_neg (fun w => by cases w), v_m2, mjn2_b, if_pos rfl, J7_rnn_c, mb_eq hk]
    refine b1.trans ?_
    have ej : ∀ (J : Int32 → HM (Option Nat)), (if 0 ≤ iv (d (pos b)) then J 0 else J 1) = J fl := fun J => by
      rw [← hfl]
      by_cases z : 0 ≤ iv (d (pos b))
      · rw [if_pos z, if_pos z]
      · rw [if_neg z, if_neg z]
    show (mjn (fun (x15 : Int32) => mb (mon 18 (some r) (mcall 14 7 (fJ6_addEntry g (some r) (some x) v (some b) x15))) fun _ => mret none) fun j216 => if 0 ≤ iv (d (pos b)) then (j216 0) else (j216 1)) (ov r S none ks h M C (some y) (iv nn) mc, n, 0) = _
    rw [mjn_b]
    refine (congrFun (ej (fun (x15 : Int32) => mb (mon 18 (some r) (mcall 14 7 (fJ6_addEntry g (some r) (some x) v (some b) x15))) fun _ => mret none)) _).trans ?_
    rw [v_mon, c_mcall k1 (by decide)]
    rfl
theorem putC_ev (hr : ¬ S r) (hG : TG S M C rt nn pos lo hi e kk PV) (hn : n ≠ r) (hS : ¬ S n) (hN : nn < 1000) {x c : Nat} {v : Option Nat} (hv : PV v) {d : Int → Int} {d0 : Int32} {p : Int} (hp : 0 ≤ p ∧ p ≤ nn)
    (hc : ∀ i, 0 ≤ i → i < nn → (mdsp (some c) [(9, mcall0 (fX11_compare g (some c) (some x) (some (kk i)))), (10, mcall0 (fX12_compare g (some c) (some x) (some (kk i))))]) (ov r S (some c) ks h M C rt (iv nn) mc, n, 0) = some (iv (d i), (ov r S (some c) ks h M C rt (iv nn) mc, n, 0)))
    (hs : (mdsp (some c) [(9, mcall0 (fX11_compare g (some c) (some x) (some x))), (10, mcall0 (fX12_compare g (some c) (some x) (some x)))]) (ov r S (some c) ks h M C rt (iv nn) mc, n, 0) = some (d0, (ov r S (some c) ks h M C rt (iv nn) mc, n, 0)))
    (hd : ∀ i, 0 ≤ i → i < nn → -2147483648 ≤ d i ∧ d i < 2147483648) (h1 : ∀ i, 0 ≤ i → i < p → 0 < d i) (h2 : ∀ i, p ≤ i → i < nn → d i < 0) :
    ∃ (M' : Nat → Nat → Option Nat) (C' : Nat → Int32) (rt' : Option Nat) (pos' lo' hi' : Nat → Int) (e' : Int → Nat), fJ6_put g (some r) (some x) v (ov r S (some c) ks h M C rt (iv nn) mc, n, 0) = some (none, (ov r (fun q => S q ∨ q = n) (some c) ks h M' C' rt' (iv (nn + 1)) (mc + 1), n + 1, 14)) ∧ TG (fun q => S q ∨ q = n) M' C' rt' (nn + 1) pos' lo' hi' e' (kins kk p x) PV := by
  have hI := hG.1
  have hnn := hG.2.2.2.2.2
  have esz : iv nn + 1 = iv (nn + 1) := iv_add nn 1
  have top : ∀ (σ : Hp), fJ6_put_2 g (some r) (some x) v 1 (ov r S (some c) ks h M C rt (iv nn) mc, n, 0) = some (none, σ) → fJ6_put g (some r) (some x) v (ov r S (some c) ks h M C rt (iv nn) mc, n, 0) = some (none, (σ.1, σ.2.1, 14)) := fun σ hσ => by
    obtain ⟨s1, s2, s3⟩ := σ
    unfold fJ6_put
    rw [v_mon, c_mcall hσ (by decide)]
    rfl
  have hrn : ¬ (S r ∨ r = n) := fun q => q.elim hr (fun q => hn q.symm)
  have hnS : (fun q => S q ∨ q = n) n := Or.inr rfl
  cases hrt : rt with
  | none =>
    rw [hrt] at hc hs hG hI top
    have n0 : nn = 0 := by
      rcases hI.2.2.2.2 with ⟨-, q⟩ | ⟨y, q, -⟩
      · omega
      · cases q
    have no : ∀ q, ¬ S q := fun q hq => by have := hI.1 q hq; omega
    have p0 : p = 0 := by omega
    have hC1 : okC (cup (cup C n 0) n 1) := okC_up (okC_up hG.2.1 (Or.inl rfl)) (Or.inr rfl)
    refine ⟨mup (mup (mup (fun f q => if q = n then none else M f q) 0 n (some x)) 1 n v) 4 n none, cup (cup C n 0) n 1, some n, (fun _ => 0), (fun _ => 0), (fun _ => 1), (fun _ => n), ?_, ?_⟩
    rotate_left
    · rw [n0, p0]
      exact TG_one (kk := kk) (PV := PV) (n := n) (v := v) (fun q => ⟨fun z => z.resolve_left (no q), fun z => Or.inr z⟩) hC1 hv (by rw [mup_f (by decide), mup_f (by decide), mup_s]) (by rw [mup_f (by decide), mup_s]) (by rw [mup_f (by decide), mup_f (by decide), mup_f (by decide)]; exact if_pos rfl) (by rw [mup_f (by decide), mup_f (by decide), mup_f (by decide)]; exact if_pos rfl) (by rw [mup_s])
    · refine top (_, _, 7) ?_
      have ec : fJ6_compare g (some r) (some x) (some x) (ov r S (some c) ks h M C none (iv nn) mc, n, 0) = some (d0, (ov r S (some c) ks h M C none (iv nn) mc, n, 0)) := by
        unfold fJ6_compare
        rw [v_m2, if_neg (fun w => by cases w), v_m2, mb_eq hs]
        rfl
      have ee : fJ6_addEntryToEmptyMap g (some r) (some x) v (ov r S (some c) ks h M C none (iv nn) mc, n, 0) = some ((), (ov r (fun q => S q ∨ q = n) (some c) ks h (mup (mup (mup (fun f q => if q = n then none else M f q) 0 n (some x)) 1 n v) 4 n none) (cup (cup C n 0) n 1) (some n) 1 (mc + 1), n + 1, 7)) := by
        unfold fJ6_addEntryToEmptyMap
        rw [v_mon, e_call0 ec, c_nO (by decide), ov_new hn hS, c_mnn, J25_init_c hrn hnS, v_q3, v_q4, v_m5, v_q5]
        rfl
      unfold fJ6_put_2
      rw [v_m3, if_pos rfl, v_mon, c_mcall ee (by decide), n0]
      rfl
  | some y =>
    obtain ⟨sy, -, y1, y2⟩ := TI_rt hI hrt
    rw [hrt] at hc hs hG hI top
    obtain ⟨b, b1, b2, b3⟩ := srC_put (v0 := some r) (v2 := v) (v3 := 1) (K0 := fun (x17 : Option Nat) => mb (oR 19 1 x17) fun x18 => mjn0 (mb (pR 19 1 x17 v) fun _ => mret x18) fun j187 => if (1 : Int32) = 0 then (if x18 = none then (j187) else (mret x18)) else (j187))
      (K1 := fun (x13 : Int32) (x14 : Option Nat) => mjn (fun (x15 : Int32) => mb (mon 18 (some r) (mcall 14 7 (fJ6_addEntry g (some r) (some x) v x14 x15))) fun _ => mret none) fun j216 => if 0 ≤ x13 then (j216 0) else (j216 1)) hr hG hc hd h1 h2 5000 y sy (by omega) (by omega) (by omega)
    have gd := hd (pos b) (by have := hI.1 b b2; omega) (by have := hI.1 b b2; omega)
    have hfl : ∃ fl : Int32, (if 0 ≤ iv (d (pos b)) then (0 : Int32) else 1) = fl ∧ ((fl ≠ 0 ∧ M 2 b = none ∧ p = pos b) ∨ (fl = 0 ∧ M 3 b = none ∧ p = pos b + 1)) := by
      refine ⟨_, rfl, ?_⟩
      rcases b3 with ⟨q1, q2, q3⟩ | ⟨q1, q2, q3⟩
      · left
        rw [if_neg (by show ¬ iv 0 ≤ iv _; rw [iv_le (by omega) gd]; omega)]
        exact ⟨by decide, q1, q2⟩
      · right
        rw [if_pos (by show iv 0 ≤ iv _; rw [iv_le (by omega) gd]; omega)]
        exact ⟨rfl, q1, q2⟩
    obtain ⟨fl, hfl, hq⟩ := hfl
    obtain ⟨M', C', rt', pos', lo', hi', e', k1, k2⟩ := addE_ev (cmp := (some c)) (ks := ks) (h := h) (sz := iv nn) (mc := mc) (g := g) hr hG hn hS hN (x := x) hv b2 hq
    refine ⟨M', C', rt', pos', lo', hi', e', top (ov r (fun q => S q ∨ q = n) (some c) ks h M' C' rt' (iv (nn + 1)) (mc + 1), n + 1, 7) ?_, k2⟩
    rw [esz] at k1
    unfold fJ6_put_2
    rw [v_m3, if_neg (fun w => by cases w), v_m2, mjn2_b, if_neg (fun w => by cases w)]
    refine b1.trans ?_
    have ej : ∀ (J : Int32 → HM (Option Nat)), (if 0 ≤ iv (d (pos b)) then J 0 else J 1) = J fl := fun J => by
      rw [← hfl]
      by_cases z : 0 ≤ iv (d (pos b))
      · rw [if_pos z, if_pos z]
      · rw [if_neg z, if_neg z]
    show (mjn (fun (x15 : Int32) => mb (mon 18 (some r) (mcall 14 7 (fJ6_addEntry g (some r) (some x) v (some b) x15))) fun _ => mret none) fun j216 => if 0 ≤ iv (d (pos b)) then (j216 0) else (j216 1)) (ov r S (some c) ks h M C (some y) (iv nn) mc, n, 0) = _
    rw [mjn_b]
    refine (congrFun (ej (fun (x15 : Int32) => mb (mon 18 (some r) (mcall 14 7 (fJ6_addEntry g (some r) (some x) v (some b) x15))) fun _ => mret none)) _).trans ?_
    rw [v_mon, c_mcall k1 (by decide)]
    rfl
end
