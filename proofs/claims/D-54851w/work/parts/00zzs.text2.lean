/-! ===== StringBuilder: append, where there is room ===== -/
theorem b8_k : ∀ x : Fin 128, (Int32.ofNat x.val).toInt8.toInt32 = Int32.ofNat x.val := by decide +kernel
theorem b8_v {x : Int} (h : 0 ≤ x ∧ x < 128) : (iv x).toInt8.toInt32 = iv x := by
  have k := b8_k ⟨x.toNat, by omega⟩
  rw [← iv_nat h.1] at k
  exact k
theorem b_p3 {β : Type} {K : Unit → HM β} {h : Nat → Option hC} {n w a v : Nat} {x y u t : Int32} (ha : h a = some (.inr (15, [.ref v, .int x, .int y, .int u]))) : mb (pI 15 3 (some a) t) K (h, n, w) = K () (hset h a (.inr (15, [.ref v, .int x, .int y, .int t])), n, w) := c_pI ha (show (3 : Nat) < 4 by decide)
theorem J11_isLatin1_c {β : Type} {K : Int32 → HM β} {g : Nat → Nat} {h : Nat → Option hC} {n w r v : Nat} {y u : Int32} (h1 : h r = some (.inr (15, [.ref v, .int 0, .int y, .int u]))) : mb (mon 15 (some r) (mcall0 (fJ11_isLatin1 g (some r)))) K (h, n, w) = K (iv 1) (h, n, w) := by
  rw [c_mon h1]
  refine e_call0 (u' := 0) ?_
  unfold fJ11_isLatin1
  rw [if_neg (by decide), b_o1 h1, if_pos rfl]
  exact congrFun (mretT_b (a := 1) (Or.inr rfl)) _
theorem J11_ensure_in {g : Nat → Nat} {h : Nat → Option hC} {n r val cap : Nat} {y u : Int32} {q : hAr} {len : Int} (h1 : h r = some (.inr (15, [.ref val, .int 0, .int y, .int u]))) (h2 : h val = some (.inl (2, cap, q))) (hc : cap ≤ 70) (hl : 0 ≤ len ∧ len ≤ cap) : fJ11_ensureCapacityInternal g (some r) (iv len) (h, n, 0) = some ((), (h, n, 0)) := by
  have es : ishr (iv cap) 0 = iv cap := shr_0 (x := (cap : Int)) (by omega)
  unfold fJ11_ensureCapacityInternal
  rw [b_o0 h1, c_aN h2, b_o1 h1, es, iv_sub, if_pos (by show _ ≤ iv 0; rw [iv_le (by omega) (by omega)]; omega)]
  rfl
theorem J11_append_in {g : Nat → Nat} {h : Nat → Option hC} {n r val cap : Nat} {ml : Int32} {len c : Int} {G : Int → Int} (h1 : h r = some (.inr (15, [.ref val, .int 0, .int ml, .int (iv len)]))) (h2 : h val = some (ari 2 cap G)) (hc : cap ≤ 70) (hl : 0 ≤ len ∧ len < cap) (hb : 0 ≤ c ∧ c < 128) :
    fJ11_append_3 g (some r) (iv c) (h, n, 0) = some (some r, (hset (hset h r (.inr (15, [.ref val, .int 0, .int ml, .int (iv (len + 1))]))) val (ari 2 cap (iu G len c)), n, 51)) := by
  have hrv : r ≠ val := fun e => by rw [e, h2] at h1; cases h1
  have e1 : iv len + 1 = iv (len + 1) := iv_add len 1
  have hv : hset h r (.inr (15, [.ref val, .int 0, .int ml, .int (iv (len + 1))])) val = some (ari 2 cap G) := by rw [hset_ne (fun e => hrv e.symm)]; exact h2
  have een := J11_ensure_in (g := g) (n := n) (len := len + 1) h1 h2 hc (by omega)
  have ece : fJ19_canEncode g (iv c) (h, n, 0) = some (iv 1, (h, n, 0)) := by
    unfold fJ19_canEncode
    rw [if_neg (by show ¬ iv 255 < iv c; rw [iv_lt (by omega) (by omega)]; omega)]
    exact congrFun (mretT_b (a := 1) (Or.inr rfl)) _
  unfold fJ11_append_3
  rw [b_o3 h1, e1, c_mon h1, c_mcall een (by decide), J11_isLatin1_c h1, mjn0_b, if_neg (by decide), e_call0 ece, if_neg (by decide), b_o0 h1, b_o3 h1, e1, b_p3 h1, b8_v hb]
  unfold sB
  rw [if_pos (b8_v hb), c_sIx hv (by omega) hl]
  rfl
