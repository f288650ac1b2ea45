/-! ===== StringBuilder: reading ===== -/
def SBf (h : Nat → Option hC) (r val : Nat) (len : Int) (T : Int → Int) : Prop := ∃ (cap : Nat) (ml : Int32) (G : Int → Int), h r = some (.inr (15, [.ref val, .int 0, .int ml, .int (iv len)])) ∧ h val = some (ari 2 cap G) ∧ (cap = 16 ∨ cap = 34 ∨ cap = 70) ∧ (0 ≤ len ∧ len ≤ cap) ∧ ∀ k, 0 ≤ k → k < len → G k = T k
theorem b_o0 {β : Type} {K : Option Nat → HM β} {h : Nat → Option hC} {n w a v : Nat} {x y u : Int32} (ha : h a = some (.inr (15, [.ref v, .int x, .int y, .int u]))) : mb (oR 15 0 (some a)) K (h, n, w) = K (some v) (h, n, w) := c_oR ha rfl
theorem b_o1 {β : Type} {K : Int32 → HM β} {h : Nat → Option hC} {n w a v : Nat} {x y u : Int32} (ha : h a = some (.inr (15, [.ref v, .int x, .int y, .int u]))) : mb (oI 15 1 (some a)) K (h, n, w) = K x (h, n, w) := c_oI ha rfl
theorem b_o3 {β : Type} {K : Int32 → HM β} {h : Nat → Option hC} {n w a v : Nat} {x y u : Int32} (ha : h a = some (.inr (15, [.ref v, .int x, .int y, .int u]))) : mb (oI 15 3 (some a)) K (h, n, w) = K u (h, n, w) := c_oI ha rfl
theorem J12_length_c {β : Type} {K : Int32 → HM β} {g : Nat → Nat} {h : Nat → Option hC} {n w r val : Nat} {len : Int} {T : Int → Int} (hs : SBf h r val len T) : mb (mon 15 (some r) (mcall0 (fJ12_length g (some r)))) K (h, n, w) = K (iv len) (h, n, w) := by
  obtain ⟨cap, ml, G, h1, -⟩ := hs
  have e1 : fJ11_length g (some r) (h, n, 0) = some (iv len, (h, n, 0)) := by
    unfold fJ11_length
    rw [b_o3 h1]
    rfl
  rw [c_mon h1]
  refine e_call0 (u' := 0) ?_
  unfold fJ12_length
  rw [c_mon h1, e_call0 e1]
  rfl
theorem J12_charAt_c {β : Type} {K : Int32 → HM β} {g : Nat → Nat} {h : Nat → Option hC} {n w r val : Nat} {len k : Int} {T : Int → Int} (hs : SBf h r val len T) (hk : 0 ≤ k ∧ k < len) (hT : 0 ≤ T k ∧ T k < 128) : mb (mon 15 (some r) (mcall0 (fJ12_charAt g (some r) (iv k)))) K (h, n, w) = K (iv (T k)) (h, n, w) := by
  obtain ⟨cap, ml, G, h1, h2, h3, h4, h5⟩ := hs
  have em : fJ31_min g (iv len) (iv cap) (h, n, 0) = some (iv len, (h, n, 0)) := by
    unfold fJ31_min
    rw [if_neg (by rw [iv_lt (by omega) (by omega)]; omega)]
    rfl
  have e8 : fJ8_checkIndex g (iv k) (iv len) (some (g 1)) (h, n, 0) = some (iv k, (h, n, 0)) := by
    unfold fJ8_checkIndex
    simp (disch := omega) only [↓mjn0_b, iv_lit, iv_lt_t, iv_lt_f, if_true, if_false, e_mret]
  have e13 : fJ13_checkIndex g (iv k) (iv len) (h, n, 0) = some ((), (h, n, 0)) := by
    unfold fJ13_checkIndex
    rw [e_call0 e8]
    rfl
  have es : ishr (iv cap) 0 = iv cap := shr_0 (x := (cap : Int)) (by omega)
  have e11 : fJ11_charAt g (some r) (iv k) (h, n, 0) = some (iv (T k), (h, n, 0)) := by
    unfold fJ11_charAt
    rw [b_o1 h1, b_o0 h1, b_o3 h1, c_aN h2, es, e_call0 em, e_call0 e13, if_pos rfl, c_aI h2 (by omega) (by omega), h5 k hk.1 hk.2, (chr_v hT).1, (chr_v hT).2]
    rfl
  rw [c_mon h1]
  refine e_call0 (u' := 0) ?_
  unfold fJ12_charAt
  rw [c_mon h1, e_call0 e11, (chr_v hT).2]
  rfl
