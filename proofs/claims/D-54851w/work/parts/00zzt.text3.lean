/-! ===== StringBuilder: setLength(0) ===== -/
theorem b_p2 {β : Type} {K : Unit → HM β} {h : Nat → Option hC} {n w a v : Nat} {x y u : Int32} (ha : h a = some (.inr (15, [.ref v, .int x, .int y, .int u]))) : mb (pZ 15 2 (some a) (iv 1)) K (h, n, w) = K () (hset h a (.inr (15, [.ref v, .int x, .int (iv 1), .int u])), n, w) := by
  unfold pZ
  rw [if_pos (show iv 1 = 0 ∨ iv 1 = 1 by decide +kernel)]
  exact c_pI ha (show (2 : Nat) < 4 by decide)
theorem J12_setLength_ev {g : Nat → Nat} {h : Nat → Option hC} {n r val : Nat} {len : Int} {T : Int → Int} (hs : SBf h r val len T) :
    ∃ h', fJ12_setLength g (some r) (iv 0) (h, n, 0) = some ((), (h', n, 51)) ∧ SBf h' r val 0 T ∧ ∀ p, p ≠ r → h' p = h p := by
  obtain ⟨cap, ml, G, h1, h2, h3, h4, h5⟩ := hs
  have hrv : r ≠ val := fun e => by rw [e, h2] at h1; cases h1
  have een := J11_ensure_in (g := g) (n := n) (len := 0) h1 h2 (by omega) (by omega)
  have h6 : hset h r (.inr (15, [.ref val, .int 0, .int (iv 1), .int (iv len)])) r = some (.inr (15, [.ref val, .int 0, .int (iv 1), .int (iv len)])) := hset_at
  have e11 : ∃ m2 : Int32, fJ11_setLength g (some r) (iv 0) (h, n, 0) = some ((), (hset h r (.inr (15, [.ref val, .int 0, .int m2, .int (iv 0)])), n, 51)) := by
    by_cases e : len ≤ 0
    · refine ⟨ml, ?_⟩
      unfold fJ11_setLength
      simp only [iv_lit]
      rw [if_pos (by rw [iv_le (by omega) (by omega)]; omega), c_mon h1, c_mcall een (by decide), b_o3 h1, mjn0_b, if_pos (by rw [iv_le (by omega) (by omega)]; omega), b_o3 h1, if_pos (by rw [iv_le (by omega) (by omega)]; omega), b_p3 h1]
      rfl
    · refine ⟨iv 1, ?_⟩
      unfold fJ11_setLength
      simp only [iv_lit]
      rw [if_pos (by rw [iv_le (by omega) (by omega)]; omega), c_mon h1, c_mcall een (by decide), b_o3 h1, mjn0_b, if_pos (by rw [iv_le (by omega) (by omega)]; omega), b_o3 h1, if_neg (by rw [iv_le (by omega) (by omega)]; omega), b_p2 h1, b_p3 h6, hset_hset]
      rfl
  obtain ⟨m2, e11⟩ := e11
  refine ⟨hset h r (.inr (15, [.ref val, .int 0, .int m2, .int (iv 0)])), ?_, ⟨cap, m2, G, hset_at, ?_, h3, by omega, fun k a b => by omega⟩, fun p pr => hset_ne pr⟩
  · unfold fJ12_setLength
    rw [c_mon h1, c_mcall e11 (by decide)]
    rfl
  · rw [hset_ne (fun e => hrv e.symm)]; exact h2
