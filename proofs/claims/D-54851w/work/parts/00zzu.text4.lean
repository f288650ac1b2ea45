/-! ===== bytes copied ===== -/
theorem c_cpI {β : Type} {K : Unit → HM β} {h : Nat → Option hC} {n w a0 a n0 n1 m : Nat} {F G : Int → Int} (h0 : h a0 = some (ari 2 n0 F)) (h1 : h a = some (ari 2 n1 G)) (e0 : m ≤ n0) (e1 : m ≤ n1) (hm : m < 100000) (hv : ∀ i : Nat, i < m → 0 ≤ F i ∧ F i < 128) :
    mb (mcpI 2 (some a0) (iv 0) (some a) (iv 0) (iv m)) K (h, n, w) = K () (hset h a (ari 2 n1 (fun k => if 0 ≤ k ∧ k < m then F k else G k)), n, w) := by
  have s1 : (iv (0 : Int)).toNatClampNeg = 0 := iv_clamp (k := 0) (by omega)
  have s2 : ¬ iv (0 : Int) < 0 := iv_nneg (k := 0) (by omega)
  have k1 : (iv (m : Int)).toNatClampNeg = m := iv_clamp (by omega)
  have k2 : ¬ iv (m : Int) < 0 := iv_nneg (by omega)
  have hc : va_cpy (fun j : Nat => iv (F j)) (fun j : Nat => iv (G j)) 0 0 m = fun j : Nat => iv ((fun k : Int => if 0 ≤ k ∧ k < m then F k else G k) j) := by
    funext j
    unfold va_cpy
    by_cases e : j < m
    · rw [if_pos ⟨Nat.zero_le _, by omega⟩]
      show iv (F ((0 + (j - 0) : Nat) : Int)) = iv (if 0 ≤ (j : Int) ∧ (j : Int) < m then F j else G j)
      rw [if_pos (by omega), show 0 + (j - 0) = j by omega]
    · rw [if_neg (fun w => by omega)]
      show iv (G j) = iv (if 0 ≤ (j : Int) ∧ (j : Int) < m then F j else G j)
      rw [if_neg (by omega)]
  unfold mb mcpI
  simp only [h0, h1, ari, s1, k1]
  rw [if_pos ⟨⟨trivial, trivial⟩, ⟨s2, s2, k2⟩, ⟨by omega, by omega⟩, fun i hi => by
    rw [show 0 + i = i from Nat.zero_add i]
    exact b8_v (hv i hi)⟩, hc]
