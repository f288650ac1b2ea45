/-! ===== ArrayList: add ===== -/
theorem J2_add_ev {g : Nat → Nat} {h : Nat → Option hC} {n r arr b : Nat} {len : Int} {f : Int → Nat} (ha : AX g h r arr len f) (hlen : len < 22) (hok : ∀ i : Int, 0 ≤ i → i < len → OB h (f i)) (hn : h n = none) (hg : g 0 ≠ n) (hb : OB h b) :
    ∃ h' n' arr', fJ2_add g (some r) (some b) (h, n, 0) = some (iv 1, (h', n', 34)) ∧ AX g h' r arr' (len + 1) (fup f len b) ∧ ((n' = n ∧ arr' = arr ∧ h' n = h n) ∨ (n' = n + 1 ∧ arr' = n)) ∧ ∀ p, p ≠ r → p ≠ arr → p ≠ n → h' p = h p := by
  obtain ⟨mc, h1, h2, h3⟩ := ha
  rcases h3 with ⟨rfl, rfl, h0⟩ | ⟨cap, q, k1, k2, k3, k4⟩
  · obtain ⟨h', e1, e2, e3⟩ := J2_add_0 (f := f) h1 h0 hn hg hb
    exact ⟨h', n + 1, n, e1, e2, Or.inr ⟨rfl, rfl⟩, fun p pr _ pn => e3 p pr pn⟩
  · by_cases hc : len < cap
    · obtain ⟨h', e1, e2, e3⟩ := J2_add_in h1 ⟨h2.1, hc⟩ k3 k1 k4 hb (n := n)
      exact ⟨h', n, arr, e1, e2, Or.inl ⟨rfl, rfl, e3 n (fun e => by rw [← e, hn] at h1; cases h1) (fun e => by rw [← e, hn] at k1; cases k1)⟩, fun p pr pa _ => e3 p pr pa⟩
    · have hl : len = cap := by omega
      subst hl
      have hm : ∃ m, (cap = 10 ∧ m = 15) ∨ (cap = 15 ∧ m = 22) := by
        rcases k3 with k | k | k
        · exact ⟨15, Or.inl ⟨k, rfl⟩⟩
        · exact ⟨22, Or.inr ⟨k, rfl⟩⟩
        · omega
      obtain ⟨m, hm⟩ := hm
      obtain ⟨h', e1, e2, e3⟩ := J2_add_gr hm h1 k1 k4 hok hn hb
      exact ⟨h', n + 1, n, e1, e2, Or.inr ⟨rfl, rfl⟩, fun p pr _ pn => e3 p pr pn⟩
