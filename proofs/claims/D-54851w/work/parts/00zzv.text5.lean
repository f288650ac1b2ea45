/-! ===== StringBuilder: append, where it grows ===== -/
theorem nc_ev {g : Nat → Nat} {h : Nat → Option hC} {n r val cap m : Nat} {y u : Int32} {q : hAr} (h1 : h r = some (.inr (15, [.ref val, .int 0, .int y, .int u]))) (h2 : h val = some (.inl (2, cap, q))) (hc : (cap = 16 ∧ m = 34) ∨ (cap = 34 ∧ m = 70)) : fJ11_newCapacity g (some r) (iv ((cap : Int) + 1)) (h, n, 0) = some (iv m, (h, n, 0)) := by
  have en : fJ32_newLength g (iv cap) (ishl (iv ((cap : Int) + 1)) 0 - iv cap) (iv cap + ishl 2 0) (h, n, 0) = some (iv m, (h, n, 0)) := by
    rcases hc with ⟨rfl, rfl⟩ | ⟨rfl, rfl⟩ <;> exact Eq.trans rfl rfl
  have es : ishr (iv m) 0 = iv m := shr_0 (x := (m : Int)) (by omega)
  unfold fJ11_newCapacity
  rw [b_o0 h1, c_aN h2, b_o1 h1, b_o1 h1, e_call0 en, if_neg (by show ¬ iv m = iv 2147483647; rw [iv_eq (by omega) (by omega)]; omega), b_o1 h1, es]
  rfl
theorem cp_ev {g : Nat → Nat} {h : Nat → Option hC} {n val cap m : Nat} {G : Int → Int} (h2 : h val = some (ari 2 cap G)) (hn : h n = none) (hc : (cap = 16 ∧ m = 34) ∨ (cap = 34 ∧ m = 70)) (hv : ∀ i : Nat, i < cap → 0 ≤ G i ∧ G i < 128) : ∃ w', fJ30_copyOf g (some val) (iv m) (h, n, 0) = some (some n, (hset h n (ari 2 m (fun k => if 0 ≤ k ∧ k < cap then G k else 0)), n + 1, w')) ∨ m = 70 := by
  have hne : val ≠ n := fun e => by rw [e, hn] at h2; cases h2
  rcases hc with ⟨rfl, rfl⟩ | ⟨rfl, rfl⟩
  · refine ⟨35, Or.inl ?_⟩
    have en := fun (K : Option Nat → HM (Option Nat)) => c_nA (K := K) (h := h) (n := n) (w := 0) (L := 51) (t := 2) (k := ((34 : Nat) : Int)) (by decide) (by omega) (by decide)
    rw [show ((34 : Nat) : Int).toNat = 34 from rfl] at en
    have h3 : hset h n (ari 2 34 (fun _ => 0)) val = some (ari 2 16 G) := by rw [hset_ne hne]; exact h2
    have emin : fJ31_min g (iv ((16 : Nat) : Int)) (iv ((34 : Nat) : Int)) (hset h n (ari 2 34 (fun _ => 0)), n + 1, 0) = some (iv ((16 : Nat) : Int), (hset h n (ari 2 34 (fun _ => 0)), n + 1, 0)) := by
      unfold fJ31_min
      rw [if_neg (by decide)]
      rfl
    have ec := fun (K : Unit → HM (Option Nat)) => c_cpI (K := K) (n := n + 1) (w := 0 + (1 + 34)) (m := 16) h3 (hset_at (h := h) (a := n) (x := ari 2 34 (fun _ => 0))) (by omega) (by omega) (by omega) (fun i hi => hv i hi)
    unfold fJ30_copyOf
    rw [c_aN h2, if_neg (by decide), en, c_aN h3, e_call0 emin]
    show mb (mcpI 2 (some val) (iv 0) (some n) (iv 0) (iv ((16 : Nat) : Int))) _ _ = _
    rw [ec, hset_hset]
    rfl
  · exact ⟨0, Or.inr rfl⟩
