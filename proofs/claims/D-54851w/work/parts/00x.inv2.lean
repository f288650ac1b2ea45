/-! ===== a table taken away ===== -/
theorem zrem_lo {z : Int → Int} {t i : Int} (h : i ≠ 15) (h2 : i < 16 + 4 * t ∨ 16 + 4 * (z 15 - 1) ≤ i) (h3 : i < 61 ∨ 61 + 18 * z 60 ≤ i ∨ (i - 61) % 18 ≠ 1) : zrem z t i = z i := by
  unfold zrem
  rw [if_neg h, if_neg (by omega), if_neg (by omega)]
theorem zrem_15 {z : Int → Int} {t : Int} : zrem z t 15 = z 15 - 1 := by unfold zrem; exact if_pos rfl
theorem zrem_up {z : Int → Int} {t i : Int} (h : 16 ≤ i) (h2 : 16 + 4 * t ≤ i ∧ i < 16 + 4 * (z 15 - 1)) : zrem z t i = z (i + 4) := by
  unfold zrem
  rw [if_neg (by omega), if_pos h2]
/-- the table that was there before -/
def osh (t x : Int) : Int := if x < t then x else x + 1
theorem zrem_tab {z : Int → Int} {t : Int} (ht : 0 ≤ t ∧ t < z 15) (h10 : z 15 ≤ 10) {x : Int} (hx : 0 ≤ x ∧ x < z 15 - 1) : zk (zrem z t) x = zk z (osh t x) ∧ zp (zrem z t) x = zp z (osh t x) ∧ zt (zrem z t) x = zt z (osh t x) ∧ zf (zrem z t) x = zf z (osh t x) := by
  unfold osh zk zp zt zf
  by_cases h : x < t
  · rw [if_pos h]
    refine ⟨zrem_lo (by omega) (by omega) (by omega), zrem_lo (by omega) (by omega) (by omega), zrem_lo (by omega) (by omega) (by omega), zrem_lo (by omega) (by omega) (by omega)⟩
  · rw [if_neg h]
    refine ⟨?_, ?_, ?_, ?_⟩
    · rw [zrem_up (by omega) (by omega), show 16 + 4 * x + 0 + 4 = 16 + 4 * (x + 1) + 0 by omega]
    · rw [zrem_up (by omega) (by omega), show 16 + 4 * x + 1 + 4 = 16 + 4 * (x + 1) + 1 by omega]
    · rw [zrem_up (by omega) (by omega), show 16 + 4 * x + 2 + 4 = 16 + 4 * (x + 1) + 2 by omega]
    · rw [zrem_up (by omega) (by omega), show 16 + 4 * x + 3 + 4 = 16 + 4 * (x + 1) + 3 by omega]
theorem wH_rem {z : Int → Int} (hw : wH z) {t : Int} (ht : 0 ≤ t ∧ t < z 15) (h10 : z 15 ≤ 10) : wH (zrem z t) := by
  obtain ⟨h1, h2, h3, h4, h5, h6⟩ := hw
  refine ⟨by rw [zrem_lo (by omega) (by omega) (by omega)]; exact h1, by rw [zrem_lo (by omega) (by omega) (by omega)]; exact h2, by rw [zrem_lo (by omega) (by omega) (by omega)]; exact h3, fun k a b => ?_, by rw [zrem_15]; omega, fun x a b => ?_⟩
  · rw [zrem_lo (i := 2) (by omega) (by omega) (by omega)] at b
    rw [zrem_lo (by omega) (by omega) (by omega)]
    exact h4 k a b
  · rw [zrem_15] at b
    obtain ⟨e1, e2, e3, e4⟩ := zrem_tab ht h10 ⟨a, b⟩
    have := h6 (osh t x) (by unfold osh; split <;> omega) (by unfold osh; split <;> omega)
    unfold wT at this ⊢
    rw [e1, e2, e3, e4]
    exact this
theorem tcs_rem {z : Int → Int} {t : Int} (ht : 0 ≤ t ∧ t < z 15) (h10 : z 15 ≤ 10) : (tcs (zrem z t)).Sublist (tcs z) := by
  have e : ∀ x, 0 ≤ x → x < z 15 - 1 → tcl (zrem z t) x = tcl z (osh t x) := fun x a b => by
    obtain ⟨e1, e2, e3, -⟩ := zrem_tab ht h10 ⟨a, b⟩
    unfold tcl ceT chT
    rw [e1, e2, e3]
  unfold tcs
  rw [zrem_15]
  have s1 : (z 15 - 1).toNat = t.toNat + (z 15 - 1 - t).toNat := by omega
  have s2 : (z 15).toNat = t.toNat + (1 + (z 15 - 1 - t).toNat) := by omega
  rw [s1, s2, runL_add, runL_add, runL_add]
  rw [runL_congr (f := tcl (zrem z t)) (g := tcl z) t.toNat 0 (fun j a b => by rw [e j a (by omega)]; unfold osh; rw [if_pos (by omega)])]
  rw [runL_congr (f := tcl (zrem z t)) (g := fun j => tcl z (j + 1)) (z 15 - 1 - t).toNat (0 + (t.toNat : Int)) (fun j a b => by rw [e j (by omega) (by omega)]; unfold osh; rw [if_neg (by omega)])]
  rw [runL_shift, List.flatten_append, List.flatten_append, List.flatten_append]
  refine List.Sublist.append (List.Sublist.refl _) ?_
  rw [show (0 : Int) + (t.toNat : Int) + 1 = 0 + (t.toNat : Int) + ((1 : Nat) : Int) by omega]
  exact List.sublist_append_right _ _
theorem pck_rem {z : Int → Int} (hw : wH z) (h10 : z 15 ≤ 10) (h : pck z = 0) {t : Int} (ht : 0 ≤ t ∧ t < z 15) : pck (zrem z t) = 0 := by
  have h2 := hw.2.2.1
  obtain ⟨hin, hnd, -⟩ := pck_0i h
  have q1 : zrem z t 1 = z 1 := zrem_lo (by omega) (by omega) (by omega)
  have q2 : zrem z t 2 = z 2 := zrem_lo (by omega) (by omega) (by omega)
  have qp : ∀ j, 0 ≤ j → j < z 2 → zrem z t (3 + j) = z (3 + j) := fun j a b => zrem_lo (by omega) (by omega) (by omega)
  have hs := tcs_rem ht h10
  have hnd' : nd (laid 30 (zrem z t)) := by
    rw [nd_iff] at hnd ⊢
    obtain ⟨⟨a1, a2⟩, a3, a4, a5⟩ := hnd
    rw [q1, q2]
    refine ⟨⟨fun j a b => by rw [qp j a b]; exact a1 j a b, fun q => a2 (hs.subset q)⟩, fun i j a b c => by rw [qp i a (by omega), qp j (by omega) c]; exact a3 i j a b c, hs.nodup a4, fun j a b q => ?_⟩
    rw [qp j a b] at q
    exact a5 j a b (hs.subset q)
  have qtl : ∀ x, 0 ≤ x → x < z 15 - 1 → ∀ p, p ∈ tlay 30 (zrem z t) x → ∃ p', p' ∈ tlay 30 z (osh t x) ∧ p'.1 = p.1 ∧ (30 ≤ p.2 → 30 ≤ p'.2) := fun x a b p hp => by
    obtain ⟨e1, e2, e3, -⟩ := zrem_tab ht h10 ⟨a, b⟩
    have hox : 0 ≤ osh t x ∧ osh t x ≤ 10 := by unfold osh; split <;> omega
    unfold tlay ceT chT at hp
    rw [e1, e2, e3] at hp
    rcases List.mem_append.mp hp with hp | hp
    · rw [runL_mem] at hp
      obtain ⟨j, u, v, e⟩ := hp
      refine ⟨(ceT z (osh t x) j, 10 + osh t x), ?_, by rw [e]; rfl, fun q => by rw [e] at q; simp only at q; omega⟩
      unfold tlay
      exact List.mem_append_left _ ((runL_mem _ _).2 ⟨j, u, v, rfl⟩)
    · rw [runL_mem] at hp
      obtain ⟨j, u, v, e⟩ := hp
      refine ⟨(chT z (osh t x) j, 30 + osh t x), ?_, by rw [e]; rfl, fun q => by simp only; omega⟩
      unfold tlay
      exact List.mem_append_right _ ((runL_mem _ _).2 ⟨j, u, v, rfl⟩)
  have hsub : ∀ p, p ∈ laid 30 (zrem z t) → ∃ p', p' ∈ laid 30 z ∧ p'.1 = p.1 ∧ (30 ≤ p.2 → 30 ≤ p'.2) ∧ p'.2 ≠ 0 := fun p hp => by
    rw [mem_laid] at hp
    rw [q1, q2] at hp
    rcases hp with hp | ⟨j, ⟨a, b⟩, e⟩ | hp
    · exact ⟨p, mem_laid.2 (Or.inl hp), rfl, fun q => q, by rw [hp]; simp⟩
    · rw [qp j a b] at e
      exact ⟨p, mem_laid.2 (Or.inr (Or.inl ⟨j, ⟨a, b⟩, e⟩)), rfl, fun q => q, by rw [e]; simp⟩
    · rw [mem_tslay] at hp
      obtain ⟨x, ⟨a, b⟩, hp⟩ := hp
      rw [zrem_15] at b
      obtain ⟨p', g1, g2, g3⟩ := qtl x a b p hp
      have g4 : p' ∈ tslay 30 z := mem_tslay.2 ⟨osh t x, by unfold osh; split <;> omega, g1⟩
      exact ⟨p', mem_laid.2 (Or.inr (Or.inr g4)), g2, g3, by have := tslay_10 g4; omega⟩
  refine pck_mono h (fun x a b => ?_) hnd' q1 hw.2.1 (fun c hc h0 => ?_) (fun c hc h30 => ?_) (fun c hc h30 => ?_)
  · rw [zrem_15] at b
    obtain ⟨e1, e2, e3, -⟩ := zrem_tab ht h10 ⟨a, b⟩
    unfold inT
    rw [e1, e2, e3]
    exact hin (osh t x) (by unfold osh; split <;> omega) (by unfold osh; split <;> omega)
  · refine Classical.byContradiction (fun q => ?_)
    obtain ⟨p', g1, g2, -, g3⟩ := hsub _ (mpz_ex q)
    have : mpz z c = p'.2 := mpz_mem hnd (by have g4 : p'.1 = c := g2; rw [← g4]; exact g1)
    omega
  · refine Classical.byContradiction (fun q => ?_)
    have q3 : mpz (zrem z t) c ≠ 0 := fun e => q (Or.inl e)
    have q4 : mpz (zrem z t) c < 30 := by
      refine Classical.byContradiction (fun e => q (Or.inr (by omega)))
    have h4 := mpz_ex q3
    rw [mem_laid, q1, q2] at h4
    rcases h4 with h4 | ⟨j, ⟨a, b⟩, e⟩ | h4
    · have h5 : mpz z c = 2 := mpz_mem hnd (mem_laid.2 (Or.inl (by have := congrArg Prod.fst h4; simp only at this; rw [this])))
      omega
    · rw [qp j a b] at e
      have h5 : mpz z c = 1 := mpz_mem hnd (mem_laid.2 (Or.inr (Or.inl ⟨j, ⟨a, b⟩, by have := congrArg Prod.fst e; simp only at this; rw [this]⟩)))
      omega
    · rw [mem_tslay] at h4
      obtain ⟨x, ⟨a, b⟩, hp⟩ := h4
      rw [zrem_15] at b
      obtain ⟨e1, e2, e3, -⟩ := zrem_tab ht h10 ⟨a, b⟩
      have hox : (0 ≤ osh t x ∧ osh t x ≤ 10) ∧ osh t x < z 15 := by unfold osh; split <;> omega
      unfold tlay at hp
      rcases List.mem_append.mp hp with hp | hp
      · rw [runL_mem] at hp
        obtain ⟨j, u, v, e⟩ := hp
        have e5 := congrArg Prod.fst e
        simp only at e5
        unfold ceT at e5
        rw [e1, e2, e3] at e5
        rw [e1] at v
        have h5 : mpz z c = 10 + osh t x := mpz_mem hnd (mem_laid.2 (Or.inr (Or.inr (mem_tslay.2 ⟨osh t x, ⟨hox.1.1, hox.2⟩, by
          unfold tlay
          exact List.mem_append_left _ ((runL_mem _ _).2 ⟨j, u, v, by rw [e5]; rfl⟩)⟩))))
        omega
      · rw [runL_mem] at hp
        obtain ⟨j, u, v, e⟩ := hp
        have e5 := congrArg Prod.snd e
        simp only at e5
        omega
  · obtain ⟨p', g1, g2, g3, -⟩ := hsub _ (mpz_ex (z := zrem z t) (c := c) (by omega))
    have h5 : mpz z c = p'.2 := mpz_mem hnd (by have g4 : p'.1 = c := g2; rw [← g4]; exact g1)
    have := g3 h30
    omega
