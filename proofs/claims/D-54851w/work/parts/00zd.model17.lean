/-! ===== the model: runText() ===== -/
theorem X7_does_ev {g : Nat → Nat} {h : Nat → Option hC} {n m : Nat} {M : Mm} (hz : wZ (M 1)) {c f1 f2 f3 f4 : Int} (hf : frg c f1 f2 f3 f4) (hs : M 0 13 = c) (h1 : M 0 14 = f1) (h2 : c ≠ 117 → M 0 15 = f2) (h3 : c = 116 ∨ c = 109 ∨ c = 115 → M 0 16 = f3) (h4 : c = 116 → M 0 17 = f4) : ∃ (M' : Mm), fX7_does g (some m) (md m M h, n, 0) = some (iv (b2 (dgo (M 1) c f1 f2 f3 f4)), (md m M' h, n, 0)) ∧ qsm M M' ∧ zeq (@ite (Int → Int) (dgo (M 1) c f1 f2 f3 f4) (Classical.propDecidable _) (dzz (M 1) c f1 f2 f3 f4) (M 1)) (M' 1) := by
  have hk := hf.1
  unfold pK at hk
  rcases hk with rfl | rfl | rfl | rfl | rfl | rfl | rfl
  · exact X7_does_t hz hf hs h1 (h2 (by decide)) (h3 (by decide)) (h4 rfl)
  · exact X7_does_m hz hf hs h1 (h2 (by decide)) (h3 (by decide))
  · exact X7_does_r hz hf hs h1 (h2 (by decide))
  · exact X7_does_p hz hf hs h1 (h2 (by decide))
  · exact X7_does_s hz hf hs h1 (h2 (by decide)) (h3 (by decide))
  · exact X7_does_u hz hf hs h1
  · exact X7_does_x hz hf hs h1 (h2 (by decide))
/-- an order that is possible keeps the rules -/
theorem wZ_dzz {z : Int → Int} (hz : wZ z) {c f1 f2 f3 f4 : Int} (hf : frg c f1 f2 f3 f4) (hd : dgo z c f1 f2 f3 f4) : wZ (dzz z c f1 f2 f3 f4) := by
  obtain ⟨hk, r1, r2, r3, r4⟩ := hf
  have h15 := wZ_15 hz
  unfold pHi at r1
  unfold pK at hk
  rcases hk with rfl | rfl | rfl | rfl | rfl | rfl | rfl
  · obtain ⟨a, b⟩ : z 15 ≠ 10 ∧ pck (zadd z f1 (16 * f3 + f2) f4) = 0 := hd
    exact wZ_add hz (by omega) (by omega) r4 (by omega) b
  · obtain ⟨a, b⟩ : f1 < z 15 ∧ pck (zset z f1 (16 * f3 + f2) (zt z f1)) = 0 := hd
    have := (wZ_t hz (t := f1) ⟨r1.1, a⟩).2.2.1
    exact wZ_set hz ⟨r1.1, a⟩ (by omega) this b
  · obtain ⟨a, b⟩ : f1 < z 15 ∧ pck (zset z f1 (zp z f1) f2) = 0 := hd
    have := (wZ_t hz (t := f1) ⟨r1.1, a⟩).2.1
    exact wZ_set hz ⟨r1.1, a⟩ this (by omega) b
  · exact wZ_tp hz (c := 16 * f2 + f1) (by unfold cin; omega) hd
  · obtain ⟨a, b, c⟩ : f1 < z 60 ∧ (f2 < z 15 ∧ f3 < chN (zk z f2)) ∧ nse z f1 f2 f3 = 0 := hd
    refine wZ_put hz ⟨r1.1, a⟩ (Or.inr ⟨⟨r2.1, b.1⟩, r3.1, b.2⟩) (fun _ x u v w q => ?_)
    have hs := (sitr_rg (wZ_60 hz).1 f2 f3).2.2.2
    intro q2
    have h0 : sitr z f2 f3 = -1 := by
      unfold nse at c
      split at c
      · omega
      · split at c
        · assumption
        · omega
    exact hs h0 x u v ⟨q, q2⟩
  · obtain ⟨a, b⟩ : f1 < z 60 ∧ sits z f1 := hd
    exact wZ_put hz ⟨r1.1, a⟩ (Or.inl ⟨rfl, rfl⟩) (fun q => absurd rfl q)
  · obtain ⟨a, b, c⟩ : f1 < z 60 ∧ f2 < z 60 ∧ nsw z f1 f2 = 0 := hd
    refine wZ_swp hz ⟨r1.1, a⟩ ⟨r2.1, b⟩ (fun e => ?_)
    unfold nsw at c
    rw [if_pos e] at c
    split at c <;> omega
/-- the rest of a text is right, from an order's start on -/
noncomputable def good (T : Int → Int) (l a : Int) (k : Nat) : Prop := (pL T l k (pO T l a).1).2 = 0
theorem pL_w {T : Int → Int} {l : Int} {k : Nat} {s : Int × Int} (h : (pL T l k s).2 = 0) : s.2 = 0 := by
  cases k with
  | zero => exact h
  | succ k =>
    unfold pL at h
    by_cases q : s.2 = 0 ∧ s.1 < l
    · exact q.1
    · rw [if_neg q] at h; exact h
theorem pN_w {T : Int → Int} {l H : Int} {s : Int × Int} (h : (pN T l H s).1.2 = 0) : s.2 = 0 := by
  refine Classical.byContradiction (fun q => ?_)
  unfold pN at h
  rw [if_neg (fun z => q z.1)] at h
  simp at h
theorem pTN_w {T : Int → Int} {l c H : Int} {s : Int × Int} (h : (pTN T l c H s).1.2 = 0) : s.2 = 0 := (pT_go (pN_w h)).2.1
theorem pO_w {T : Int → Int} {l a : Int} (h : (pO T l a).1.2 = 0) : pK (pH T l a) := by
  have key : (pN T l (pHi (pH T l a)) (pS0 T l a)).1.2 = 0 → pK (pH T l a) := fun q => by
    have q2 := pN_w q
    refine Classical.byContradiction (fun w => ?_)
    unfold pS0 at q2
    rw [if_neg w] at q2
    simp at q2
  refine key ?_
  unfold pO at h
  simp only at h
  split at h
  · exact pTN_w (pTN_w (pTN_w h))
  · split at h
    · exact pTN_w (pTN_w h)
    · split at h
      · exact pTN_w h
      · split at h
        · exact pTN_w h
        · split at h
          · exact pTN_w (pTN_w h)
          · split at h
            · exact pTN_w h
            · exact h
theorem good_s {T : Int → Int} {l a : Int} {k : Nat} (h : good T l a (k + 1)) (hl : (pO T l a).1.1 < l) : good T l ((pO T l a).1.1 + 1) k := by
  have h2 := pL_w h
  unfold good pL at h
  rw [if_pos ⟨h2, hl⟩] at h
  by_cases q : (pT T l 59 (pO T l a).1).2 = 0
  · rw [if_pos q, (pT_go q).1] at h
    exact h
  · rw [if_neg q] at h
    exact absurd (pL_w h) q
theorem good_k {T : Int → Int} {l a : Int} {k : Nat} (h : good T l a k) : pK (pH T l a) := pO_w (pL_w h)
/-- the orders of a text, carried out from a on, d of them done -/
noncomputable def rtz (T : Int → Int) (l : Int) : Nat → Int → (Int → Int) → Int → (Int → Int) × Int
  | 0, _, z, d => (z, d)
  | k + 1, a, z, d => @ite ((Int → Int) × Int) (dgo z (pH T l a) (pO T l a).2.1 (pO T l a).2.2.1 (pO T l a).2.2.2.1 (pO T l a).2.2.2.2) (Classical.propDecidable _)
      (if (pO T l a).1.1 < l then rtz T l k ((pO T l a).1.1 + 1) (dzz z (pH T l a) (pO T l a).2.1 (pO T l a).2.2.1 (pO T l a).2.2.2.1 (pO T l a).2.2.2.2) (d + 1) else (dzz z (pH T l a) (pO T l a).2.1 (pO T l a).2.2.1 (pO T l a).2.2.2.1 (pO T l a).2.2.2.2, d + 1)) (z, d)
