/-! ===== wZ is kept ===== -/
/-- changes of the hall -/
theorem wZ_hall {z z' : Int → Int} (hz : wZ z) (hw : wH z') (h10 : z' 15 ≤ 10) (h15 : z 15 ≤ z' 15) (hk : ∀ t, 0 ≤ t → t < z 15 → zk z' t = zk z t) (hg : ∀ i, 60 ≤ i → z' i = z i) (hp : pck z' = 0) : wZ z' := by
  obtain ⟨h1, h2, h3, h4, h5, h6, h7⟩ := hz
  have e60 : z' 60 = z 60 := hg 60 (by omega)
  have eg : ∀ g, 0 ≤ g → gh z' g = gh z g ∧ ga z' g = ga z g ∧ gc z' g = gc z g ∧ gl z' g = gl z g ∧ ∀ k, 0 ≤ k → gn z' g k = gn z g k := fun g a => by
    unfold gh ga gc gl gn
    exact ⟨hg _ (by omega), hg _ (by omega), hg _ (by omega), hg _ (by omega), fun k b => hg _ (by omega)⟩
  refine ⟨hw, h10, by rw [e60]; exact h3, fun g a b => ?_, fun g h a b c d => ?_, fun g a b => ?_, hp⟩
  · rw [e60] at b
    obtain ⟨e1, e2, e3, e4, e5⟩ := eg g a
    obtain ⟨q1, q2, q3, q4, q5⟩ := h4 g a b
    unfold wG
    rw [e1, e2, e3, e4]
    refine ⟨q1, ?_, q3, fun k x y => by rw [e5 k x]; exact q4 k x y, fun k x y => by rw [e5 k (by omega)]; exact q5 k x y⟩
    rcases q2 with q | q
    · exact Or.inl q
    · right
      rw [hk _ q.1.1 q.1.2]
      exact ⟨⟨q.1.1, by omega⟩, q.2⟩
  · rw [e60] at c
    obtain ⟨-, e2, e3, -⟩ := eg g a
    obtain ⟨-, f2, f3, -⟩ := eg h (by omega)
    unfold sits at d
    rw [e2] at d
    rw [e2, e3, f2, f3]
    exact h5 g h a b c d
  · rw [e60] at b ⊢
    rw [hg (601 + g) (by omega)]
    obtain ⟨q1, q2⟩ := h6 g a b
    refine ⟨q1, fun h x y w => ?_⟩
    rw [hg (601 + h) (by omega)]
    exact q2 h x y w
/-- changes of guests and pairs -/
theorem wZ_gsts {z z' : Int → Int} (hz : wZ z) (hlo : ∀ i, i < 60 → z' i = z i) (h60 : 0 ≤ z' 60 ∧ z' 60 ≤ 30) (hg : ∀ g, 0 ≤ g → g < z' 60 → wG z' g) (hs : ∀ g h, 0 ≤ g → g < h → h < z' 60 → sits z' g → ga z' g = ga z' h → gc z' g ≠ gc z' h)
    (hp : ∀ g, 0 ≤ g → g < z' 60 → (0 ≤ z' (601 + g) ∧ z' (601 + g) < 1073741824) ∧ ∀ h, 0 ≤ h → h < 30 → bit (z' (601 + g)) h → h < z' 60 ∧ h ≠ g ∧ bit (z' (601 + h)) g) : wZ z' := by
  obtain ⟨h1, h2, h3, h4, h5, h6, h7⟩ := hz
  have e15 : z' 15 = z 15 := hlo 15 (by omega)
  refine ⟨?_, by rw [e15]; exact h2, h60, hg, hs, hp, ?_⟩
  · obtain ⟨a1, a2, a3, a4, a5, a6⟩ := h1
    refine ⟨by rw [hlo 0 (by omega)]; exact a1, by rw [hlo 1 (by omega)]; exact a2, by rw [hlo 2 (by omega)]; exact a3, fun k a b => ?_, by rw [e15]; exact a5, fun t a b => ?_⟩
    · rw [hlo 2 (by omega)] at b
      rw [hlo (3 + k) (by omega)]
      exact a4 k a b
    · rw [e15] at b
      have := a6 t a b
      unfold wT zk zp zt zf at *
      rw [hlo _ (by omega), hlo _ (by omega), hlo _ (by omega), hlo _ (by omega)]
      exact this
  · rw [heq_pck (z := z)]
    · exact h7
    · intro i hi
      have := h1.2.2.1
      have := h1.2.2.2.2.1
      unfold relH at hi
      exact hlo i (by omega)
theorem wZ_stage {z : Int → Int} (hz : wZ z) {x : Int} (hx : 0 ≤ x ∧ x ≤ 15) : wZ (iu z 0 x) := by
  have h2 := hz.1.2.2.1
  have h15 := wZ_15 hz
  have hw : wH (iu z 0 x) := by
    obtain ⟨a1, a2, a3, a4, a5, a6⟩ := hz.1
    refine ⟨by rw [iu_at rfl]; exact hx, by rw [iu_ne (by omega)]; exact a2, by rw [iu_ne (by omega)]; exact a3, fun k a b => ?_, by rw [iu_ne (by omega)]; exact a5, fun t a b => ?_⟩
    · rw [iu_ne (by omega)] at b
      rw [iu_ne (by omega)]; exact a4 k a b
    · rw [iu_ne (by omega)] at b
      have := a6 t a b
      unfold wT zk zp zt zf at *
      rw [iu_ne (by omega), iu_ne (by omega), iu_ne (by omega), iu_ne (by omega)]
      exact this
  refine wZ_hall hz hw (by rw [iu_ne (by omega)]; exact h15.2) (by rw [iu_ne (by omega)]; omega) (fun t a b => by unfold zk; exact iu_ne (by omega)) (fun i a => iu_ne (by omega)) ?_
  rw [heq_pck (z := z) (fun i hi => by unfold relH at hi; exact iu_ne (by omega))]
  exact hz.2.2.2.2.2.2
theorem wZ_door {z : Int → Int} (hz : wZ z) {c : Int} (hc : cin c) (hp : pck (iu z 1 c) = 0) : wZ (iu z 1 c) := by
  have h15 := wZ_15 hz
  exact wZ_hall hz (wH_door hz.1 hc) (by rw [iu_ne (by omega)]; exact h15.2) (by rw [iu_ne (by omega)]; omega) (fun t a b => by unfold zk; exact iu_ne (by omega)) (fun i a => iu_ne (by omega)) hp
theorem wZ_flow {z : Int → Int} (hz : wZ z) {t v : Int} (ht : 0 ≤ t ∧ t < z 15) (hv : 0 ≤ v ∧ v ≤ 9) : wZ (iu z (16 + 4 * t + 3) v) := by
  have h2 := hz.1.2.2.1
  have h15 := wZ_15 hz
  have hw : wH (iu z (16 + 4 * t + 3) v) := by
    obtain ⟨a1, a2, a3, a4, a5, a6⟩ := hz.1
    refine ⟨by rw [iu_ne (by omega)]; exact a1, by rw [iu_ne (by omega)]; exact a2, by rw [iu_ne (by omega)]; exact a3, fun k a b => ?_, by rw [iu_ne (by omega)]; exact a5, fun s a b => ?_⟩
    · rw [iu_ne (by omega)] at b
      rw [iu_ne (by omega)]; exact a4 k a b
    · rw [iu_ne (by omega)] at b
      have := a6 s a b
      unfold wT zk zp zt zf at *
      rw [iu_ne (i := 16 + 4 * t + 3) (j := 16 + 4 * s + 0) (by omega), iu_ne (i := 16 + 4 * t + 3) (j := 16 + 4 * s + 1) (by omega), iu_ne (i := 16 + 4 * t + 3) (j := 16 + 4 * s + 2) (by omega)]
      by_cases e : s = t
      · subst e
        rw [iu_at rfl]; omega
      · rw [iu_ne (by omega)]; exact this
  refine wZ_hall hz hw (by rw [iu_ne (by omega)]; exact h15.2) (by rw [iu_ne (by omega)]; omega) (fun s a b => by unfold zk; exact iu_ne (by omega)) (fun i a => iu_ne (by omega)) ?_
  rw [heq_pck (z := z) (fun i hi => by unfold relH at hi; exact iu_ne (by omega))]
  exact hz.2.2.2.2.2.2
theorem wZ_set {z : Int → Int} (hz : wZ z) {t p u : Int} (ht : 0 ≤ t ∧ t < z 15) (hp : 0 ≤ p ∧ p < 192) (hu : 0 ≤ u ∧ u ≤ 3) (h0 : pck (zset z t p u) = 0) : wZ (zset z t p u) := by
  have h15 := wZ_15 hz
  have e : ∀ i, i ≠ 16 + 4 * t + 1 → i ≠ 16 + 4 * t + 2 → zset z t p u i = z i := fun i a b => by unfold zset; rw [iu_ne b, iu_ne a]
  exact wZ_hall hz (wH_set hz.1 ht hp hu) (by rw [e 15 (by omega) (by omega)]; exact h15.2) (by rw [e 15 (by omega) (by omega)]; omega) (fun s a b => by unfold zk; exact e _ (by omega) (by omega)) (fun i a => e i (by omega) (by omega)) h0
theorem wZ_add {z : Int → Int} (hz : wZ z) {k p u : Int} (hk : 0 ≤ k ∧ k ≤ 2) (hp : 0 ≤ p ∧ p < 192) (hu : 0 ≤ u ∧ u ≤ 3) (hn : z 15 < 10) (h0 : pck (zadd z k p u) = 0) : wZ (zadd z k p u) := by
  have h15 := wZ_15 hz
  have e15 : zadd z k p u 15 = z 15 + 1 := iu_at rfl
  have e : ∀ i, i ≠ 15 → (i < 16 + 4 * z 15 ∨ 16 + 4 * z 15 + 4 ≤ i) → zadd z k p u i = z i := fun i a b => by unfold zadd; rw [iu_ne a, zrow_ne b]
  exact wZ_hall hz (wH_add hz.1 hk hp hu (by omega)) (by rw [e15]; omega) (by rw [e15]; omega) (fun s a b => by unfold zk; exact e _ (by omega) (by omega)) (fun i a => e i (by omega) (by omega)) h0
theorem ztp_hi {z : Int → Int} (h2 : 0 ≤ z 2 ∧ z 2 ≤ 12) {c i : Int} (hi : 15 < i ∨ i < 2) : ztp z c i = z i := by
  have := plat_rg h2.1 c
  unfold ztp
  split
  · unfold zpil; rw [iu_ne (by omega), iu_ne (by omega)]
  · rw [iu_ne (by omega), iu_ne (by omega)]
theorem ztp_15 {z : Int → Int} {c : Int} (h2 : 0 ≤ z 2 ∧ z 2 < 12 ∨ plat z c ≠ -1 ∧ 0 ≤ z 2 ∧ z 2 ≤ 12) : ztp z c 15 = z 15 := by
  have := plat_rg (z := z) (by omega) c
  unfold ztp
  split
  · unfold zpil; rw [iu_ne (by omega), iu_ne (by omega)]
  · rw [iu_ne (by omega), iu_ne (by omega)]
theorem wZ_tp {z : Int → Int} (hz : wZ z) {c : Int} (hc : cin c) (h : plat z c = -1 → npl z c = 0) : wZ (ztp z c) := by
  have h2 := hz.1.2.2.1
  have h15 := wZ_15 hz
  have hp := plat_rg h2.1 c
  by_cases h1 : plat z c = -1
  · have h0 := h h1
    have hn : z 2 < 12 := by
      refine Classical.byContradiction (fun q => ?_)
      unfold npl at h0
      rw [if_pos (by omega)] at h0
      omega
    unfold npl at h0
    rw [if_neg (by omega)] at h0
    have e : ztp z c = zpil z c := by unfold ztp; exact if_pos h1
    rw [e]
    have eo : ∀ i, i ≠ 2 → i ≠ 3 + z 2 → zpil z c i = z i := fun i a b => by unfold zpil; rw [iu_ne a, iu_ne b]
    exact wZ_hall hz (wH_pil hz.1 hc hn) (by rw [eo 15 (by omega) (by omega)]; exact h15.2) (by rw [eo 15 (by omega) (by omega)]; omega) (fun s a b => by unfold zk; exact eo _ (by omega) (by omega)) (fun i a => eo i (by omega) (by omega)) h0
  · have e : ztp z c = iu (iu z 2 (z 2 - 1)) (3 + plat z c) (z (3 + (z 2 - 1))) := by unfold ztp; exact if_neg h1
    have h0 := pck_unpil hz.1 hz.2.2.2.2.2.2 (k := plat z c) ⟨by omega, hp.2.1⟩
    rw [← e] at h0
    have eo : ∀ i, i ≠ 2 → (i < 3 ∨ 15 ≤ i) → ztp z c i = z i := fun i a b => by rw [e, iu_ne (by omega), iu_ne a]
    have hw : wH (ztp z c) := by
      obtain ⟨a1, a2, a3, a4, a5, a6⟩ := hz.1
      have e2 : ztp z c 2 = z 2 - 1 := by rw [e, iu_ne (by omega), iu_at rfl]
      refine ⟨by rw [eo 0 (by omega) (by omega)]; exact a1, by rw [eo 1 (by omega) (by omega)]; exact a2, by rw [e2]; omega, fun k a b => ?_, by rw [eo 15 (by omega) (by omega)]; exact a5, fun t a b => ?_⟩
      · rw [e2] at b
        rw [e]
        by_cases q : k = plat z c
        · rw [iu_at (by omega)]; exact a4 (z 2 - 1) (by omega) (by omega)
        · rw [iu_ne (by omega), iu_ne (by omega)]; exact a4 k a (by omega)
      · rw [eo 15 (by omega) (by omega)] at b
        have := a6 t a b
        unfold wT zk zp zt zf at *
        rw [eo _ (by omega) (by omega), eo _ (by omega) (by omega), eo _ (by omega) (by omega), eo _ (by omega) (by omega)]
        exact this
    exact wZ_hall hz hw (by rw [eo 15 (by omega) (by omega)]; exact h15.2) (by rw [eo 15 (by omega) (by omega)]; omega) (fun s a b => by unfold zk; exact eo _ (by omega) (by omega)) (fun i a => eo i (by omega) (by omega)) h0
