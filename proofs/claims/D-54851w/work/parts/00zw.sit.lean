/-! ===== chairs are told apart by their cells ===== -/
theorem runL_inj {α : Type} {f : Int → α} : ∀ (k : Nat) (i : Int), (runL f i k).Nodup → ∀ a b, i ≤ a → a < b → b < i + k → f a ≠ f b := by
  intro k
  induction k with
  | zero => intro i _ a b _ _ _; omega
  | succ k ih =>
    intro i hn a b h1 h2 h3 e
    have hn2 : (f i :: runL f (i + 1) k).Nodup := hn
    rw [List.nodup_cons] at hn2
    by_cases ha : a = i
    · refine hn2.1 ?_
      rw [← ha, e]
      exact (runL_mem _ _).2 ⟨b, by omega, by omega, rfl⟩
    · exact ih (i + 1) hn2.2 a b (by omega) h2 (by omega) e
theorem cell_mem {z : Int → Int} {t j : Int} (ht : 0 ≤ t ∧ t < z 15) (hj : 0 ≤ j ∧ j < ceN (zk z t)) : (ceT z t j, 10 + t) ∈ laid 30 z := by
  unfold laid tslay
  refine List.mem_append_right _ (List.mem_flatten.mpr ⟨tlay 30 z t, (runL_mem _ _).2 ⟨t, ht.1, by omega, rfl⟩, ?_⟩)
  unfold tlay
  exact List.mem_append_left _ ((runL_mem _ _).2 ⟨j, hj.1, by omega, rfl⟩)
theorem chair_mem {z : Int → Int} {t c : Int} (h : isCh z t c) : (chT z t c, 30 + t) ∈ laid 30 z := by
  obtain ⟨ht, hc⟩ := h
  unfold laid tslay
  refine List.mem_append_right _ (List.mem_flatten.mpr ⟨tlay 30 z t, (runL_mem _ _).2 ⟨t, ht.1, by omega, rfl⟩, ?_⟩)
  unfold tlay
  exact List.mem_append_right _ ((runL_mem _ _).2 ⟨c, hc.1, by omega, rfl⟩)
theorem wZ_nd {z : Int → Int} (hz : wZ z) : nd (laid 30 z) := (pck_0i hz.2.2.2.2.2.2).2.1
theorem chair_mpz {z : Int → Int} (hz : wZ z) {t c : Int} (h : isCh z t c) : mpz z (chT z t c) = 30 + t := mpz_mem (wZ_nd hz) (chair_mem h)
theorem nd_tab {z : Int → Int} (hn : nd (laid 30 z)) {t : Int} (ht : 0 ≤ t ∧ t < z 15) : nd (tlay 30 z t) := by
  unfold nd laid tslay at *
  rw [List.map_append] at hn
  have h2 := (List.nodup_append.mp hn).2.1
  rw [List.map_flatten] at h2
  exact (List.pairwise_flatten.mp h2).1 _ (List.mem_map.mpr ⟨_, (runL_mem _ _).2 ⟨t, ht.1, by omega, rfl⟩, rfl⟩)
theorem chair_inj {z : Int → Int} (hz : wZ z) {t c t' c' : Int} (h : isCh z t c) (h' : isCh z t' c') (e : chT z t c = chT z t' c') : t = t' ∧ c = c' := by
  have e1 := chair_mpz hz h
  have e2 := chair_mpz hz h'
  rw [e] at e1
  have et : t = t' := by omega
  subst et
  refine ⟨rfl, ?_⟩
  have hn := nd_tab (wZ_nd hz) h.1
  unfold nd tlay at hn
  rw [List.map_append] at hn
  have h2 := (List.nodup_append.mp hn).2.1
  rw [runL_map] at h2
  have hi := runL_inj _ _ h2
  have a := h.2
  have b := h'.2
  rcases Int.lt_trichotomy c c' with q | q | q
  · exact absurd e (hi c c' a.1 q (by omega))
  · exact q
  · exact absurd e.symm (hi c' c b.1 q (by omega))
theorem sits_ch {z : Int → Int} (hz : wZ z) {g : Int} (hg : 0 ≤ g ∧ g < z 60) (hs : sits z g) : isCh z (ga z g) (gc z g) := by
  rcases (wZ_g hz hg).2.1 with q | q
  · exact absurd q.1 hs
  · exact q
theorem cgl_inj {z : Int → Int} (hz : wZ z) {g k : Int} (hg : 0 ≤ g ∧ g < z 60) (hk : 0 ≤ k ∧ k < z 60) (hs : sits z g) (ht : sits z k) (e : cgl z g = cgl z k) : g = k := by
  obtain ⟨e1, e2⟩ := chair_inj hz (sits_ch hz hg hs) (sits_ch hz hk ht) e
  refine Classical.byContradiction (fun q => ?_)
  exact seat_ne hz hg hk q hs e1 e2
theorem sitC_all {z : Int → Int} (hz : wZ z) {c : Int} (hc : cin c) : (sitC z c = -1 ∧ ∀ g, 0 ≤ g → g < z 60 → sits z g → cgl z g ≠ c) ∨ ((0 ≤ sitC z c ∧ sitC z c < z 60) ∧ sits z (sitC z c) ∧ cgl z (sitC z c) = c) := by
  have h60 := wZ_60 hz
  have h := foldI_inv (s := sitS z) (fun i W => i ≤ z 60 → (W c = -1 ∧ ∀ g, 0 ≤ g → g < i → sits z g → cgl z g ≠ c) ∨ ((0 ≤ W c ∧ W c < i) ∧ sits z (W c) ∧ cgl z (W c) = c)) (z 60).toNat (fun _ => -1) 0 (fun _ => Or.inl ⟨rfl, fun g a b => by omega⟩) (fun W j h1 h2 h3 h4 => by
    have h3 := h3 (by omega)
    unfold sitS
    by_cases e : sits z j
    · rw [if_pos e]
      by_cases f : c = cgl z j
      · right
        rw [iu_at f]
        exact ⟨⟨h1, by omega⟩, e, f.symm⟩
      · rw [iu_ne f]
        rcases h3 with ⟨a, b⟩ | ⟨a, b⟩
        · left
          refine ⟨a, fun g u v w => ?_⟩
          by_cases q : g = j
          · rw [q]; exact fun x => f x.symm
          · exact b g u (by omega) w
        · exact Or.inr ⟨⟨a.1, by omega⟩, b⟩
    · rw [if_neg e]
      rcases h3 with ⟨a, b⟩ | ⟨a, b⟩
      · left
        refine ⟨a, fun g u v w => ?_⟩
        by_cases q : g = j
        · rw [q] at w; exact absurd w e
        · exact b g u (by omega) w
      · exact Or.inr ⟨⟨a.1, by omega⟩, b⟩)
  have e : (0 : Int) + (z 60).toNat = z 60 := by omega
  rw [e] at h
  exact h (Int.le_refl _)
theorem sitC_of {z : Int → Int} (hz : wZ z) {g : Int} (hg : 0 ≤ g ∧ g < z 60) (hs : sits z g) : sitC z (cgl z g) = g := by
  rcases sitC_all hz (cgl_cin hz hg hs) with ⟨a, b⟩ | ⟨a, b, d⟩
  · exact absurd rfl (b g hg.1 hg.2 hs)
  · exact cgl_inj hz a hg b hs d
theorem sitC_rg {z : Int → Int} (hz : wZ z) {c : Int} (hc : cin c) : -1 ≤ sitC z c ∧ sitC z c < z 60 := by
  have h60 := wZ_60 hz
  rcases sitC_all hz hc with ⟨a, _⟩ | ⟨a, _⟩ <;> omega
/-- who sits on a chair, by its cell -/
theorem sitC_sitr {z : Int → Int} (hz : wZ z) {t c : Int} (h : isCh z t c) (hc : cin (chT z t c)) : sitC z (chT z t c) = sitr z t c := by
  have h60 := wZ_60 hz
  obtain ⟨r1, r2, r3, r4⟩ := sitr_rg h60.1 t c
  rcases sitC_all hz hc with ⟨a, b⟩ | ⟨a, b, d⟩
  · rw [a]
    refine Classical.byContradiction (fun q => ?_)
    obtain ⟨u, v⟩ := r3 (fun e => q e.symm)
    have hne : sitr z t c ≠ -1 := fun e => q e.symm
    have hs : sits z (sitr z t c) := by
      unfold sits
      rw [u]
      have := h.1.1
      omega
    refine b (sitr z t c) (by omega) r2 hs ?_
    unfold cgl
    rw [u, v]
  · have hch := sits_ch hz a b
    obtain ⟨e1, e2⟩ := chair_inj hz hch h d
    by_cases q : sitr z t c = -1
    · exact absurd ⟨e1, e2⟩ (r4 q _ a.1 a.2)
    · obtain ⟨u, v⟩ := r3 q
      have hs : sits z (sitr z t c) := by
        unfold sits
        rw [u]
        have := h.1.1
        omega
      refine cgl_inj hz a ⟨by omega, r2⟩ b hs ?_
      rw [d]
      unfold cgl
      rw [u, v]
/-- what stands in the way, as the component looks for it -/
theorem stn_tab {z : Int → Int} (hz : wZ z) {g c : Int} (hc : cin c) (h : 10 ≤ mpz z c ∧ mpz z c ≤ 29) : stn z g c ↔ gh z g ≤ zf z (mpz z c - 10) := by
  unfold stn
  constructor
  · rintro (q | q | ⟨k, k1, -, k3, k4, -⟩)
    · omega
    · exact q.2
    · have := chair_mpz hz (sits_ch hz k1 k3)
      unfold cgl at k4
      rw [k4] at this
      have := (sits_ch hz k1 k3).1
      omega
  · exact fun q => Or.inr (Or.inl ⟨h, q⟩)
theorem stn_sit {z : Int → Int} (hz : wZ z) {g c : Int} (hc : cin c) (h1 : mpz z c ≠ 1) (h : ¬ (10 ≤ mpz z c ∧ mpz z c ≤ 29)) : stn z g c ↔ (sitC z c ≠ -1 ∧ sitC z c ≠ g ∧ gh z g < gh z (sitC z c)) := by
  unfold stn
  constructor
  · rintro (q | q | ⟨k, k1, k2, k3, k4, k5⟩)
    · exact absurd q h1
    · exact absurd q.1 h
    · have e := sitC_of hz k1 k3
      rw [k4] at e
      rw [e]
      exact ⟨by omega, k2, k5⟩
  · rintro ⟨a, b, d⟩
    rcases sitC_all hz hc with ⟨u, _⟩ | ⟨u, v, w⟩
    · exact absurd u a
    · exact Or.inr (Or.inr ⟨_, u, b, v, w, d⟩)
