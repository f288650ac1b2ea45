/-! ===== orders over rows that agree ===== -/
theorem zeq_iu {z z' : Int → Int} (h : zeq z z') {i x : Int} (hi : i ≠ 2 ∧ i ≠ 15 ∧ i ≠ 60) : zeq (iu z i x) (iu z' i x) := by
  intro j hj
  have hj2 : rel z j := by
    unfold rel at hj ⊢
    rw [iu_ne (show 2 ≠ i by omega), iu_ne (show 15 ≠ i by omega), iu_ne (show 60 ≠ i by omega)] at hj
    exact hj
  by_cases e : j = i
  · rw [iu_at e, iu_at e]
  · rw [iu_ne e, iu_ne e]; exact h j hj2
theorem zeq_zset {z z' : Int → Int} (h : zeq z z') {t p u : Int} (ht : 0 ≤ t ∧ t ≤ 10) : zeq (zset z t p u) (zset z' t p u) := zeq_iu (zeq_iu h (by omega)) (by omega)
theorem zeq_zput {z z' : Int → Int} (h : zeq z z') {g t c : Int} (hg : 0 ≤ g) : zeq (zput z g t c) (zput z' g t c) := zeq_iu (zeq_iu h (by omega)) (by omega)
theorem zeq_zpil {z z' : Int → Int} (h : zeq z z') {c : Int} (h2 : 0 ≤ z 2 ∧ z 2 < 12) : zeq (zpil z c) (zpil z' c) := by
  obtain ⟨e0, e1, e2, e15, e60⟩ := zeq_0 h
  unfold zpil
  rw [e2]
  intro j hj
  have q2 : (iu (iu z (3 + z 2) c) 2 (z 2 + 1)) 2 = z 2 + 1 := iu_at rfl
  have q15 : (iu (iu z (3 + z 2) c) 2 (z 2 + 1)) 15 = z 15 := by rw [iu_ne (by omega), iu_ne (by omega)]
  have q60 : (iu (iu z (3 + z 2) c) 2 (z 2 + 1)) 60 = z 60 := by rw [iu_ne (by omega), iu_ne (by omega)]
  unfold rel at hj
  rw [q2, q15, q60] at hj
  by_cases e : j = 2
  · rw [iu_at e, iu_at e]
  · rw [iu_ne e, iu_ne e]
    by_cases f : j = 3 + z 2
    · rw [iu_at f, iu_at f]
    · rw [iu_ne f, iu_ne f]
      exact h j (by unfold rel; omega)
theorem npl_zeq {z z' : Int → Int} (h : zeq z z') (h2 : 0 ≤ z 2 ∧ z 2 ≤ 12) {c : Int} : npl z' c = npl z c := by
  obtain ⟨e0, e1, e2, e15, e60⟩ := zeq_0 h
  unfold npl
  rw [e2]
  by_cases q : z 2 = 12
  · rw [if_pos q, if_pos q]
  · rw [if_neg q, if_neg q]
    exact heq_pck (heq_of (zeq_zpil h (by omega)))
theorem sits_zeq {z z' : Int → Int} (h : zeq z z') {g : Int} (hg : 0 ≤ g ∧ g < z 60) : sits z' g ↔ sits z g := by
  unfold sits
  rw [(zeq_g h hg).2.1]
theorem sitr_zeq {z z' : Int → Int} (h : zeq z z') {t c : Int} : sitr z' t c = sitr z t c := by
  unfold sitr
  rw [(zeq_0 h).2.2.2.2]
  exact foldI_congr _ _ _ (fun b j u v => by
    obtain ⟨-, e1, e2, -⟩ := zeq_g h (g := j) ⟨u, by omega⟩
    rw [e1, e2])
theorem wid_zeq {z z' : Int → Int} (h : zeq z z') {g : Int} (hg : 0 ≤ g ∧ g < z 60) (hl : gl z g ≤ 14) : wid z' g = wid z g := by
  obtain ⟨-, -, -, e1, e2⟩ := zeq_g h hg
  unfold wid
  rw [e1]
  exact foldI_congr _ _ _ (fun b j u v => by rw [e2 j u (by omega)])
theorem nse_zeq {z z' : Int → Int} (h : zeq z z') (hz : wZ z) {g t c : Int} (hg : 0 ≤ g ∧ g < z 60) (ht : 0 ≤ t ∧ t < z 15) : nse z' g t c = nse z g t c := by
  unfold nse
  rw [propext (sits_zeq h hg), sitr_zeq h, wid_zeq h hg (wZ_g hz hg).2.2.1.2, (zeq_t h ht).1]
theorem nsw_zeq {z z' : Int → Int} (h : zeq z z') (hz : wZ z) {g k : Int} (hg : 0 ≤ g ∧ g < z 60) (hk : 0 ≤ k ∧ k < z 60) : nsw z' g k = nsw z g k := by
  by_cases hs : sits z g ∧ sits z k
  · have a1 := (sits_at hz hg hs.1).1
    have a2 := (sits_at hz hk hs.2).1
    unfold nsw
    rw [propext (sits_zeq h hg), propext (sits_zeq h hk), wid_zeq h hg (wZ_g hz hg).2.2.1.2, wid_zeq h hk (wZ_g hz hk).2.2.1.2, (zeq_g h hg).2.1, (zeq_g h hk).2.1, (zeq_t h a1).1, (zeq_t h a2).1]
  · unfold nsw
    rw [propext (sits_zeq h hg), propext (sits_zeq h hk), if_neg hs, if_neg hs]
theorem dgo_zeq {z z' : Int → Int} (h : zeq z z') (hz : wZ z) {c f1 f2 f3 f4 : Int} (hf : frg c f1 f2 f3 f4) : dgo z' c f1 f2 f3 f4 ↔ dgo z c f1 f2 f3 f4 := by
  obtain ⟨e0, e1, e2, e15, e60⟩ := zeq_0 h
  obtain ⟨hk, r1, r2, r3, r4⟩ := hf
  have h15 := wZ_15 hz
  have h2 := hz.1.2.2.1
  unfold dgo
  rw [e15, e60]
  split
  · rw [heq_pck (heq_of (zeq_zadd h h15 h2))]
  · split
    · by_cases q : f1 < z 15
      · have qt := zeq_t h (t := f1) ⟨r1.1, q⟩
        rw [qt.2.2.1, heq_pck (heq_of (zeq_zset h (by omega)))]
      · exact ⟨fun w => absurd w.1 q, fun w => absurd w.1 q⟩
    · split
      · by_cases q : f1 < z 15
        · have qt := zeq_t h (t := f1) ⟨r1.1, q⟩
          rw [qt.2.1, heq_pck (heq_of (zeq_zset h (by omega)))]
        · exact ⟨fun w => absurd w.1 q, fun w => absurd w.1 q⟩
      · split
        · rw [zeq_plat h, npl_zeq h h2]
        · split
          · by_cases q : f1 < z 60
            · by_cases q2 : f2 < z 15
              · rw [(zeq_t h ⟨r2.1, q2⟩).1, nse_zeq h hz ⟨r1.1, q⟩ ⟨r2.1, q2⟩]
              · exact ⟨fun w => absurd w.2.1.1 q2, fun w => absurd w.2.1.1 q2⟩
            · exact ⟨fun w => absurd w.1 q, fun w => absurd w.1 q⟩
          · split
            · by_cases q : f1 < z 60
              · rw [propext (sits_zeq h ⟨r1.1, q⟩)]
              · exact ⟨fun w => absurd w.1 q, fun w => absurd w.1 q⟩
            · by_cases q : f1 < z 60
              · by_cases q2 : f2 < z 60
                · rw [nsw_zeq h hz ⟨r1.1, q⟩ ⟨r2.1, q2⟩]
                · exact ⟨fun w => absurd w.2.1 q2, fun w => absurd w.2.1 q2⟩
              · exact ⟨fun w => absurd w.1 q, fun w => absurd w.1 q⟩
theorem dzz_zeq {z z' : Int → Int} (h : zeq z z') (hz : wZ z) {c f1 f2 f3 f4 : Int} (hf : frg c f1 f2 f3 f4) (hd : dgo z c f1 f2 f3 f4) : zeq (dzz z c f1 f2 f3 f4) (dzz z' c f1 f2 f3 f4) := by
  obtain ⟨hk, r1, r2, r3, r4⟩ := hf
  have h15 := wZ_15 hz
  have h2 := hz.1.2.2.1
  unfold pK at hk
  rcases hk with rfl | rfl | rfl | rfl | rfl | rfl | rfl
  · exact zeq_zadd h h15 h2
  · obtain ⟨a, b⟩ : f1 < z 15 ∧ pck (zset z f1 (16 * f3 + f2) (zt z f1)) = 0 := hd
    show zeq (zset z f1 (16 * f3 + f2) (zt z f1)) (zset z' f1 (16 * f3 + f2) (zt z' f1))
    rw [(zeq_t h (t := f1) ⟨r1.1, a⟩).2.2.1]
    exact zeq_zset h (by omega)
  · obtain ⟨a, b⟩ : f1 < z 15 ∧ pck (zset z f1 (zp z f1) f2) = 0 := hd
    show zeq (zset z f1 (zp z f1) f2) (zset z' f1 (zp z' f1) f2)
    rw [(zeq_t h (t := f1) ⟨r1.1, a⟩).2.1]
    exact zeq_zset h (by omega)
  · refine zeq_ztp h h2 (fun q => ?_)
    have h0 : npl z (16 * f2 + f1) = 0 := hd q
    refine Classical.byContradiction (fun w => ?_)
    unfold npl at h0
    rw [if_pos (by omega)] at h0
    omega
  · exact zeq_zput h r1.1
  · exact zeq_zput h r1.1
  · obtain ⟨a, b, c⟩ : f1 < z 60 ∧ f2 < z 60 ∧ nsw z f1 f2 = 0 := hd
    show zeq (zswp z f1 f2) (zswp z' f1 f2)
    unfold zswp
    obtain ⟨-, g2, g3, -⟩ := zeq_g h (g := f1) ⟨r1.1, a⟩
    obtain ⟨-, k2, k3, -⟩ := zeq_g h (g := f2) ⟨r2.1, b⟩
    rw [g2, g3, k2, k3]
    exact zeq_zput (zeq_zput h r1.1) r2.1
theorem rtz_zeq {T : Int → Int} {l : Int} : ∀ (k : Nat) (a : Int) (z z' : Int → Int) (d : Int), good T l a k → zeq z z' → wZ z → zeq (rtz T l k a z d).1 (rtz T l k a z' d).1 ∧ (rtz T l k a z' d).2 = (rtz T l k a z d).2 := by
  intro k
  induction k with
  | zero => intro a z z' d _ h _; exact ⟨h, rfl⟩
  | succ k ih =>
    intro a z z' d hg h hz
    have hf := pO_rg (good_k hg)
    unfold rtz
    by_cases q : dgo z (pH T l a) (pO T l a).2.1 (pO T l a).2.2.1 (pO T l a).2.2.2.1 (pO T l a).2.2.2.2
    · rw [if_pos q, if_pos ((dgo_zeq h hz hf).2 q)]
      by_cases w : (pO T l a).1.1 < l
      · rw [if_pos w, if_pos w]
        exact ih _ _ _ _ (good_s hg w) (dzz_zeq h hz hf q) (wZ_dzz hz hf q)
      · rw [if_neg w, if_neg w]
        exact ⟨dzz_zeq h hz hf q, rfl⟩
    · rw [if_neg q, if_neg (fun w => q ((dgo_zeq h hz hf).1 w))]
      exact ⟨h, rfl⟩
theorem wZ_rtz {T : Int → Int} {l : Int} : ∀ (k : Nat) (a : Int) (z : Int → Int) (d : Int), good T l a k → wZ z → wZ (rtz T l k a z d).1 := by
  intro k
  induction k with
  | zero => intro a z d _ hz; exact hz
  | succ k ih =>
    intro a z d hg hz
    have hf := pO_rg (good_k hg)
    unfold rtz
    by_cases q : dgo z (pH T l a) (pO T l a).2.1 (pO T l a).2.2.1 (pO T l a).2.2.2.1 (pO T l a).2.2.2.2
    · rw [if_pos q]
      by_cases w : (pO T l a).1.1 < l
      · rw [if_pos w]
        exact ih _ _ _ (good_s hg w) (wZ_dzz hz hf q)
      · rw [if_neg w]
        exact wZ_dzz hz hf q
    · rw [if_neg q]; exact hz
