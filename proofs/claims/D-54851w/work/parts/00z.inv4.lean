/-! ===== wZ is kept by what guests do ===== -/
theorem seat_ne {z : Int → Int} (hz : wZ z) {a b : Int} (ha : 0 ≤ a ∧ a < z 60) (hb : 0 ≤ b ∧ b < z 60) (hab : a ≠ b) (hs : sits z a) (h : ga z a = ga z b) : gc z a ≠ gc z b := by
  by_cases hlt : a < b
  · exact hz.2.2.2.2.1 a b ha.1 hlt hb.2 hs h
  · have hs2 : sits z b := by unfold sits at *; rw [← h]; exact hs
    exact fun q => hz.2.2.2.2.1 b a hb.1 (by omega) ha.2 hs2 h.symm q.symm
theorem wG_congr {z z' : Int → Int} {g : Int} (hw : wG z g) (h0 : gh z' g = gh z g) (hl : gl z' g = gl z g) (hn : ∀ k, 0 ≤ k → k < 14 → gn z' g k = gn z g k) (hs : (ga z' g = -1 ∧ gc z' g = -1) ∨ ((0 ≤ ga z' g ∧ ga z' g < z' 15) ∧ 0 ≤ gc z' g ∧ gc z' g < chN (zk z' (ga z' g)))) : wG z' g := by
  obtain ⟨h1, -, h3, h4, h5⟩ := hw
  refine ⟨by rw [h0]; exact h1, hs, by rw [hl]; exact h3, fun k a b => ?_, fun k a b => ?_⟩
  · rw [hl] at b
    rw [hn k a (by omega)]; exact h4 k a b
  · rw [hl] at a
    rw [hn k (by omega) b]; exact h5 k a b
theorem zput_ne {z : Int → Int} {g t c i : Int} (h1 : i ≠ 61 + 18 * g + 1) (h2 : i ≠ 61 + 18 * g + 2) : zput z g t c i = z i := by
  unfold zput; rw [iu_ne h2, iu_ne h1]
theorem zput_a {z : Int → Int} {g t c : Int} : ga (zput z g t c) g = t := by
  unfold ga zput; rw [iu_ne (by omega), iu_at rfl]
theorem zput_c {z : Int → Int} {g t c : Int} : gc (zput z g t c) g = c := by
  unfold gc zput; rw [iu_at rfl]
theorem zput_ao {z : Int → Int} {g t c x : Int} (h : x ≠ g) : ga (zput z g t c) x = ga z x ∧ gc (zput z g t c) x = gc z x := by
  unfold ga gc
  exact ⟨zput_ne (by omega) (by omega), zput_ne (by omega) (by omega)⟩
theorem zput_lo {z : Int → Int} {g t c i : Int} (hg : 0 ≤ g) (h : i < 61) : zput z g t c i = z i := zput_ne (by omega) (by omega)
theorem zput_hi {z : Int → Int} {g t c i : Int} (hg : g < 30) (h : 601 ≤ i) : zput z g t c i = z i := zput_ne (by omega) (by omega)
theorem zput_o {z : Int → Int} {g t c x : Int} : gh (zput z g t c) x = gh z x ∧ gl (zput z g t c) x = gl z x ∧ ∀ k, 0 ≤ k → k < 14 → gn (zput z g t c) x k = gn z x k := by
  unfold gh gl gn
  exact ⟨zput_ne (by omega) (by omega), zput_ne (by omega) (by omega), fun k a b => zput_ne (by omega) (by omega)⟩
theorem wZ_put {z : Int → Int} (hz : wZ z) {g t c : Int} (hg : 0 ≤ g ∧ g < z 60) (ht : (t = -1 ∧ c = -1) ∨ ((0 ≤ t ∧ t < z 15) ∧ 0 ≤ c ∧ c < chN (zk z t))) (hf : t ≠ -1 → ∀ h, 0 ≤ h → h < z 60 → h ≠ g → ga z h = t → gc z h ≠ c) : wZ (zput z g t c) := by
  have h60 := wZ_60 hz
  have e60 : zput z g t c 60 = z 60 := zput_lo hg.1 (by omega)
  have e15 : zput z g t c 15 = z 15 := zput_lo hg.1 (by omega)
  have ek : ∀ x, 0 ≤ x → x < z 15 → zk (zput z g t c) x = zk z x := fun x a b => by have := wZ_15 hz; unfold zk; exact zput_lo hg.1 (by omega)
  refine wZ_gsts hz (fun i hi => zput_lo hg.1 (by omega)) (by rw [e60]; exact h60) (fun x a b => ?_) (fun x y a b d hs => ?_) (fun x a b => ?_)
  · rw [e60] at b
    have o := zput_o (z := z) (g := g) (t := t) (c := c) (x := x)
    refine wG_congr (wZ_g hz ⟨a, b⟩) o.1 o.2.1 o.2.2 ?_
    by_cases e : x = g
    · subst e
      rw [zput_a, zput_c]
      rcases ht with q | q
      · exact Or.inl q
      · right; rw [e15, ek t q.1.1 q.1.2]; exact q
    · rw [(zput_ao e).1, (zput_ao e).2]
      rcases (wZ_g hz ⟨a, b⟩).2.1 with q | q
      · exact Or.inl q
      · right; rw [e15, ek _ q.1.1 q.1.2]; exact q
  · rw [e60] at d
    by_cases e : x = g
    · subst e
      unfold sits at hs
      rw [zput_a] at hs
      rw [zput_a, zput_c, (zput_ao (show y ≠ x by omega)).1, (zput_ao (show y ≠ x by omega)).2]
      intro q q2
      exact hf hs y (by omega) d (by omega) q.symm q2.symm
    · unfold sits at hs
      rw [(zput_ao e).1] at hs
      rw [(zput_ao e).1, (zput_ao e).2]
      by_cases e2 : y = g
      · subst e2
        rw [zput_a, zput_c]
        intro q
        exact hf (by rw [← q]; exact hs) x a (by omega) e q
      · rw [(zput_ao e2).1, (zput_ao e2).2]
        exact hz.2.2.2.2.1 x y a b d hs
  · rw [e60] at b ⊢
    rw [zput_hi (by omega) (by omega)]
    obtain ⟨q1, q2⟩ := hz.2.2.2.2.2.1 x a b
    refine ⟨q1, fun h u v w => ?_⟩
    rw [zput_hi (by omega) (by omega)]
    exact q2 h u v w
/-- two guests change their seats -/
theorem zswp_at {z : Int → Int} {g h x : Int} (hgh : g ≠ h) : ga (zswp z g h) x = ga z (if x = g then h else if x = h then g else x) ∧ gc (zswp z g h) x = gc z (if x = g then h else if x = h then g else x) := by
  unfold zswp
  by_cases e : x = h
  · subst e
    rw [if_neg (Ne.symm hgh), if_pos rfl, zput_a, zput_c]
    exact ⟨rfl, rfl⟩
  · rw [(zput_ao e).1, (zput_ao e).2]
    by_cases e2 : x = g
    · subst e2
      rw [if_pos rfl, zput_a, zput_c]
      exact ⟨rfl, rfl⟩
    · rw [(zput_ao e2).1, (zput_ao e2).2, if_neg e2, if_neg e]
      exact ⟨rfl, rfl⟩
theorem wZ_swp {z : Int → Int} (hz : wZ z) {g h : Int} (hg : 0 ≤ g ∧ g < z 60) (hh : 0 ≤ h ∧ h < z 60) (hgh : g ≠ h) : wZ (zswp z g h) := by
  have h60 := wZ_60 hz
  have e60 : zswp z g h 60 = z 60 := by unfold zswp; rw [zput_lo hh.1 (by omega), zput_lo hg.1 (by omega)]
  have elo : ∀ i, i < 61 → zswp z g h i = z i := fun i hi => by unfold zswp; rw [zput_lo hh.1 hi, zput_lo hg.1 hi]
  have ehi : ∀ i, 601 ≤ i → zswp z g h i = z i := fun i hi => by unfold zswp; rw [zput_hi (by omega) hi, zput_hi (by omega) hi]
  refine wZ_gsts hz (fun i hi => elo i (by omega)) (by rw [e60]; exact h60) (fun x a b => ?_) (fun x y a b d hs => ?_) (fun x a b => ?_)
  · rw [e60] at b
    have o1 := zput_o (z := zput z g (ga z h) (gc z h)) (g := h) (t := ga z g) (c := gc z g) (x := x)
    have o2 := zput_o (z := z) (g := g) (t := ga z h) (c := gc z h) (x := x)
    refine wG_congr (wZ_g hz ⟨a, b⟩) (o1.1.trans o2.1) (o1.2.1.trans o2.2.1) (fun k u v => (o1.2.2 k u v).trans (o2.2.2 k u v)) ?_
    obtain ⟨e1, e2⟩ := zswp_at (z := z) (x := x) hgh
    rw [e1, e2]
    have hs2 : 0 ≤ (if x = g then h else if x = h then g else x) ∧ (if x = g then h else if x = h then g else x) < z 60 := by split <;> (try split) <;> omega
    rcases (wZ_g hz hs2).2.1 with q | q
    · exact Or.inl q
    · right
      rw [elo 15 (by omega)]
      have := wZ_15 hz
      have e3 : zk (zswp z g h) (ga z (if x = g then h else if x = h then g else x)) = zk z (ga z (if x = g then h else if x = h then g else x)) := by unfold zk; exact elo _ (by omega)
      rw [e3]; exact q
  · rw [e60] at d
    obtain ⟨e1, e2⟩ := zswp_at (z := z) (x := x) hgh
    obtain ⟨f1, f2⟩ := zswp_at (z := z) (x := y) hgh
    unfold sits at hs
    rw [e1] at hs
    rw [e1, e2, f1, f2]
    exact seat_ne hz (by split <;> (try split) <;> omega) (by split <;> (try split) <;> omega) (by split <;> (try split) <;> (try split) <;> (try split) <;> omega) hs
  · rw [e60] at b ⊢
    rw [ehi _ (by omega)]
    obtain ⟨q1, q2⟩ := hz.2.2.2.2.2.1 x a b
    refine ⟨q1, fun h u v w => ?_⟩
    rw [ehi _ (by omega)]
    exact q2 h u v w
/-- nobody sits at it -/
theorem zrem_ga {z : Int → Int} {t g : Int} (hg : 0 ≤ g ∧ g < z 60) (h15 : 0 ≤ z 15 ∧ z 15 ≤ 10) (ht : 0 ≤ t) : ga (zrem z t) g = dec t (ga z g) := by
  unfold ga zrem dec
  rw [if_neg (by omega), if_neg (by omega), if_pos (by omega)]
theorem wZ_rem {z : Int → Int} (hz : wZ z) {t : Int} (ht : 0 ≤ t ∧ t < z 15) (hn : ∀ g, 0 ≤ g → g < z 60 → ga z g ≠ t) : wZ (zrem z t) := by
  have h60 := wZ_60 hz
  have h15 := wZ_15 hz
  have e60 : zrem z t 60 = z 60 := zrem_lo (by omega) (by omega) (by omega)
  have e15 : zrem z t 15 = z 15 - 1 := zrem_15
  have eo : ∀ i, 61 ≤ i → (i - 61) % 18 ≠ 1 → zrem z t i = z i := fun i a b => zrem_lo (by omega) (by omega) (Or.inr (Or.inr b))
  have ehi : ∀ i, 601 ≤ i → zrem z t i = z i := fun i a => zrem_lo (by omega) (by omega) (by omega)
  have eg : ∀ g, 0 ≤ g → g < z 60 → ga (zrem z t) g = dec t (ga z g) ∧ gc (zrem z t) g = gc z g := fun g a b => ⟨zrem_ga ⟨a, b⟩ h15 ht.1, by unfold gc; exact eo _ (by omega) (by omega)⟩
  refine ⟨wH_rem hz.1 ht h15.2, by rw [e15]; omega, by rw [e60]; exact h60, fun x a b => ?_, fun x y a b d hs => ?_, fun x a b => ?_, pck_rem hz.1 h15.2 hz.2.2.2.2.2.2 ht⟩
  · rw [e60] at b
    obtain ⟨e1, e2⟩ := eg x a b
    refine wG_congr (wZ_g hz ⟨a, b⟩) (by unfold gh; exact eo _ (by omega) (by omega)) (by unfold gl; exact eo _ (by omega) (by omega)) (fun k u v => by unfold gn; exact eo _ (by omega) (by omega)) ?_
    rw [e1, e2, e15]
    have hne := hn x a b
    rcases (wZ_g hz ⟨a, b⟩).2.1 with q | q
    · left
      unfold dec
      rw [if_neg (by omega)]; exact q
    · right
      have hd : 0 ≤ dec t (ga z x) ∧ dec t (ga z x) < z 15 - 1 := by unfold dec; split <;> omega
      refine ⟨hd, ?_⟩
      rw [(zrem_tab ht h15.2 hd).1]
      have e3 : osh t (dec t (ga z x)) = ga z x := by unfold osh dec; split <;> split <;> omega
      rw [e3]
      exact q.2
  · rw [e60] at d
    obtain ⟨e1, e2⟩ := eg x a (by omega)
    obtain ⟨f1, f2⟩ := eg y (by omega) d
    have n1 := hn x a (by omega)
    have n2 := hn y (by omega) d
    unfold sits at hs
    rw [e1] at hs
    rw [e1, e2, f1, f2]
    intro q
    have hgx := (wZ_g hz ⟨a, show x < z 60 by omega⟩).2.1
    refine hz.2.2.2.2.1 x y a b d ?_ ?_
    · unfold sits
      intro w
      rw [w] at hs
      unfold dec at hs
      rw [if_neg (by omega)] at hs
      exact hs rfl
    · unfold dec at q
      split at q <;> split at q <;> omega
  · rw [e60] at b ⊢
    rw [ehi _ (by omega)]
    obtain ⟨q1, q2⟩ := hz.2.2.2.2.2.1 x a b
    refine ⟨q1, fun h u v w => ?_⟩
    rw [ehi _ (by omega)]
    exact q2 h u v w
/-- two guests who want to sit near each other, or don't any more -/
def zflp (z : Int → Int) (g h : Int) : Int → Int := iu (iu z (601 + g) (flipb (z (601 + g)) h)) (601 + h) (flipb (z (601 + h)) g)
theorem zflp_lo {z : Int → Int} {g h i : Int} (hg : 0 ≤ g) (hh : 0 ≤ h) (hi : i < 601) : zflp z g h i = z i := by unfold zflp; rw [iu_ne (by omega), iu_ne (by omega)]
theorem zflp_at {z : Int → Int} {g h x : Int} (hgh : g ≠ h) : zflp z g h (601 + x) = if x = g then flipb (z (601 + g)) h else if x = h then flipb (z (601 + h)) g else z (601 + x) := by
  unfold zflp
  by_cases e : x = h
  · subst e
    rw [iu_at rfl, if_neg (Ne.symm hgh), if_pos rfl]
  · rw [iu_ne (by omega)]
    by_cases e2 : x = g
    · subst e2
      rw [iu_at rfl, if_pos rfl]
    · rw [iu_ne (by omega), if_neg e2, if_neg e]
theorem zflp_bit {z : Int → Int} (hz : wZ z) {g h : Int} (hg : 0 ≤ g ∧ g < z 60) (hh : 0 ≤ h ∧ h < z 60) (hgh : g ≠ h) {x y : Int} (hx : 0 ≤ x ∧ x < z 60) (hy : 0 ≤ y) : bit (zflp z g h (601 + x)) y ↔ (if (x = g ∧ y = h) ∨ (x = h ∧ y = g) then ¬ bit (z (601 + x)) y else bit (z (601 + x)) y) := by
  have p1 := wZ_p hz hg
  have p2 := wZ_p hz hh
  rw [zflp_at hgh]
  by_cases e : x = g
  · subst e
    rw [if_pos rfl, bit_flip p1.1 hh.1 hy]
    by_cases q : y = h
    · rw [if_pos q, if_pos (Or.inl ⟨rfl, q⟩)]
    · rw [if_neg q, if_neg (by omega)]
  · rw [if_neg e]
    by_cases e2 : x = h
    · subst e2
      rw [if_pos rfl, bit_flip p2.1 hg.1 hy]
      by_cases q : y = g
      · rw [if_pos q, if_pos (Or.inr ⟨rfl, q⟩)]
      · rw [if_neg q, if_neg (by omega)]
    · rw [if_neg e2, if_neg (by omega)]
theorem wZ_flp {z : Int → Int} (hz : wZ z) {g h : Int} (hg : 0 ≤ g ∧ g < z 60) (hh : 0 ≤ h ∧ h < z 60) (hgh : g ≠ h) : wZ (zflp z g h) := by
  have h60 := wZ_60 hz
  have elo : ∀ i, i < 601 → zflp z g h i = z i := fun i hi => zflp_lo hg.1 hh.1 hi
  have e60 : zflp z g h 60 = z 60 := elo 60 (by omega)
  refine wZ_gsts hz (fun i hi => elo i (by omega)) (by rw [e60]; exact h60) (fun x a b => ?_) (fun x y a b d hs => ?_) (fun x a b => ?_)
  · rw [e60] at b
    refine wG_congr (wZ_g hz ⟨a, b⟩) (by unfold gh; exact elo _ (by omega)) (by unfold gl; exact elo _ (by omega)) (fun k u v => by unfold gn; exact elo _ (by omega)) ?_
    have e1 : ga (zflp z g h) x = ga z x := by unfold ga; exact elo _ (by omega)
    have e2 : gc (zflp z g h) x = gc z x := by unfold gc; exact elo _ (by omega)
    rw [e1, e2]
    rcases (wZ_g hz ⟨a, b⟩).2.1 with q | q
    · exact Or.inl q
    · right
      have := wZ_15 hz
      rw [elo 15 (by omega), show zk (zflp z g h) (ga z x) = zk z (ga z x) by unfold zk; exact elo _ (by omega)]
      exact q
  · rw [e60] at d
    have e1 : ∀ x, x < z 60 → ga (zflp z g h) x = ga z x ∧ gc (zflp z g h) x = gc z x := fun x b => by unfold ga gc; exact ⟨elo _ (by omega), elo _ (by omega)⟩
    unfold sits at hs
    rw [(e1 x (by omega)).1] at hs
    rw [(e1 x (by omega)).1, (e1 x (by omega)).2, (e1 y d).1, (e1 y d).2]
    exact hz.2.2.2.2.1 x y a b d hs
  · rw [e60] at b ⊢
    refine ⟨?_, fun y u v w => ?_⟩
    · rw [zflp_at hgh]
      split
      · exact flipb_rg (wZ_p hz hg) ⟨hh.1, by omega⟩
      · split
        · exact flipb_rg (wZ_p hz hh) ⟨hg.1, by omega⟩
        · exact wZ_p hz ⟨a, b⟩
    · rw [zflp_bit hz hg hh hgh ⟨a, b⟩ u] at w
      by_cases q : (x = g ∧ y = h) ∨ (x = h ∧ y = g)
      · rw [if_pos q] at w
        refine ⟨by omega, by omega, ?_⟩
        rw [zflp_bit hz hg hh hgh (by omega) a, if_pos (by omega)]
        intro w2
        have hy : 0 ≤ y ∧ y < z 60 := by omega
        exact w ((hz.2.2.2.2.2.1 y hy.1 hy.2).2 x a (by omega) w2).2.2
      · rw [if_neg q] at w
        obtain ⟨r1, r2, r3⟩ := (hz.2.2.2.2.2.1 x a b).2 y u v w
        refine ⟨r1, r2, ?_⟩
        rw [zflp_bit hz hg hh hgh ⟨u, r1⟩ a, if_neg (by omega)]
        exact r3
