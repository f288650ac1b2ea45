/-! ===== changes of the row of numbers ===== -/
/-- the numbers that mean something -/
def rel (z : Int → Int) (i : Int) : Prop := i = 0 ∨ i = 1 ∨ i = 2 ∨ (3 ≤ i ∧ i < 3 + z 2) ∨ i = 15 ∨ (16 ≤ i ∧ i < 16 + 4 * z 15) ∨ i = 60 ∨ (61 ≤ i ∧ i < 61 + 18 * z 60) ∨ (601 ≤ i ∧ i < 601 + z 60)
def zeq (z z' : Int → Int) : Prop := ∀ i, rel z i → z' i = z i
theorem zeq_rf {z : Int → Int} : zeq z z := fun _ _ => rfl
theorem zeq_rel {z z' : Int → Int} (h : zeq z z') (i : Int) : rel z' i ↔ rel z i := by
  have h2 := h 2 (Or.inr (Or.inr (Or.inl rfl)))
  have h15 := h 15 (by unfold rel; omega)
  have h60 := h 60 (by unfold rel; omega)
  unfold rel
  rw [h2, h15, h60]
theorem zeq_sy {z z' : Int → Int} (h : zeq z z') : zeq z' z := fun i hi => (h i ((zeq_rel h i).1 hi)).symm
theorem zeq_tr {z z' z'' : Int → Int} (h : zeq z z') (h2 : zeq z' z'') : zeq z z'' := fun i hi => (h2 i ((zeq_rel h i).2 hi)).trans (h i hi)
/-- the numbers that the hall is made of -/
def relH (z : Int → Int) (i : Int) : Prop := i = 1 ∨ i = 2 ∨ (3 ≤ i ∧ i < 3 + z 2) ∨ i = 15 ∨ (16 ≤ i ∧ i < 16 + 4 * z 15 ∧ i % 4 ≠ 3)
def heq (z z' : Int → Int) : Prop := ∀ i, relH z i → z' i = z i
theorem heq_of {z z' : Int → Int} (h : zeq z z') : heq z z' := fun i hi => h i (by unfold relH at hi; unfold rel; omega)
theorem heq_2 {z z' : Int → Int} (h : heq z z') : z' 2 = z 2 := h 2 (by unfold relH; omega)
theorem heq_1 {z z' : Int → Int} (h : heq z z') : z' 1 = z 1 := h 1 (by unfold relH; omega)
theorem heq_15 {z z' : Int → Int} (h : heq z z') : z' 15 = z 15 := h 15 (by unfold relH; omega)
theorem heq_t {z z' : Int → Int} (h : heq z z') {t : Int} (ht : 0 ≤ t ∧ t < z 15) : zk z' t = zk z t ∧ zp z' t = zp z t ∧ zt z' t = zt z t := by
  unfold zk zp zt
  exact ⟨h _ (by unfold relH; omega), h _ (by unfold relH; omega), h _ (by unfold relH; omega)⟩
theorem heq_inT {z z' : Int → Int} (h : heq z z') {t : Int} (ht : 0 ≤ t ∧ t < z 15) : inT z' t ↔ inT z t := by
  obtain ⟨a, b, c⟩ := heq_t h ht
  unfold inT
  rw [a, b, c]
theorem heq_tlay {B : Int} {z z' : Int → Int} (h : heq z z') {t : Int} (ht : 0 ≤ t ∧ t < z 15) : tlay B z' t = tlay B z t := by
  obtain ⟨a, b, c⟩ := heq_t h ht
  unfold tlay ceT chT
  rw [a, b, c]
theorem heq_laid {B : Int} {z z' : Int → Int} (h : heq z z') : laid B z' = laid B z := by
  unfold laid play tslay
  rw [heq_1 h, heq_2 h, heq_15 h]
  rw [runL_congr (f := fun k => (z' (3 + k), (1 : Int))) (g := fun k => (z (3 + k), (1 : Int))) (z 2).toNat 0 (fun j a b => congrArg (fun q => (q, (1 : Int))) (h (3 + j) (by unfold relH; omega)))]
  rw [runL_congr (f := tlay B z') (g := tlay B z) (z 15).toNat 0 (fun j a b => heq_tlay h (by omega))]
theorem heq_pck {z z' : Int → Int} (h : heq z z') : pck z' = pck z := by
  have e : (∃ t, (0 ≤ t ∧ t < z' 15) ∧ ¬ inT z' t) ↔ ∃ t, (0 ≤ t ∧ t < z 15) ∧ ¬ inT z t := by
    rw [heq_15 h]
    constructor
    · rintro ⟨t, a, b⟩
      exact ⟨t, a, fun q => b ((heq_inT h a).2 q)⟩
    · rintro ⟨t, a, b⟩
      exact ⟨t, a, fun q => b ((heq_inT h a).1 q)⟩
  unfold pck
  rw [heq_laid h, heq_1 h, propext e]
theorem heq_mpz {z z' : Int → Int} (h : heq z z') : mpz z' = mpz z := by unfold mpz; rw [heq_laid h]
theorem heq_stz {z z' : Int → Int} (h : heq z z') {c : Int} : stz z' c = stz z c := by
  refine dst_one (stz_dst z' c) ?_
  rw [heq_mpz h, heq_1 h]
  exact stz_dst z c
/-- a pillar more, a table more, a table set -/
def zpil (z : Int → Int) (c : Int) : Int → Int := iu (iu z (3 + z 2) c) 2 (z 2 + 1)
def zrow (z : Int → Int) (k p u : Int) : Int → Int := iu (iu (iu (iu z (16 + 4 * z 15 + 0) k) (16 + 4 * z 15 + 1) p) (16 + 4 * z 15 + 2) u) (16 + 4 * z 15 + 3) 0
def zadd (z : Int → Int) (k p u : Int) : Int → Int := iu (zrow z k p u) 15 (z 15 + 1)
def zset (z : Int → Int) (t p u : Int) : Int → Int := iu (iu z (16 + 4 * t + 1) p) (16 + 4 * t + 2) u
noncomputable def npl (z : Int → Int) (c : Int) : Int := if z 2 = 12 then 1 else pck (zpil z c)
theorem iu_back {F : Int → Int} {i x : Int} : iu (iu F i x) i (F i) = F := by
  funext j
  unfold iu
  by_cases h : j = i
  · rw [if_pos h, h]
  · rw [if_neg h, if_neg h]
theorem iu_iu {F : Int → Int} {i x y : Int} : iu (iu F i x) i y = iu F i y := by
  funext j
  unfold iu
  by_cases h : j = i
  · rw [if_pos h, if_pos h]
  · rw [if_neg h, if_neg h, if_neg h]
theorem iu_cm {F : Int → Int} {i j x y : Int} (hne : i ≠ j) : iu (iu F i x) j y = iu (iu F j y) i x := by
  funext k
  unfold iu
  by_cases h : k = j
  · rw [if_pos h, if_neg (by omega), if_pos h]
  · rw [if_neg h, if_neg h]
theorem wH_door {z : Int → Int} (h : wH z) {c : Int} (hc : cin c) : wH (iu z 1 c) := by
  obtain ⟨h1, h2, h3, h4, h5, h6⟩ := h
  refine ⟨by rw [iu_ne (by omega)]; exact h1, by rw [iu_at rfl]; exact hc, by rw [iu_ne (by omega)]; exact h3, fun k a b => ?_, by rw [iu_ne (by omega)]; exact h5, fun t a b => ?_⟩
  · rw [iu_ne (by omega)] at b
    rw [iu_ne (by omega)]; exact h4 k a b
  · rw [iu_ne (by omega)] at b
    have := h6 t a b
    unfold wT zk zp zt zf at *
    rw [iu_ne (by omega), iu_ne (by omega), iu_ne (by omega), iu_ne (by omega)]
    exact this
theorem wH_pil {z : Int → Int} (h : wH z) {c : Int} (hc : cin c) (hn : z 2 < 12) : wH (zpil z c) := by
  obtain ⟨h1, h2, h3, h4, h5, h6⟩ := h
  unfold zpil
  refine ⟨by rw [iu_ne (by omega), iu_ne (by omega)]; exact h1, by rw [iu_ne (by omega), iu_ne (by omega)]; exact h2, by rw [iu_at rfl]; omega, fun k a b => ?_, by rw [iu_ne (by omega), iu_ne (by omega)]; exact h5, fun t a b => ?_⟩
  · rw [iu_at rfl] at b
    rw [iu_ne (by omega)]
    by_cases e : k = z 2
    · subst e; rw [iu_at rfl]; exact hc
    · rw [iu_ne (by omega)]; exact h4 k a (by omega)
  · rw [iu_ne (by omega), iu_ne (by omega)] at b
    have := h6 t a b
    unfold wT zk zp zt zf at *
    simp only [iu_ne (show (16 + 4 * t + 0) ≠ (2 : Int) by omega), iu_ne (show (16 + 4 * t + 1) ≠ (2 : Int) by omega), iu_ne (show (16 + 4 * t + 2) ≠ (2 : Int) by omega), iu_ne (show (16 + 4 * t + 3) ≠ (2 : Int) by omega), iu_ne (show (16 + 4 * t + 0) ≠ 3 + z 2 by omega), iu_ne (show (16 + 4 * t + 1) ≠ 3 + z 2 by omega), iu_ne (show (16 + 4 * t + 2) ≠ 3 + z 2 by omega), iu_ne (show (16 + 4 * t + 3) ≠ 3 + z 2 by omega)]
    exact this
theorem zrow_ne {z : Int → Int} {k p u i : Int} (h : i < 16 + 4 * z 15 ∨ 16 + 4 * z 15 + 4 ≤ i) : zrow z k p u i = z i := by
  unfold zrow
  rw [iu_ne (by omega), iu_ne (by omega), iu_ne (by omega), iu_ne (by omega)]
theorem zrow_0 {z : Int → Int} {k p u : Int} : zrow z k p u (16 + 4 * z 15 + 0) = k := by
  unfold zrow
  rw [iu_ne (by omega), iu_ne (by omega), iu_ne (by omega), iu_at rfl]
theorem zrow_1 {z : Int → Int} {k p u : Int} : zrow z k p u (16 + 4 * z 15 + 1) = p := by
  unfold zrow
  rw [iu_ne (by omega), iu_ne (by omega), iu_at rfl]
theorem zrow_2 {z : Int → Int} {k p u : Int} : zrow z k p u (16 + 4 * z 15 + 2) = u := by
  unfold zrow
  rw [iu_ne (by omega), iu_at rfl]
theorem zrow_3 {z : Int → Int} {k p u : Int} : zrow z k p u (16 + 4 * z 15 + 3) = 0 := by
  unfold zrow
  rw [iu_at rfl]
theorem wH_add {z : Int → Int} (h : wH z) {k p u : Int} (hk : 0 ≤ k ∧ k ≤ 2) (hp : 0 ≤ p ∧ p < 192) (hu : 0 ≤ u ∧ u ≤ 3) (hn : z 15 ≤ 10) : wH (zadd z k p u) := by
  obtain ⟨h1, h2, h3, h4, h5, h6⟩ := h
  unfold zadd
  refine ⟨by rw [iu_ne (by omega), zrow_ne (by omega)]; exact h1, by rw [iu_ne (by omega), zrow_ne (by omega)]; exact h2, by rw [iu_ne (by omega), zrow_ne (by omega)]; exact h3, fun k a b => ?_, by rw [iu_at rfl]; omega, fun t a b => ?_⟩
  · rw [iu_ne (by omega), zrow_ne (by omega)] at b
    rw [iu_ne (by omega), zrow_ne (by omega)]; exact h4 k a (by omega)
  · rw [iu_at rfl] at b
    unfold wT zk zp zt zf
    rw [iu_ne (by omega), iu_ne (by omega), iu_ne (by omega), iu_ne (by omega)]
    by_cases e : t = z 15
    · subst e
      rw [zrow_0, zrow_1, zrow_2, zrow_3]
      omega
    · rw [zrow_ne (by omega), zrow_ne (by omega), zrow_ne (by omega), zrow_ne (by omega)]
      exact h6 t a (by omega)
theorem wH_set {z : Int → Int} (h : wH z) {t p u : Int} (ht : 0 ≤ t ∧ t < z 15) (hp : 0 ≤ p ∧ p < 192) (hu : 0 ≤ u ∧ u ≤ 3) : wH (zset z t p u) := by
  obtain ⟨h1, h2, h3, h4, h5, h6⟩ := h
  unfold zset
  refine ⟨by rw [iu_ne (by omega), iu_ne (by omega)]; exact h1, by rw [iu_ne (by omega), iu_ne (by omega)]; exact h2, by rw [iu_ne (by omega), iu_ne (by omega)]; exact h3, fun k a b => ?_, by rw [iu_ne (by omega), iu_ne (by omega)]; exact h5, fun s a b => ?_⟩
  · rw [iu_ne (by omega), iu_ne (by omega)] at b
    rw [iu_ne (by omega), iu_ne (by omega)]; exact h4 k a b
  · rw [iu_ne (by omega), iu_ne (by omega)] at b
    have := h6 s a b
    unfold wT zk zp zt zf at *
    rw [iu_ne (i := 16 + 4 * t + 2) (j := 16 + 4 * s + 0) (by omega), iu_ne (i := 16 + 4 * t + 1) (j := 16 + 4 * s + 0) (by omega), iu_ne (i := 16 + 4 * t + 2) (j := 16 + 4 * s + 1) (by omega), iu_ne (i := 16 + 4 * t + 2) (j := 16 + 4 * s + 3) (by omega), iu_ne (i := 16 + 4 * t + 1) (j := 16 + 4 * s + 3) (by omega)]
    by_cases e : s = t
    · subst e
      rw [iu_at rfl, iu_at rfl]
      omega
    · rw [iu_ne (by omega), iu_ne (by omega), iu_ne (by omega)]
      exact this
