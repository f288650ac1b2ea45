/-! ===== rows that agree where it matters ===== -/
theorem zeq_0 {z z' : Int → Int} (h : zeq z z') : z' 0 = z 0 ∧ z' 1 = z 1 ∧ z' 2 = z 2 ∧ z' 15 = z 15 ∧ z' 60 = z 60 := ⟨h 0 (by unfold rel; omega), h 1 (by unfold rel; omega), h 2 (by unfold rel; omega), h 15 (by unfold rel; omega), h 60 (by unfold rel; omega)⟩
theorem zeq_t {z z' : Int → Int} (h : zeq z z') {t : Int} (ht : 0 ≤ t ∧ t < z 15) : zk z' t = zk z t ∧ zp z' t = zp z t ∧ zt z' t = zt z t ∧ zf z' t = zf z t := by
  unfold zk zp zt zf
  exact ⟨h _ (by unfold rel; omega), h _ (by unfold rel; omega), h _ (by unfold rel; omega), h _ (by unfold rel; omega)⟩
theorem zeq_g {z z' : Int → Int} (h : zeq z z') {g : Int} (hg : 0 ≤ g ∧ g < z 60) : gh z' g = gh z g ∧ ga z' g = ga z g ∧ gc z' g = gc z g ∧ gl z' g = gl z g ∧ ∀ k, 0 ≤ k → k < 14 → gn z' g k = gn z g k := by
  unfold gh ga gc gl gn
  exact ⟨h _ (by unfold rel; omega), h _ (by unfold rel; omega), h _ (by unfold rel; omega), h _ (by unfold rel; omega), fun k a b => h _ (by unfold rel; omega)⟩
theorem zeq_p {z z' : Int → Int} (h : zeq z z') {g : Int} (hg : 0 ≤ g ∧ g < z 60) : z' (601 + g) = z (601 + g) := h _ (by unfold rel; omega)
theorem wH_zeq {z z' : Int → Int} (h : zeq z z') (hw : wH z) : wH z' := by
  obtain ⟨e0, e1, e2, e15, e60⟩ := zeq_0 h
  obtain ⟨a1, a2, a3, a4, a5, a6⟩ := hw
  refine ⟨by rw [e0]; exact a1, by rw [e1]; exact a2, by rw [e2]; exact a3, fun k a b => ?_, by rw [e15]; exact a5, fun t a b => ?_⟩
  · rw [e2] at b
    rw [h (3 + k) (by unfold rel; omega)]
    exact a4 k a b
  · rw [e15] at b
    obtain ⟨f1, f2, f3, f4⟩ := zeq_t h ⟨a, b⟩
    unfold wT
    rw [f1, f2, f3, f4]
    exact a6 t a b
theorem wZ_zeq {z z' : Int → Int} (h : zeq z z') (hz : wZ z) : wZ z' := by
  obtain ⟨e0, e1, e2, e15, e60⟩ := zeq_0 h
  refine ⟨wH_zeq h hz.1, by rw [e15]; exact hz.2.1, by rw [e60]; exact wZ_60 hz, fun g a b => ?_, fun g k a b c d => ?_, fun g a b => ?_, by rw [heq_pck (heq_of h)]; exact hz.2.2.2.2.2.2⟩
  · rw [e60] at b
    obtain ⟨f1, f2, f3, f4, f5⟩ := zeq_g h ⟨a, b⟩
    refine wG_congr (wZ_g hz ⟨a, b⟩) f1 f4 f5 ?_
    rw [f2, f3, e15]
    rcases (wZ_g hz ⟨a, b⟩).2.1 with q | q
    · exact Or.inl q
    · right
      rw [(zeq_t h q.1).1]; exact q
  · rw [e60] at c
    obtain ⟨-, f2, f3, -⟩ := zeq_g h (g := g) ⟨a, by omega⟩
    obtain ⟨-, k2, k3, -⟩ := zeq_g h (g := k) ⟨by omega, c⟩
    unfold sits at d
    rw [f2] at d
    rw [f2, f3, k2, k3]
    exact hz.2.2.2.2.1 g k a b c d
  · rw [e60] at b ⊢
    rw [zeq_p h ⟨a, b⟩]
    obtain ⟨q1, q2⟩ := hz.2.2.2.2.2.1 g a b
    refine ⟨q1, fun x u v w => ?_⟩
    obtain ⟨r1, r2, r3⟩ := q2 x u v w
    exact ⟨r1, r2, by rw [zeq_p h ⟨u, r1⟩]; exact r3⟩
theorem zeq_zadd {z z' : Int → Int} (h : zeq z z') {k p u : Int} (h15 : 0 ≤ z 15 ∧ z 15 ≤ 10) (h2 : 0 ≤ z 2 ∧ z 2 ≤ 12) : zeq (zadd z k p u) (zadd z' k p u) := by
  obtain ⟨e0, e1, e2, e15, e60⟩ := zeq_0 h
  intro i hi
  have q15 : zadd z k p u 15 = z 15 + 1 := iu_at rfl
  have q2 : zadd z k p u 2 = z 2 := by unfold zadd; rw [iu_ne (by omega), zrow_ne (by omega)]
  have q60 : zadd z k p u 60 = z 60 := by unfold zadd; rw [iu_ne (by omega), zrow_ne (by omega)]
  unfold rel at hi
  rw [q15, q2, q60] at hi
  unfold zadd
  rw [e15]
  by_cases e : i = 15
  · rw [iu_at e, iu_at e]
  · rw [iu_ne e, iu_ne e]
    unfold zrow
    rw [e15]
    by_cases a3 : i = 16 + 4 * z 15 + 3
    · rw [iu_at a3, iu_at a3]
    · rw [iu_ne a3, iu_ne a3]
      by_cases a2 : i = 16 + 4 * z 15 + 2
      · rw [iu_at a2, iu_at a2]
      · rw [iu_ne a2, iu_ne a2]
        by_cases a1 : i = 16 + 4 * z 15 + 1
        · rw [iu_at a1, iu_at a1]
        · rw [iu_ne a1, iu_ne a1]
          by_cases a0 : i = 16 + 4 * z 15 + 0
          · rw [iu_at a0, iu_at a0]
          · rw [iu_ne a0, iu_ne a0]
            exact h i (by unfold rel; omega)
theorem zeq_plat {z z' : Int → Int} (h : zeq z z') {c : Int} : plat z' c = plat z c := by
  obtain ⟨e0, e1, e2, e15, e60⟩ := zeq_0 h
  unfold plat
  rw [e2]
  exact foldI_congr _ _ _ (fun b j u v => by rw [h (3 + j) (by unfold rel; omega)])
theorem zeq_ztp {z z' : Int → Int} (h : zeq z z') {c : Int} (h2 : 0 ≤ z 2 ∧ z 2 ≤ 12) (hn : plat z c = -1 → z 2 < 12) : zeq (ztp z c) (ztp z' c) := by
  obtain ⟨e0, e1, e2, e15, e60⟩ := zeq_0 h
  have hp := plat_rg h2.1 c
  intro i hi
  have q60 : ztp z c 60 = z 60 := ztp_hi h2 (by omega)
  have q15 : ztp z c 15 = z 15 := by
    by_cases q : plat z c = -1
    · exact ztp_15 (Or.inl ⟨h2.1, hn q⟩)
    · exact ztp_15 (Or.inr ⟨q, h2⟩)
  unfold rel at hi
  rw [q15, q60] at hi
  unfold ztp at hi ⊢
  rw [zeq_plat h]
  by_cases q : plat z c = -1
  · rw [if_pos q] at hi
    rw [if_pos q, if_pos q]
    unfold zpil at hi ⊢
    rw [e2]
    rw [iu_at (i := 2) (j := 2) rfl] at hi
    by_cases a : i = 2
    · rw [iu_at a, iu_at a]
    · rw [iu_ne a, iu_ne a]
      by_cases b : i = 3 + z 2
      · rw [iu_at b, iu_at b]
      · rw [iu_ne b, iu_ne b]
        exact h i (by unfold rel; omega)
  · rw [if_neg q] at hi
    rw [if_neg q, if_neg q]
    rw [iu_ne (i := 3 + plat z c) (j := 2) (by omega), iu_at (i := 2) (j := 2) rfl] at hi
    by_cases a : i = 3 + plat z c
    · rw [iu_at a, iu_at a, e2]
      exact h _ (by unfold rel; omega)
    · rw [iu_ne a, iu_ne a, e2]
      by_cases b : i = 2
      · rw [iu_at b, iu_at b]
      · rw [iu_ne b, iu_ne b]
        exact h i (by unfold rel; omega)
theorem zset_p {z : Int → Int} {t p : Int} : zset z t p (zt z t) = iu z (16 + 4 * t + 1) p := by
  funext j
  unfold zset zt iu
  by_cases h : j = 16 + 4 * t + 2
  · rw [if_pos h, if_neg (by omega), h]
  · rw [if_neg h]
theorem zset_u {z : Int → Int} {t u : Int} : zset z t (zp z t) u = iu z (16 + 4 * t + 2) u := by
  funext j
  unfold zset zp iu
  by_cases h : j = 16 + 4 * t + 2
  · rw [if_pos h, if_pos h]
  · rw [if_neg h, if_neg h]
    by_cases h2 : j = 16 + 4 * t + 1
    · rw [if_pos h2, h2]
    · rw [if_neg h2]
/-- an order's step -/
noncomputable def dgo (z : Int → Int) (c f1 f2 f3 f4 : Int) : Prop :=
  if c = 116 then z 15 ≠ 10 ∧ pck (zadd z f1 (16 * f3 + f2) f4) = 0
  else if c = 109 then f1 < z 15 ∧ pck (zset z f1 (16 * f3 + f2) (zt z f1)) = 0
  else if c = 114 then f1 < z 15 ∧ pck (zset z f1 (zp z f1) f2) = 0
  else if c = 112 then (plat z (16 * f2 + f1) = -1 → npl z (16 * f2 + f1) = 0)
  else if c = 115 then f1 < z 60 ∧ (f2 < z 15 ∧ f3 < chN (zk z f2)) ∧ nse z f1 f2 f3 = 0
  else if c = 117 then f1 < z 60 ∧ sits z f1
  else f1 < z 60 ∧ f2 < z 60 ∧ nsw z f1 f2 = 0
noncomputable def dzz (z : Int → Int) (c f1 f2 f3 f4 : Int) : Int → Int :=
  if c = 116 then zadd z f1 (16 * f3 + f2) f4
  else if c = 109 then zset z f1 (16 * f3 + f2) (zt z f1)
  else if c = 114 then zset z f1 (zp z f1) f2
  else if c = 112 then ztp z (16 * f2 + f1)
  else if c = 115 then zput z f1 f2 f3
  else if c = 117 then zput z f1 (-1) (-1)
  else zswp z f1 f2
/-- an order's numbers -/
def frg (c f1 f2 f3 f4 : Int) : Prop := pK c ∧ (0 ≤ f1 ∧ f1 ≤ pHi c) ∧ (0 ≤ f2 ∧ (c = 116 ∨ c = 109 → f2 ≤ 15) ∧ (c = 114 → f2 ≤ 3) ∧ (c = 112 → f2 ≤ 11) ∧ (c = 115 → f2 ≤ 9) ∧ f2 ≤ 29) ∧ (0 ≤ f3 ∧ (c = 116 ∨ c = 109 → f3 ≤ 11) ∧ (c = 115 → f3 ≤ 7)) ∧ (0 ≤ f4 ∧ f4 ≤ 3)
theorem pO_rg {T : Int → Int} {l a : Int} (hk : pK (pH T l a)) : frg (pH T l a) (pO T l a).2.1 (pO T l a).2.2.1 (pO T l a).2.2.2.1 (pO T l a).2.2.2.2 := by
  have hhi : 0 ≤ pHi (pH T l a) ∧ pHi (pH T l a) ≤ 29 := by unfold pHi; split <;> (try split) <;> (try split) <;> omega
  have n1 := pN_rg (T := T) (l := l) (H := pHi (pH T l a)) (s := pS0 T l a) hhi
  have nn := fun (c H : Int) (s : Int × Int) (h : 0 ≤ H ∧ H ≤ 29) => pN_rg (T := T) (l := l) (H := H) (s := pT T l c s) h
  have hk2 := hk
  unfold frg
  refine ⟨hk, ?_⟩
  unfold pK at hk2
  unfold pO
  simp only
  generalize hc : pH T l a = c at *
  split
  · rename_i e
    refine ⟨n1, ?_, ?_, ?_⟩
    · have := nn 64 15 (pN T l (pHi c) (pS0 T l a)).1 (by omega)
      unfold pTN at *; dsimp only at *; omega
    · have := nn 44 11 (pTN T l 64 15 (pN T l (pHi c) (pS0 T l a)).1).1 (by omega)
      unfold pTN at *; dsimp only at *; omega
    · have := nn 58 3 (pTN T l 44 11 (pTN T l 64 15 (pN T l (pHi c) (pS0 T l a)).1).1).1 (by omega)
      unfold pTN at *; dsimp only at *; omega
  · split
    · rename_i e
      refine ⟨n1, ?_, ?_, by simp only; omega⟩
      · have := nn 64 15 (pN T l (pHi c) (pS0 T l a)).1 (by omega)
        unfold pTN at *; dsimp only at *; omega
      · have := nn 44 11 (pTN T l 64 15 (pN T l (pHi c) (pS0 T l a)).1).1 (by omega)
        unfold pTN at *; dsimp only at *; omega
    · split
      · rename_i e
        refine ⟨n1, ?_, by simp only; omega, by simp only; omega⟩
        have := nn 58 3 (pN T l (pHi c) (pS0 T l a)).1 (by omega)
        unfold pTN at *; dsimp only at *; omega
      · split
        · rename_i e
          refine ⟨n1, ?_, by simp only; omega, by simp only; omega⟩
          have := nn 44 11 (pN T l (pHi c) (pS0 T l a)).1 (by omega)
          unfold pTN at *; dsimp only at *; omega
        · split
          · rename_i e
            refine ⟨n1, ?_, ?_, by simp only; omega⟩
            · have := nn 64 9 (pN T l (pHi c) (pS0 T l a)).1 (by omega)
              unfold pTN at *; dsimp only at *; omega
            · have := nn 46 7 (pTN T l 64 9 (pN T l (pHi c) (pS0 T l a)).1).1 (by omega)
              unfold pTN at *; dsimp only at *; omega
          · split
            · rename_i e
              refine ⟨n1, ?_, by simp only; omega, by simp only; omega⟩
              have := nn 44 29 (pN T l (pHi c) (pS0 T l a)).1 (by omega)
              unfold pTN at *; dsimp only at *; omega
            · exact ⟨n1, by simp only; omega, by simp only; omega, by simp only; omega⟩
