/-! ===== the model: an order of a text ===== -/
/-- a memory with the numbers of an order -/
def vst (M : Mm) (v : Int → Int) : Mm := fun b j => if b = 0 ∧ 13 ≤ j ∧ j ≤ 17 then v j else M b j
theorem vst_ob {M : Mm} {v : Int → Int} {b : Nat} (h : b ≠ 0) : vst M v b = M b := by
  funext j
  exact if_neg (fun q => h q.1)
theorem vst_lo {M : Mm} {v : Int → Int} {j : Int} {b : Nat} (h : j < 13) : vst M v b j = M b j := if_neg (fun q => by omega)
theorem vst_at {M : Mm} {v : Int → Int} {j : Int} (h : 13 ≤ j ∧ j ≤ 17) : vst M v 0 j = v j := if_pos ⟨rfl, h⟩
theorem vst_mu {M : Mm} {v : Int → Int} {j x : Int} (h : 13 ≤ j ∧ j ≤ 17) : mu (vst M v) 0 j x = vst M (iu v j x) := by
  funext b k
  by_cases h1 : b = 0 ∧ k = j
  · obtain ⟨rfl, rfl⟩ := h1
    rw [mu_eq, vst_at h, iu_at rfl]
  · rw [mu_no h1]
    unfold vst
    by_cases h2 : b = 0 ∧ 13 ≤ k ∧ k ≤ 17
    · rw [if_pos h2, if_pos h2, iu_ne (by omega)]
    · rw [if_neg h2, if_neg h2]
theorem vst_id {M : Mm} : vst M (M 0) = M := by
  funext b j
  unfold vst
  by_cases h : b = 0 ∧ 13 ≤ j ∧ j ≤ 17
  · rw [if_pos h, h.1]
  · rw [if_neg h]
theorem X7_here_p {β : Type} {K : Int32 → HM β} {g : Nat → Nat} {h : Nat → Option hC} {n w m : Nat} {M : Mm} {v : Int → Int} {a b : Int} (ht : txt (M 6) (M 0 7)) (hs : sok (M 0 7) (a, b)) : mb (mcall0 (fX7_here g (some m))) K (md m (mst (vst M v) (a, b)) h, n, w) = K (iv (pH (M 6) (M 0 7) a)) (md m (mst (vst M v) (a, b)) h, n, w) := by
  have e := X7_here_c (g := g) (h := h) (n := n) (w := w) (m := m) (K := K) (M := vst M v) (s := (a, b)) (by rw [vst_ob (by decide), vst_lo (by omega)]; exact ht) (by rw [vst_lo (by omega)]; exact hs)
  rw [vst_ob (by decide), vst_lo (by omega)] at e
  exact e
theorem X7_take_p {β : Type} {K : Unit → HM β} {g : Nat → Nat} {h : Nat → Option hC} {n w m : Nat} {M : Mm} {v : Int → Int} {s : Int × Int} {c : Int} (ht : txt (M 6) (M 0 7)) (hs : sok (M 0 7) s) (hc : 1 ≤ c ∧ c ≤ 126) : mb (mcall0 (fX7_take g (some m) (iv c))) K (md m (mst (vst M v) s) h, n, w) = K () (md m (mst (vst M v) (pT (M 6) (M 0 7) c s)) h, n, w) := by
  have e := X7_take_c (g := g) (h := h) (n := n) (w := w) (m := m) (K := K) (M := vst M v) (s := s) (by rw [vst_ob (by decide), vst_lo (by omega)]; exact ht) (by rw [vst_lo (by omega)]; exact hs) hc
  rw [vst_ob (by decide), vst_lo (by omega)] at e
  exact e
theorem X7_number_p {β : Type} {K : Int32 → HM β} {g : Nat → Nat} {h : Nat → Option hC} {n w m : Nat} {M : Mm} {v : Int → Int} {s : Int × Int} {H : Int} (ht : txt (M 6) (M 0 7)) (hs : sok (M 0 7) s) (hH : 0 ≤ H ∧ H ≤ 29) : mb (mcall0 (fX7_number g (some m) (iv H))) K (md m (mst (vst M v) s) h, n, w) = K (iv (pN (M 6) (M 0 7) H s).2) (md m (mst (vst M v) (pN (M 6) (M 0 7) H s).1) h, n, w) := by
  have e := X7_number_c (g := g) (h := h) (n := n) (w := w) (m := m) (K := K) (M := vst M v) (s := s) (by rw [vst_ob (by decide), vst_lo (by omega)]; exact ht) (by rw [vst_lo (by omega)]; exact hs) hH
  rw [vst_ob (by decide), vst_lo (by omega)] at e
  exact e
theorem p_oI7 {β : Type} {h : Nat → Option hC} {n w m : Nat} {M : Mm} {v : Int → Int} {a b : Int} {K : Int32 → HM β} : mb (oI 12 7 (some m)) K (md m (mst (vst M v) (a, b)) h, n, w) = K (iv (M 0 7)) (md m (mst (vst M v) (a, b)) h, n, w) := by
  rw [m_oI7, mst_j (by omega), vst_lo (by omega)]
theorem p_oI11 {β : Type} {h : Nat → Option hC} {n w m : Nat} {M : Mm} {v : Int → Int} {a b : Int} {K : Int32 → HM β} : mb (oI 12 11 (some m)) K (md m (mst (vst M v) (a, b)) h, n, w) = K (iv a) (md m (mst (vst M v) (a, b)) h, n, w) := by
  rw [m_oI11, mst_11]
theorem p_oI12 {β : Type} {h : Nat → Option hC} {n w m : Nat} {M : Mm} {v : Int → Int} {a b : Int} {K : Int32 → HM β} : mb (oI 12 12 (some m)) K (md m (mst (vst M v) (a, b)) h, n, w) = K (iv b) (md m (mst (vst M v) (a, b)) h, n, w) := by
  rw [m_oI12, mst_12]
theorem p_pI11 {β : Type} {h : Nat → Option hC} {n w m : Nat} {M : Mm} {v : Int → Int} {a b : Int} {K : Unit → HM β} {x : Int} : mb (pI 12 11 (some m) (iv x)) K (md m (mst (vst M v) (a, b)) h, n, w) = K () (md m (mst (vst M v) (x, b)) h, n, w) := by
  rw [m_pI11, mst_m11]
theorem p_pI11a {β : Type} {h : Nat → Option hC} {n w m : Nat} {M : Mm} {v : Int → Int} {a b : Int} {K : Unit → HM β} {x y : Int} : mb (pI 12 11 (some m) (iv x + iv y)) K (md m (mst (vst M v) (a, b)) h, n, w) = K () (md m (mst (vst M v) (x + y, b)) h, n, w) := by
  rw [iv_add, m_pI11, mst_m11]
theorem p_pZ12 {β : Type} {h : Nat → Option hC} {n w m : Nat} {M : Mm} {v : Int → Int} {a b : Int} {K : Unit → HM β} {x : Int} (hx : x = 0 ∨ x = 1) : mb (pZ 12 12 (some m) (iv x)) K (md m (mst (vst M v) (a, b)) h, n, w) = K () (md m (mst (vst M v) (a, x)) h, n, w) := by
  rw [m_pZ12 hx, mst_m12]
theorem p_oI13 {β : Type} {h : Nat → Option hC} {n w m : Nat} {M : Mm} {v : Int → Int} {a b : Int} {K : Int32 → HM β} : mb (oI 12 13 (some m)) K (md m (mst (vst M v) (a, b)) h, n, w) = K (iv (v 13)) (md m (mst (vst M v) (a, b)) h, n, w) := by
  rw [m_oI13, mst_j (by omega), vst_at (by omega)]
theorem p_pI13 {β : Type} {h : Nat → Option hC} {n w m : Nat} {M : Mm} {v : Int → Int} {a b : Int} {K : Unit → HM β} {x : Int} : mb (pI 12 13 (some m) (iv x)) K (md m (mst (vst M v) (a, b)) h, n, w) = K () (md m (mst (vst M (iu v 13 x)) (a, b)) h, n, w) := by
  rw [m_pI13, mst_mj (by omega), vst_mu (by omega)]
theorem p_oI14 {β : Type} {h : Nat → Option hC} {n w m : Nat} {M : Mm} {v : Int → Int} {a b : Int} {K : Int32 → HM β} : mb (oI 12 14 (some m)) K (md m (mst (vst M v) (a, b)) h, n, w) = K (iv (v 14)) (md m (mst (vst M v) (a, b)) h, n, w) := by
  rw [m_oI14, mst_j (by omega), vst_at (by omega)]
theorem p_pI14 {β : Type} {h : Nat → Option hC} {n w m : Nat} {M : Mm} {v : Int → Int} {a b : Int} {K : Unit → HM β} {x : Int} : mb (pI 12 14 (some m) (iv x)) K (md m (mst (vst M v) (a, b)) h, n, w) = K () (md m (mst (vst M (iu v 14 x)) (a, b)) h, n, w) := by
  rw [m_pI14, mst_mj (by omega), vst_mu (by omega)]
theorem p_oI15 {β : Type} {h : Nat → Option hC} {n w m : Nat} {M : Mm} {v : Int → Int} {a b : Int} {K : Int32 → HM β} : mb (oI 12 15 (some m)) K (md m (mst (vst M v) (a, b)) h, n, w) = K (iv (v 15)) (md m (mst (vst M v) (a, b)) h, n, w) := by
  rw [m_oI15, mst_j (by omega), vst_at (by omega)]
theorem p_pI15 {β : Type} {h : Nat → Option hC} {n w m : Nat} {M : Mm} {v : Int → Int} {a b : Int} {K : Unit → HM β} {x : Int} : mb (pI 12 15 (some m) (iv x)) K (md m (mst (vst M v) (a, b)) h, n, w) = K () (md m (mst (vst M (iu v 15 x)) (a, b)) h, n, w) := by
  rw [m_pI15, mst_mj (by omega), vst_mu (by omega)]
theorem p_oI16 {β : Type} {h : Nat → Option hC} {n w m : Nat} {M : Mm} {v : Int → Int} {a b : Int} {K : Int32 → HM β} : mb (oI 12 16 (some m)) K (md m (mst (vst M v) (a, b)) h, n, w) = K (iv (v 16)) (md m (mst (vst M v) (a, b)) h, n, w) := by
  rw [m_oI16, mst_j (by omega), vst_at (by omega)]
theorem p_pI16 {β : Type} {h : Nat → Option hC} {n w m : Nat} {M : Mm} {v : Int → Int} {a b : Int} {K : Unit → HM β} {x : Int} : mb (pI 12 16 (some m) (iv x)) K (md m (mst (vst M v) (a, b)) h, n, w) = K () (md m (mst (vst M (iu v 16 x)) (a, b)) h, n, w) := by
  rw [m_pI16, mst_mj (by omega), vst_mu (by omega)]
theorem p_oI17 {β : Type} {h : Nat → Option hC} {n w m : Nat} {M : Mm} {v : Int → Int} {a b : Int} {K : Int32 → HM β} : mb (oI 12 17 (some m)) K (md m (mst (vst M v) (a, b)) h, n, w) = K (iv (v 17)) (md m (mst (vst M v) (a, b)) h, n, w) := by
  rw [m_oI17, mst_j (by omega), vst_at (by omega)]
theorem p_pI17 {β : Type} {h : Nat → Option hC} {n w m : Nat} {M : Mm} {v : Int → Int} {a b : Int} {K : Unit → HM β} {x : Int} : mb (pI 12 17 (some m) (iv x)) K (md m (mst (vst M v) (a, b)) h, n, w) = K () (md m (mst (vst M (iu v 17 x)) (a, b)) h, n, w) := by
  rw [m_pI17, mst_mj (by omega), vst_mu (by omega)]
theorem q_oI13 {β : Type} {h : Nat → Option hC} {n w m : Nat} {M : Mm} {v : Int → Int} {s : Int × Int} {K : Int32 → HM β} : mb (oI 12 13 (some m)) K (md m (mst (vst M v) s) h, n, w) = K (iv (v 13)) (md m (mst (vst M v) s) h, n, w) := by rw [m_oI13, mst_j (by omega), vst_at (by omega)]
theorem q_pI13 {β : Type} {h : Nat → Option hC} {n w m : Nat} {M : Mm} {v : Int → Int} {s : Int × Int} {K : Unit → HM β} {x : Int} : mb (pI 12 13 (some m) (iv x)) K (md m (mst (vst M v) s) h, n, w) = K () (md m (mst (vst M (iu v 13 x)) s) h, n, w) := by rw [m_pI13, mst_mj (by omega), vst_mu (by omega)]
theorem q_oI14 {β : Type} {h : Nat → Option hC} {n w m : Nat} {M : Mm} {v : Int → Int} {s : Int × Int} {K : Int32 → HM β} : mb (oI 12 14 (some m)) K (md m (mst (vst M v) s) h, n, w) = K (iv (v 14)) (md m (mst (vst M v) s) h, n, w) := by rw [m_oI14, mst_j (by omega), vst_at (by omega)]
theorem q_pI14 {β : Type} {h : Nat → Option hC} {n w m : Nat} {M : Mm} {v : Int → Int} {s : Int × Int} {K : Unit → HM β} {x : Int} : mb (pI 12 14 (some m) (iv x)) K (md m (mst (vst M v) s) h, n, w) = K () (md m (mst (vst M (iu v 14 x)) s) h, n, w) := by rw [m_pI14, mst_mj (by omega), vst_mu (by omega)]
theorem q_oI15 {β : Type} {h : Nat → Option hC} {n w m : Nat} {M : Mm} {v : Int → Int} {s : Int × Int} {K : Int32 → HM β} : mb (oI 12 15 (some m)) K (md m (mst (vst M v) s) h, n, w) = K (iv (v 15)) (md m (mst (vst M v) s) h, n, w) := by rw [m_oI15, mst_j (by omega), vst_at (by omega)]
theorem q_pI15 {β : Type} {h : Nat → Option hC} {n w m : Nat} {M : Mm} {v : Int → Int} {s : Int × Int} {K : Unit → HM β} {x : Int} : mb (pI 12 15 (some m) (iv x)) K (md m (mst (vst M v) s) h, n, w) = K () (md m (mst (vst M (iu v 15 x)) s) h, n, w) := by rw [m_pI15, mst_mj (by omega), vst_mu (by omega)]
theorem q_oI16 {β : Type} {h : Nat → Option hC} {n w m : Nat} {M : Mm} {v : Int → Int} {s : Int × Int} {K : Int32 → HM β} : mb (oI 12 16 (some m)) K (md m (mst (vst M v) s) h, n, w) = K (iv (v 16)) (md m (mst (vst M v) s) h, n, w) := by rw [m_oI16, mst_j (by omega), vst_at (by omega)]
theorem q_pI16 {β : Type} {h : Nat → Option hC} {n w m : Nat} {M : Mm} {v : Int → Int} {s : Int × Int} {K : Unit → HM β} {x : Int} : mb (pI 12 16 (some m) (iv x)) K (md m (mst (vst M v) s) h, n, w) = K () (md m (mst (vst M (iu v 16 x)) s) h, n, w) := by rw [m_pI16, mst_mj (by omega), vst_mu (by omega)]
theorem q_oI17 {β : Type} {h : Nat → Option hC} {n w m : Nat} {M : Mm} {v : Int → Int} {s : Int × Int} {K : Int32 → HM β} : mb (oI 12 17 (some m)) K (md m (mst (vst M v) s) h, n, w) = K (iv (v 17)) (md m (mst (vst M v) s) h, n, w) := by rw [m_oI17, mst_j (by omega), vst_at (by omega)]
theorem q_pI17 {β : Type} {h : Nat → Option hC} {n w m : Nat} {M : Mm} {v : Int → Int} {s : Int × Int} {K : Unit → HM β} {x : Int} : mb (pI 12 17 (some m) (iv x)) K (md m (mst (vst M v) s) h, n, w) = K () (md m (mst (vst M (iu v 17 x)) s) h, n, w) := by rw [m_pI17, mst_mj (by omega), vst_mu (by omega)]
theorem X7_order_t {g : Nat → Nat} {h : Nat → Option hC} {n w m : Nat} {M : Mm} {a b : Int} (ht : txt (M 6) (M 0 7)) (hs : sok (M 0 7) (a, b)) (hk : pH (M 6) (M 0 7) a = 116) : fX7_order g (some m) (md m (mst M (a, b)) h, n, w) = some ((), (md m (mst (vst M (iu (iu (iu (iu (iu (M 0) 13 (pH (M 6) (M 0 7) a)) 14 (pN (M 6) (M 0 7) 2 (a + 1, 0)).2) 15 (pTN (M 6) (M 0 7) 64 15 (pN (M 6) (M 0 7) 2 (a + 1, 0)).1).2) 16 (pTN (M 6) (M 0 7) 44 11 (pTN (M 6) (M 0 7) 64 15 (pN (M 6) (M 0 7) 2 (a + 1, 0)).1).1).2) 17 (pTN (M 6) (M 0 7) 58 3 (pTN (M 6) (M 0 7) 44 11 (pTN (M 6) (M 0 7) 64 15 (pN (M 6) (M 0 7) 2 (a + 1, 0)).1).1).1).2)) (pTN (M 6) (M 0 7) 58 3 (pTN (M 6) (M 0 7) 44 11 (pTN (M 6) (M 0 7) 64 15 (pN (M 6) (M 0 7) 2 (a + 1, 0)).1).1).1).1) h, n, w)) := by
  have hl : a < M 0 7 := by
    have q := hk
    unfold pH at q
    by_cases hl : a < M 0 7
    · exact hl
    · rw [if_neg hl] at q; omega
  have ok0 : sok (M 0 7) (a + 1, 0) := ⟨by have := hs.1; simp only at *; omega, Or.inl rfl⟩
  have ok1 := pN_ok (T := M 6) (H := 2) ok0
  have ok2 := pT_ok (T := M 6) (c := 64) ok1 (by decide)
  have ok3 := pN_ok (T := M 6) (H := 15) ok2
  have ok4 := pT_ok (T := M 6) (c := 44) ok3 (by decide)
  have ok5 := pN_ok (T := M 6) (H := 11) ok4
  have ok6 := pT_ok (T := M 6) (c := 58) ok5 (by decide)
  have ok7 := pN_ok (T := M 6) (H := 3) ok6
  rw [show mst M (a, b) = mst (vst M (M 0)) (a, b) from congrArg (fun q => mst q (a, b)) vst_id.symm]
  unfold pTN
  simp only [fX7_order, iv_lit, iv_neg, iv_add, iv_mul, iv_sub, Int.reduceNeg]
  simp (config := {decide := true}) only [↓reduceIte, if_true, if_false, ↓mjn_b, ↓mjn0_b, e_mret, ↓e_bret, ↓m_mon, ↓p_oI7, ↓p_oI11, ↓p_oI12, ↓p_pI11, ↓p_pI11a, ↓p_pZ12, ↓q_oI13, ↓q_pI13, ↓q_oI14, ↓q_pI14, ↓q_oI15, ↓q_pI15, ↓q_oI16, ↓q_pI16, ↓q_oI17, ↓q_pI17, ↓X7_here_p ht hs, ↓X7_number_p ht ok0 (show 0 ≤ (2 : Int) ∧ (2 : Int) ≤ 29 by decide), ↓X7_take_p ht ok1 (show 1 ≤ (64 : Int) ∧ (64 : Int) ≤ 126 by decide), ↓X7_number_p ht ok2 (show 0 ≤ (15 : Int) ∧ (15 : Int) ≤ 29 by decide), ↓X7_take_p ht ok3 (show 1 ≤ (44 : Int) ∧ (44 : Int) ≤ 126 by decide), ↓X7_number_p ht ok4 (show 0 ≤ (11 : Int) ∧ (11 : Int) ≤ 29 by decide), ↓X7_take_p ht ok5 (show 1 ≤ (58 : Int) ∧ (58 : Int) ≤ 126 by decide), ↓X7_number_p ht ok6 (show 0 ≤ (3 : Int) ∧ (3 : Int) ≤ 29 by decide), iu_at, iu_ne, Int.add_zero, hk]
theorem X7_order_m {g : Nat → Nat} {h : Nat → Option hC} {n w m : Nat} {M : Mm} {a b : Int} (ht : txt (M 6) (M 0 7)) (hs : sok (M 0 7) (a, b)) (hk : pH (M 6) (M 0 7) a = 109) : fX7_order g (some m) (md m (mst M (a, b)) h, n, w) = some ((), (md m (mst (vst M (iu (iu (iu (iu (M 0) 13 (pH (M 6) (M 0 7) a)) 14 (pN (M 6) (M 0 7) 9 (a + 1, 0)).2) 15 (pTN (M 6) (M 0 7) 64 15 (pN (M 6) (M 0 7) 9 (a + 1, 0)).1).2) 16 (pTN (M 6) (M 0 7) 44 11 (pTN (M 6) (M 0 7) 64 15 (pN (M 6) (M 0 7) 9 (a + 1, 0)).1).1).2)) (pTN (M 6) (M 0 7) 44 11 (pTN (M 6) (M 0 7) 64 15 (pN (M 6) (M 0 7) 9 (a + 1, 0)).1).1).1) h, n, w)) := by
  have hl : a < M 0 7 := by
    have q := hk
    unfold pH at q
    by_cases hl : a < M 0 7
    · exact hl
    · rw [if_neg hl] at q; omega
  have ok0 : sok (M 0 7) (a + 1, 0) := ⟨by have := hs.1; simp only at *; omega, Or.inl rfl⟩
  have ok1 := pN_ok (T := M 6) (H := 9) ok0
  have ok2 := pT_ok (T := M 6) (c := 64) ok1 (by decide)
  have ok3 := pN_ok (T := M 6) (H := 15) ok2
  have ok4 := pT_ok (T := M 6) (c := 44) ok3 (by decide)
  have ok5 := pN_ok (T := M 6) (H := 11) ok4
  rw [show mst M (a, b) = mst (vst M (M 0)) (a, b) from congrArg (fun q => mst q (a, b)) vst_id.symm]
  unfold pTN
  simp only [fX7_order, iv_lit, iv_neg, iv_add, iv_mul, iv_sub, Int.reduceNeg]
  simp (config := {decide := true}) only [↓reduceIte, if_true, if_false, ↓mjn_b, ↓mjn0_b, e_mret, ↓e_bret, ↓m_mon, ↓p_oI7, ↓p_oI11, ↓p_oI12, ↓p_pI11, ↓p_pI11a, ↓p_pZ12, ↓q_oI13, ↓q_pI13, ↓q_oI14, ↓q_pI14, ↓q_oI15, ↓q_pI15, ↓q_oI16, ↓q_pI16, ↓q_oI17, ↓q_pI17, ↓X7_here_p ht hs, ↓X7_number_p ht ok0 (show 0 ≤ (9 : Int) ∧ (9 : Int) ≤ 29 by decide), ↓X7_take_p ht ok1 (show 1 ≤ (64 : Int) ∧ (64 : Int) ≤ 126 by decide), ↓X7_number_p ht ok2 (show 0 ≤ (15 : Int) ∧ (15 : Int) ≤ 29 by decide), ↓X7_take_p ht ok3 (show 1 ≤ (44 : Int) ∧ (44 : Int) ≤ 126 by decide), ↓X7_number_p ht ok4 (show 0 ≤ (11 : Int) ∧ (11 : Int) ≤ 29 by decide), iu_at, iu_ne, Int.add_zero, hk]
theorem X7_order_r {g : Nat → Nat} {h : Nat → Option hC} {n w m : Nat} {M : Mm} {a b : Int} (ht : txt (M 6) (M 0 7)) (hs : sok (M 0 7) (a, b)) (hk : pH (M 6) (M 0 7) a = 114) : fX7_order g (some m) (md m (mst M (a, b)) h, n, w) = some ((), (md m (mst (vst M (iu (iu (iu (M 0) 13 (pH (M 6) (M 0 7) a)) 14 (pN (M 6) (M 0 7) 9 (a + 1, 0)).2) 15 (pTN (M 6) (M 0 7) 58 3 (pN (M 6) (M 0 7) 9 (a + 1, 0)).1).2)) (pTN (M 6) (M 0 7) 58 3 (pN (M 6) (M 0 7) 9 (a + 1, 0)).1).1) h, n, w)) := by
  have hl : a < M 0 7 := by
    have q := hk
    unfold pH at q
    by_cases hl : a < M 0 7
    · exact hl
    · rw [if_neg hl] at q; omega
  have ok0 : sok (M 0 7) (a + 1, 0) := ⟨by have := hs.1; simp only at *; omega, Or.inl rfl⟩
  have ok1 := pN_ok (T := M 6) (H := 9) ok0
  have ok2 := pT_ok (T := M 6) (c := 58) ok1 (by decide)
  have ok3 := pN_ok (T := M 6) (H := 3) ok2
  rw [show mst M (a, b) = mst (vst M (M 0)) (a, b) from congrArg (fun q => mst q (a, b)) vst_id.symm]
  unfold pTN
  simp only [fX7_order, iv_lit, iv_neg, iv_add, iv_mul, iv_sub, Int.reduceNeg]
  simp (config := {decide := true}) only [↓reduceIte, if_true, if_false, ↓mjn_b, ↓mjn0_b, e_mret, ↓e_bret, ↓m_mon, ↓p_oI7, ↓p_oI11, ↓p_oI12, ↓p_pI11, ↓p_pI11a, ↓p_pZ12, ↓q_oI13, ↓q_pI13, ↓q_oI14, ↓q_pI14, ↓q_oI15, ↓q_pI15, ↓q_oI16, ↓q_pI16, ↓q_oI17, ↓q_pI17, ↓X7_here_p ht hs, ↓X7_number_p ht ok0 (show 0 ≤ (9 : Int) ∧ (9 : Int) ≤ 29 by decide), ↓X7_take_p ht ok1 (show 1 ≤ (58 : Int) ∧ (58 : Int) ≤ 126 by decide), ↓X7_number_p ht ok2 (show 0 ≤ (3 : Int) ∧ (3 : Int) ≤ 29 by decide), iu_at, iu_ne, Int.add_zero, hk]
theorem X7_order_p {g : Nat → Nat} {h : Nat → Option hC} {n w m : Nat} {M : Mm} {a b : Int} (ht : txt (M 6) (M 0 7)) (hs : sok (M 0 7) (a, b)) (hk : pH (M 6) (M 0 7) a = 112) : fX7_order g (some m) (md m (mst M (a, b)) h, n, w) = some ((), (md m (mst (vst M (iu (iu (iu (M 0) 13 (pH (M 6) (M 0 7) a)) 14 (pN (M 6) (M 0 7) 15 (a + 1, 0)).2) 15 (pTN (M 6) (M 0 7) 44 11 (pN (M 6) (M 0 7) 15 (a + 1, 0)).1).2)) (pTN (M 6) (M 0 7) 44 11 (pN (M 6) (M 0 7) 15 (a + 1, 0)).1).1) h, n, w)) := by
  have hl : a < M 0 7 := by
    have q := hk
    unfold pH at q
    by_cases hl : a < M 0 7
    · exact hl
    · rw [if_neg hl] at q; omega
  have ok0 : sok (M 0 7) (a + 1, 0) := ⟨by have := hs.1; simp only at *; omega, Or.inl rfl⟩
  have ok1 := pN_ok (T := M 6) (H := 15) ok0
  have ok2 := pT_ok (T := M 6) (c := 44) ok1 (by decide)
  have ok3 := pN_ok (T := M 6) (H := 11) ok2
  rw [show mst M (a, b) = mst (vst M (M 0)) (a, b) from congrArg (fun q => mst q (a, b)) vst_id.symm]
  unfold pTN
  simp only [fX7_order, iv_lit, iv_neg, iv_add, iv_mul, iv_sub, Int.reduceNeg]
  simp (config := {decide := true}) only [↓reduceIte, if_true, if_false, ↓mjn_b, ↓mjn0_b, e_mret, ↓e_bret, ↓m_mon, ↓p_oI7, ↓p_oI11, ↓p_oI12, ↓p_pI11, ↓p_pI11a, ↓p_pZ12, ↓q_oI13, ↓q_pI13, ↓q_oI14, ↓q_pI14, ↓q_oI15, ↓q_pI15, ↓q_oI16, ↓q_pI16, ↓q_oI17, ↓q_pI17, ↓X7_here_p ht hs, ↓X7_number_p ht ok0 (show 0 ≤ (15 : Int) ∧ (15 : Int) ≤ 29 by decide), ↓X7_take_p ht ok1 (show 1 ≤ (44 : Int) ∧ (44 : Int) ≤ 126 by decide), ↓X7_number_p ht ok2 (show 0 ≤ (11 : Int) ∧ (11 : Int) ≤ 29 by decide), iu_at, iu_ne, Int.add_zero, hk]
theorem X7_order_s {g : Nat → Nat} {h : Nat → Option hC} {n w m : Nat} {M : Mm} {a b : Int} (ht : txt (M 6) (M 0 7)) (hs : sok (M 0 7) (a, b)) (hk : pH (M 6) (M 0 7) a = 115) : fX7_order g (some m) (md m (mst M (a, b)) h, n, w) = some ((), (md m (mst (vst M (iu (iu (iu (iu (M 0) 13 (pH (M 6) (M 0 7) a)) 14 (pN (M 6) (M 0 7) 29 (a + 1, 0)).2) 15 (pTN (M 6) (M 0 7) 64 9 (pN (M 6) (M 0 7) 29 (a + 1, 0)).1).2) 16 (pTN (M 6) (M 0 7) 46 7 (pTN (M 6) (M 0 7) 64 9 (pN (M 6) (M 0 7) 29 (a + 1, 0)).1).1).2)) (pTN (M 6) (M 0 7) 46 7 (pTN (M 6) (M 0 7) 64 9 (pN (M 6) (M 0 7) 29 (a + 1, 0)).1).1).1) h, n, w)) := by
  have hl : a < M 0 7 := by
    have q := hk
    unfold pH at q
    by_cases hl : a < M 0 7
    · exact hl
    · rw [if_neg hl] at q; omega
  have ok0 : sok (M 0 7) (a + 1, 0) := ⟨by have := hs.1; simp only at *; omega, Or.inl rfl⟩
  have ok1 := pN_ok (T := M 6) (H := 29) ok0
  have ok2 := pT_ok (T := M 6) (c := 64) ok1 (by decide)
  have ok3 := pN_ok (T := M 6) (H := 9) ok2
  have ok4 := pT_ok (T := M 6) (c := 46) ok3 (by decide)
  have ok5 := pN_ok (T := M 6) (H := 7) ok4
  rw [show mst M (a, b) = mst (vst M (M 0)) (a, b) from congrArg (fun q => mst q (a, b)) vst_id.symm]
  unfold pTN
  simp only [fX7_order, iv_lit, iv_neg, iv_add, iv_mul, iv_sub, Int.reduceNeg]
  simp (config := {decide := true}) only [↓reduceIte, if_true, if_false, ↓mjn_b, ↓mjn0_b, e_mret, ↓e_bret, ↓m_mon, ↓p_oI7, ↓p_oI11, ↓p_oI12, ↓p_pI11, ↓p_pI11a, ↓p_pZ12, ↓q_oI13, ↓q_pI13, ↓q_oI14, ↓q_pI14, ↓q_oI15, ↓q_pI15, ↓q_oI16, ↓q_pI16, ↓q_oI17, ↓q_pI17, ↓X7_here_p ht hs, ↓X7_number_p ht ok0 (show 0 ≤ (29 : Int) ∧ (29 : Int) ≤ 29 by decide), ↓X7_take_p ht ok1 (show 1 ≤ (64 : Int) ∧ (64 : Int) ≤ 126 by decide), ↓X7_number_p ht ok2 (show 0 ≤ (9 : Int) ∧ (9 : Int) ≤ 29 by decide), ↓X7_take_p ht ok3 (show 1 ≤ (46 : Int) ∧ (46 : Int) ≤ 126 by decide), ↓X7_number_p ht ok4 (show 0 ≤ (7 : Int) ∧ (7 : Int) ≤ 29 by decide), iu_at, iu_ne, Int.add_zero, hk]
theorem X7_order_u {g : Nat → Nat} {h : Nat → Option hC} {n w m : Nat} {M : Mm} {a b : Int} (ht : txt (M 6) (M 0 7)) (hs : sok (M 0 7) (a, b)) (hk : pH (M 6) (M 0 7) a = 117) : fX7_order g (some m) (md m (mst M (a, b)) h, n, w) = some ((), (md m (mst (vst M (iu (iu (M 0) 13 (pH (M 6) (M 0 7) a)) 14 (pN (M 6) (M 0 7) 29 (a + 1, 0)).2)) (pN (M 6) (M 0 7) 29 (a + 1, 0)).1) h, n, w)) := by
  have hl : a < M 0 7 := by
    have q := hk
    unfold pH at q
    by_cases hl : a < M 0 7
    · exact hl
    · rw [if_neg hl] at q; omega
  have ok0 : sok (M 0 7) (a + 1, 0) := ⟨by have := hs.1; simp only at *; omega, Or.inl rfl⟩
  have ok1 := pN_ok (T := M 6) (H := 29) ok0
  rw [show mst M (a, b) = mst (vst M (M 0)) (a, b) from congrArg (fun q => mst q (a, b)) vst_id.symm]
  simp only [fX7_order, iv_lit, iv_neg, iv_add, iv_mul, iv_sub, Int.reduceNeg]
  simp (config := {decide := true}) only [↓reduceIte, if_true, if_false, ↓mjn_b, ↓mjn0_b, e_mret, ↓e_bret, ↓m_mon, ↓p_oI7, ↓p_oI11, ↓p_oI12, ↓p_pI11, ↓p_pI11a, ↓p_pZ12, ↓q_oI13, ↓q_pI13, ↓q_oI14, ↓q_pI14, ↓q_oI15, ↓q_pI15, ↓q_oI16, ↓q_pI16, ↓q_oI17, ↓q_pI17, ↓X7_here_p ht hs, ↓X7_number_p ht ok0 (show 0 ≤ (29 : Int) ∧ (29 : Int) ≤ 29 by decide), iu_at, iu_ne, Int.add_zero, hk]
theorem X7_order_x {g : Nat → Nat} {h : Nat → Option hC} {n w m : Nat} {M : Mm} {a b : Int} (ht : txt (M 6) (M 0 7)) (hs : sok (M 0 7) (a, b)) (hk : pH (M 6) (M 0 7) a = 120) : fX7_order g (some m) (md m (mst M (a, b)) h, n, w) = some ((), (md m (mst (vst M (iu (iu (iu (M 0) 13 (pH (M 6) (M 0 7) a)) 14 (pN (M 6) (M 0 7) 29 (a + 1, 0)).2) 15 (pTN (M 6) (M 0 7) 44 29 (pN (M 6) (M 0 7) 29 (a + 1, 0)).1).2)) (pTN (M 6) (M 0 7) 44 29 (pN (M 6) (M 0 7) 29 (a + 1, 0)).1).1) h, n, w)) := by
  have hl : a < M 0 7 := by
    have q := hk
    unfold pH at q
    by_cases hl : a < M 0 7
    · exact hl
    · rw [if_neg hl] at q; omega
  have ok0 : sok (M 0 7) (a + 1, 0) := ⟨by have := hs.1; simp only at *; omega, Or.inl rfl⟩
  have ok1 := pN_ok (T := M 6) (H := 29) ok0
  have ok2 := pT_ok (T := M 6) (c := 44) ok1 (by decide)
  have ok3 := pN_ok (T := M 6) (H := 29) ok2
  rw [show mst M (a, b) = mst (vst M (M 0)) (a, b) from congrArg (fun q => mst q (a, b)) vst_id.symm]
  unfold pTN
  simp only [fX7_order, iv_lit, iv_neg, iv_add, iv_mul, iv_sub, Int.reduceNeg]
  simp (config := {decide := true}) only [↓reduceIte, if_true, if_false, ↓mjn_b, ↓mjn0_b, e_mret, ↓e_bret, ↓m_mon, ↓p_oI7, ↓p_oI11, ↓p_oI12, ↓p_pI11, ↓p_pI11a, ↓p_pZ12, ↓q_oI13, ↓q_pI13, ↓q_oI14, ↓q_pI14, ↓q_oI15, ↓q_pI15, ↓q_oI16, ↓q_pI16, ↓q_oI17, ↓q_pI17, ↓X7_here_p ht hs, ↓X7_number_p ht ok0 (show 0 ≤ (29 : Int) ∧ (29 : Int) ≤ 29 by decide), ↓X7_take_p ht ok1 (show 1 ≤ (44 : Int) ∧ (44 : Int) ≤ 126 by decide), ↓X7_number_p ht ok2 (show 0 ≤ (29 : Int) ∧ (29 : Int) ≤ 29 by decide), iu_at, iu_ne, Int.add_zero, hk]
theorem X7_order_n {g : Nat → Nat} {h : Nat → Option hC} {n w m : Nat} {M : Mm} {a b : Int} (ht : txt (M 6) (M 0 7)) (hs : sok (M 0 7) (a, b)) (hk : ¬ pK (pH (M 6) (M 0 7) a)) : fX7_order g (some m) (md m (mst M (a, b)) h, n, w) = some ((), (md m (mst (vst M (iu (iu (M 0) 13 (pH (M 6) (M 0 7) a)) 14 (pN (M 6) (M 0 7) 29 (a, 1)).2)) (pN (M 6) (M 0 7) 29 (a, 1)).1) h, n, w)) := by
  have ok0 : sok (M 0 7) (a, 1) := ⟨hs.1, Or.inr rfl⟩
  have hr : 0 ≤ pH (M 6) (M 0 7) a ∧ pH (M 6) (M 0 7) a ≤ 126 := pH_rg ht hs.1.1
  unfold pK at hk
  have ok1 := pN_ok (T := M 6) (H := 29) ok0
  have n116 : (iv (pH (M 6) (M 0 7) a) = iv 116) = False := iv_eq_f (by omega) (by omega) (by omega)
  have n109 : (iv (pH (M 6) (M 0 7) a) = iv 109) = False := iv_eq_f (by omega) (by omega) (by omega)
  have n114 : (iv (pH (M 6) (M 0 7) a) = iv 114) = False := iv_eq_f (by omega) (by omega) (by omega)
  have n112 : (iv (pH (M 6) (M 0 7) a) = iv 112) = False := iv_eq_f (by omega) (by omega) (by omega)
  have n115 : (iv (pH (M 6) (M 0 7) a) = iv 115) = False := iv_eq_f (by omega) (by omega) (by omega)
  have n117 : (iv (pH (M 6) (M 0 7) a) = iv 117) = False := iv_eq_f (by omega) (by omega) (by omega)
  have n120 : (iv (pH (M 6) (M 0 7) a) = iv 120) = False := iv_eq_f (by omega) (by omega) (by omega)
  rw [show mst M (a, b) = mst (vst M (M 0)) (a, b) from congrArg (fun q => mst q (a, b)) vst_id.symm]
  simp only [fX7_order, iv_lit, iv_neg, iv_add, iv_mul, iv_sub, Int.reduceNeg]
  simp (config := {decide := true}) only [↓reduceIte, if_true, if_false, ↓mjn_b, ↓mjn0_b, e_mret, ↓e_bret, ↓m_mon, ↓p_oI7, ↓p_oI11, ↓p_oI12, ↓p_pI11, ↓p_pI11a, ↓p_pZ12, ↓q_oI13, ↓q_pI13, ↓q_oI14, ↓q_pI14, ↓q_oI15, ↓q_pI15, ↓q_oI16, ↓q_pI16, ↓q_oI17, ↓q_pI17, ↓X7_here_p ht hs, ↓X7_number_p ht ok0 (show 0 ≤ (29 : Int) ∧ (29 : Int) ≤ 29 by decide), iu_at, iu_ne, Int.add_zero, n116, n109, n114, n112, n115, n117, n120]
/-- the numbers of an order, as the model keeps them -/
def kept (M : Mm) (c : Int) (r : (Int × Int) × Int × Int × Int × Int) : Prop := M 0 13 = c ∧ M 0 14 = r.2.1 ∧ (c ≠ 117 → M 0 15 = r.2.2.1) ∧ (c = 116 ∨ c = 109 ∨ c = 115 → M 0 16 = r.2.2.2.1) ∧ (c = 116 → M 0 17 = r.2.2.2.2)
theorem X7_order_ev {g : Nat → Nat} {h : Nat → Option hC} {n w m : Nat} {M : Mm} {a b : Int} (ht : txt (M 6) (M 0 7)) (hs : sok (M 0 7) (a, b)) : ∃ M2 : Mm, fX7_order g (some m) (md m (mst M (a, b)) h, n, w) = some ((), (md m (mst M2 (pO (M 6) (M 0 7) a).1) h, n, w)) ∧ (∀ b, b ≠ 0 → M2 b = M b) ∧ (∀ j, j < 13 → M2 0 j = M 0 j) ∧ (pK (pH (M 6) (M 0 7) a) → kept M2 (pH (M 6) (M 0 7) a) (pO (M 6) (M 0 7) a)) := by
  by_cases hk : pK (pH (M 6) (M 0 7) a)
  · have hs0 : pS0 (M 6) (M 0 7) a = (a + 1, 0) := if_pos hk
    unfold pK at hk
    rcases hk with hk | hk | hk | hk | hk | hk | hk
    · have hp : pO (M 6) (M 0 7) a = ((pTN (M 6) (M 0 7) 58 3 (pTN (M 6) (M 0 7) 44 11 (pTN (M 6) (M 0 7) 64 15 (pN (M 6) (M 0 7) 2 (a + 1, 0)).1).1).1).1, (pN (M 6) (M 0 7) 2 (a + 1, 0)).2, (pTN (M 6) (M 0 7) 64 15 (pN (M 6) (M 0 7) 2 (a + 1, 0)).1).2, (pTN (M 6) (M 0 7) 44 11 (pTN (M 6) (M 0 7) 64 15 (pN (M 6) (M 0 7) 2 (a + 1, 0)).1).1).2, (pTN (M 6) (M 0 7) 58 3 (pTN (M 6) (M 0 7) 44 11 (pTN (M 6) (M 0 7) 64 15 (pN (M 6) (M 0 7) 2 (a + 1, 0)).1).1).1).2) := by
        unfold pO pHi
        simp only [hs0, hk, Int.reduceEq, if_true, if_false, or_true, true_or, or_false, false_or]
      refine ⟨vst M (iu (iu (iu (iu (iu (M 0) 13 (pH (M 6) (M 0 7) a)) 14 (pN (M 6) (M 0 7) 2 (a + 1, 0)).2) 15 (pTN (M 6) (M 0 7) 64 15 (pN (M 6) (M 0 7) 2 (a + 1, 0)).1).2) 16 (pTN (M 6) (M 0 7) 44 11 (pTN (M 6) (M 0 7) 64 15 (pN (M 6) (M 0 7) 2 (a + 1, 0)).1).1).2) 17 (pTN (M 6) (M 0 7) 58 3 (pTN (M 6) (M 0 7) 44 11 (pTN (M 6) (M 0 7) 64 15 (pN (M 6) (M 0 7) 2 (a + 1, 0)).1).1).1).2), ?_, fun b hb => vst_ob hb, fun j hj => vst_lo hj, fun _ => ?_⟩
      rotate_left
      · unfold kept
        rw [hp]
        refine ⟨?_, ?_, fun q => ?_, fun q => ?_, fun q => ?_⟩ <;> first | (exfalso; omega) | exact (vst_at (by omega)).trans (by simp (disch := omega) only [iu_at, iu_ne])
      · rw [hp]
        exact X7_order_t ht hs hk
    · have hp : pO (M 6) (M 0 7) a = ((pTN (M 6) (M 0 7) 44 11 (pTN (M 6) (M 0 7) 64 15 (pN (M 6) (M 0 7) 9 (a + 1, 0)).1).1).1, (pN (M 6) (M 0 7) 9 (a + 1, 0)).2, (pTN (M 6) (M 0 7) 64 15 (pN (M 6) (M 0 7) 9 (a + 1, 0)).1).2, (pTN (M 6) (M 0 7) 44 11 (pTN (M 6) (M 0 7) 64 15 (pN (M 6) (M 0 7) 9 (a + 1, 0)).1).1).2, 0) := by
        unfold pO pHi
        simp only [hs0, hk, Int.reduceEq, if_true, if_false, or_true, true_or, or_false, false_or]
      refine ⟨vst M (iu (iu (iu (iu (M 0) 13 (pH (M 6) (M 0 7) a)) 14 (pN (M 6) (M 0 7) 9 (a + 1, 0)).2) 15 (pTN (M 6) (M 0 7) 64 15 (pN (M 6) (M 0 7) 9 (a + 1, 0)).1).2) 16 (pTN (M 6) (M 0 7) 44 11 (pTN (M 6) (M 0 7) 64 15 (pN (M 6) (M 0 7) 9 (a + 1, 0)).1).1).2), ?_, fun b hb => vst_ob hb, fun j hj => vst_lo hj, fun _ => ?_⟩
      rotate_left
      · unfold kept
        rw [hp]
        refine ⟨?_, ?_, fun q => ?_, fun q => ?_, fun q => ?_⟩ <;> first | (exfalso; omega) | exact (vst_at (by omega)).trans (by simp (disch := omega) only [iu_at, iu_ne])
      · rw [hp]
        exact X7_order_m ht hs hk
    · have hp : pO (M 6) (M 0 7) a = ((pTN (M 6) (M 0 7) 58 3 (pN (M 6) (M 0 7) 9 (a + 1, 0)).1).1, (pN (M 6) (M 0 7) 9 (a + 1, 0)).2, (pTN (M 6) (M 0 7) 58 3 (pN (M 6) (M 0 7) 9 (a + 1, 0)).1).2, 0, 0) := by
        unfold pO pHi
        simp only [hs0, hk, Int.reduceEq, if_true, if_false, or_true, true_or, or_false, false_or]
      refine ⟨vst M (iu (iu (iu (M 0) 13 (pH (M 6) (M 0 7) a)) 14 (pN (M 6) (M 0 7) 9 (a + 1, 0)).2) 15 (pTN (M 6) (M 0 7) 58 3 (pN (M 6) (M 0 7) 9 (a + 1, 0)).1).2), ?_, fun b hb => vst_ob hb, fun j hj => vst_lo hj, fun _ => ?_⟩
      rotate_left
      · unfold kept
        rw [hp]
        refine ⟨?_, ?_, fun q => ?_, fun q => ?_, fun q => ?_⟩ <;> first | (exfalso; omega) | exact (vst_at (by omega)).trans (by simp (disch := omega) only [iu_at, iu_ne])
      · rw [hp]
        exact X7_order_r ht hs hk
    · have hp : pO (M 6) (M 0 7) a = ((pTN (M 6) (M 0 7) 44 11 (pN (M 6) (M 0 7) 15 (a + 1, 0)).1).1, (pN (M 6) (M 0 7) 15 (a + 1, 0)).2, (pTN (M 6) (M 0 7) 44 11 (pN (M 6) (M 0 7) 15 (a + 1, 0)).1).2, 0, 0) := by
        unfold pO pHi
        simp only [hs0, hk, Int.reduceEq, if_true, if_false, or_true, true_or, or_false, false_or]
      refine ⟨vst M (iu (iu (iu (M 0) 13 (pH (M 6) (M 0 7) a)) 14 (pN (M 6) (M 0 7) 15 (a + 1, 0)).2) 15 (pTN (M 6) (M 0 7) 44 11 (pN (M 6) (M 0 7) 15 (a + 1, 0)).1).2), ?_, fun b hb => vst_ob hb, fun j hj => vst_lo hj, fun _ => ?_⟩
      rotate_left
      · unfold kept
        rw [hp]
        refine ⟨?_, ?_, fun q => ?_, fun q => ?_, fun q => ?_⟩ <;> first | (exfalso; omega) | exact (vst_at (by omega)).trans (by simp (disch := omega) only [iu_at, iu_ne])
      · rw [hp]
        exact X7_order_p ht hs hk
    · have hp : pO (M 6) (M 0 7) a = ((pTN (M 6) (M 0 7) 46 7 (pTN (M 6) (M 0 7) 64 9 (pN (M 6) (M 0 7) 29 (a + 1, 0)).1).1).1, (pN (M 6) (M 0 7) 29 (a + 1, 0)).2, (pTN (M 6) (M 0 7) 64 9 (pN (M 6) (M 0 7) 29 (a + 1, 0)).1).2, (pTN (M 6) (M 0 7) 46 7 (pTN (M 6) (M 0 7) 64 9 (pN (M 6) (M 0 7) 29 (a + 1, 0)).1).1).2, 0) := by
        unfold pO pHi
        simp only [hs0, hk, Int.reduceEq, if_true, if_false, or_true, true_or, or_false, false_or]
      refine ⟨vst M (iu (iu (iu (iu (M 0) 13 (pH (M 6) (M 0 7) a)) 14 (pN (M 6) (M 0 7) 29 (a + 1, 0)).2) 15 (pTN (M 6) (M 0 7) 64 9 (pN (M 6) (M 0 7) 29 (a + 1, 0)).1).2) 16 (pTN (M 6) (M 0 7) 46 7 (pTN (M 6) (M 0 7) 64 9 (pN (M 6) (M 0 7) 29 (a + 1, 0)).1).1).2), ?_, fun b hb => vst_ob hb, fun j hj => vst_lo hj, fun _ => ?_⟩
      rotate_left
      · unfold kept
        rw [hp]
        refine ⟨?_, ?_, fun q => ?_, fun q => ?_, fun q => ?_⟩ <;> first | (exfalso; omega) | exact (vst_at (by omega)).trans (by simp (disch := omega) only [iu_at, iu_ne])
      · rw [hp]
        exact X7_order_s ht hs hk
    · have hp : pO (M 6) (M 0 7) a = ((pN (M 6) (M 0 7) 29 (a + 1, 0)).1, (pN (M 6) (M 0 7) 29 (a + 1, 0)).2, 0, 0, 0) := by
        unfold pO pHi
        simp only [hs0, hk, Int.reduceEq, if_true, if_false, or_true, true_or, or_false, false_or]
      refine ⟨vst M (iu (iu (M 0) 13 (pH (M 6) (M 0 7) a)) 14 (pN (M 6) (M 0 7) 29 (a + 1, 0)).2), ?_, fun b hb => vst_ob hb, fun j hj => vst_lo hj, fun _ => ?_⟩
      rotate_left
      · unfold kept
        rw [hp]
        refine ⟨?_, ?_, fun q => ?_, fun q => ?_, fun q => ?_⟩ <;> first | (exfalso; omega) | exact (vst_at (by omega)).trans (by simp (disch := omega) only [iu_at, iu_ne])
      · rw [hp]
        exact X7_order_u ht hs hk
    · have hp : pO (M 6) (M 0 7) a = ((pTN (M 6) (M 0 7) 44 29 (pN (M 6) (M 0 7) 29 (a + 1, 0)).1).1, (pN (M 6) (M 0 7) 29 (a + 1, 0)).2, (pTN (M 6) (M 0 7) 44 29 (pN (M 6) (M 0 7) 29 (a + 1, 0)).1).2, 0, 0) := by
        unfold pO pHi
        simp only [hs0, hk, Int.reduceEq, if_true, if_false, or_true, true_or, or_false, false_or]
      refine ⟨vst M (iu (iu (iu (M 0) 13 (pH (M 6) (M 0 7) a)) 14 (pN (M 6) (M 0 7) 29 (a + 1, 0)).2) 15 (pTN (M 6) (M 0 7) 44 29 (pN (M 6) (M 0 7) 29 (a + 1, 0)).1).2), ?_, fun b hb => vst_ob hb, fun j hj => vst_lo hj, fun _ => ?_⟩
      rotate_left
      · unfold kept
        rw [hp]
        refine ⟨?_, ?_, fun q => ?_, fun q => ?_, fun q => ?_⟩ <;> first | (exfalso; omega) | exact (vst_at (by omega)).trans (by simp (disch := omega) only [iu_at, iu_ne])
      · rw [hp]
        exact X7_order_x ht hs hk
  · have hs0 : pS0 (M 6) (M 0 7) a = (a, 1) := if_neg hk
    refine ⟨vst M (iu (iu (M 0) 13 (pH (M 6) (M 0 7) a)) 14 (pN (M 6) (M 0 7) 29 (a, 1)).2), ?_, fun b hb => vst_ob hb, fun j hj => vst_lo hj, fun q => absurd q hk⟩
    have e := X7_order_n (g := g) (h := h) (n := n) (w := w) (m := m) ht hs hk
    have e2 : (pO (M 6) (M 0 7) a).1 = (pN (M 6) (M 0 7) 29 (a, 1)).1 := by
      unfold pO pHi
      unfold pK at hk
      simp only [hs0]
      rw [if_neg (by omega), if_neg (by omega), if_neg (by omega), if_neg (by omega), if_neg (by omega), if_neg (by omega), if_neg (by omega), if_neg (by omega), if_neg (by omega)]
    rw [e2]
    exact e
