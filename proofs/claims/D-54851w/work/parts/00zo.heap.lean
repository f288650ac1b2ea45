/-! ===== the component's heap: what primitives do ===== -/
theorem iv_clamp {k : Nat} (h : k < 2147483648) : (iv (k : Int)).toNatClampNeg = k := by
  rw [iv_tnc (by omega)]; omega
theorem iv_nneg {k : Nat} (h : k < 2147483647) : ¬ iv (k : Int) < 0 := (iv_in (a := k) (n := 2147483647) (by omega) (by omega)).1
theorem c_oI {β : Type} {K : Int32 → HM β} {h : Nat → Option hC} {n w a ci k : Nat} {fs : List Value} {x : Int32} (hc : h a = some (.inr (ci, fs))) (hk : fs[k]? = some (.int x)) : mb (oI ci k (some a)) K (h, n, w) = K x (h, n, w) := by
  unfold mb oI oV
  simp only [hc, if_true, hk]
theorem c_oR {β : Type} {K : Option Nat → HM β} {h : Nat → Option hC} {n w a ci k b : Nat} {fs : List Value} (hc : h a = some (.inr (ci, fs))) (hk : fs[k]? = some (.ref b)) : mb (oR ci k (some a)) K (h, n, w) = K (some b) (h, n, w) := by
  unfold mb oR oV
  simp only [hc, if_true, hk]
theorem c_oN {β : Type} {K : Option Nat → HM β} {h : Nat → Option hC} {n w a ci k : Nat} {fs : List Value} (hc : h a = some (.inr (ci, fs))) (hk : fs[k]? = some .null) : mb (oR ci k (some a)) K (h, n, w) = K none (h, n, w) := by
  unfold mb oR oV
  simp only [hc, if_true, hk]
theorem c_pI {β : Type} {K : Unit → HM β} {h : Nat → Option hC} {n w a ci k : Nat} {fs : List Value} {x : Int32} (hc : h a = some (.inr (ci, fs))) (hk : k < fs.length) : mb (pI ci k (some a) x) K (h, n, w) = K () (hset h a (.inr (ci, fs.set k (.int x))), n, w) := by
  unfold mb pI pV
  simp only [hc, hk, and_self, if_true]
theorem c_pR {β : Type} {K : Unit → HM β} {h : Nat → Option hC} {n w a ci k : Nat} {fs : List Value} {v : Option Nat} (hc : h a = some (.inr (ci, fs))) (hk : k < fs.length) : mb (pR ci k (some a) v) K (h, n, w) = K () (hset h a (.inr (ci, fs.set k (va_rf v))), n, w) := by
  unfold mb pR pV
  simp only [hc, hk, and_self, if_true]
theorem c_mon {α β : Type} {K : α → HM β} {F : HM α} {h : Nat → Option hC} {n w a ci : Nat} {fs : List Value} (hc : h a = some (.inr (ci, fs))) : mb (mon ci (some a) F) K (h, n, w) = mb F K (h, n, w) := by
  unfold mb mon oC
  simp only [hc, if_true]
theorem c_mcst {β : Type} {K : Unit → HM β} {h : Nat → Option hC} {n w a ci : Nat} {cs : List Nat} {fs : List Value} (hc : h a = some (.inr (ci, fs))) (hm : ci ∈ cs) : mb (mcst cs (some a)) K (h, n, w) = K () (h, n, w) := by
  unfold mb mcst oC
  simp only [hc, hm, if_true]
theorem c_mnn {β : Type} {K : Unit → HM β} {h : Nat → Option hC} {n w a : Nat} : mb (mnn (some a)) K (h, n, w) = K () (h, n, w) := Eq.trans rfl rfl
/-- arrays of ints, told by a function on the integers -/
def ari (t n : Nat) (F : Int → Int) : hC := .inl (t, n, .inl (fun j => iv (F j)))
theorem c_aI {β : Type} {K : Int32 → HM β} {h : Nat → Option hC} {n w a t L : Nat} {F : Int → Int} {i : Int} (hc : h a = some (ari t L F)) (hL : L < 2147483648) (hi : 0 ≤ i ∧ i < L) : mb (aI t (some a) (iv i)) K (h, n, w) = K (iv (F i)) (h, n, w) := by
  obtain ⟨k, rfl⟩ : ∃ k : Nat, i = k := ⟨i.toNat, by omega⟩
  have h1 : (iv (k : Int)).toNatClampNeg = k := iv_clamp (by omega)
  have h2 : ¬ iv (k : Int) < 0 := iv_nneg (by omega)
  unfold mb aI
  simp only [hc, ari, h1, true_and]
  rw [if_pos ⟨h2, by omega⟩]
theorem c_sIx {β : Type} {K : Unit → HM β} {h : Nat → Option hC} {n w a t L : Nat} {F : Int → Int} {i x : Int} (hc : h a = some (ari t L F)) (hL : L < 2147483648) (hi : 0 ≤ i ∧ i < L) : mb (sIx t (some a) (iv i) (iv x)) K (h, n, w) = K () (hset h a (ari t L (iu F i x)), n, w) := by
  obtain ⟨k, rfl⟩ : ∃ k : Nat, i = k := ⟨i.toNat, by omega⟩
  have h1 : (iv (k : Int)).toNatClampNeg = k := iv_clamp (by omega)
  have h2 : ¬ iv (k : Int) < 0 := iv_nneg (by omega)
  have h3 : upd (fun j : Nat => iv (F j)) k (iv x) = fun j : Nat => iv (iu F k x j) := by
    funext j
    unfold upd iu
    by_cases e : j = k
    · subst e; simp
    · have e2 : ¬ ((j : Int) = (k : Int)) := by omega
      simp [e, e2]
  unfold mb sIx
  simp only [hc, ari, h1, true_and]
  rw [if_pos ⟨h2, by omega⟩, h3]
theorem c_sI {β : Type} {K : Unit → HM β} {h : Nat → Option hC} {n w a L : Nat} {F : Int → Int} {i x : Int} (hc : h a = some (ari 0 L F)) (hL : L < 2147483648) (hi : 0 ≤ i ∧ i < L) : mb (sI (some a) (iv i) (iv x)) K (h, n, w) = K () (hset h a (ari 0 L (iu F i x)), n, w) := c_sIx hc hL hi
theorem c_aN {β : Type} {g : Nat → Nat} {K : Int32 → HM β} {h : Nat → Option hC} {n w a t L : Nat} {q : hAr} (hc : h a = some (.inl (t, L, q))) : mb (aN g (some a)) K (h, n, w) = K (iv L) (h, n, w) := by
  unfold mb aN
  simp only [hc]
  exact congrArg (fun z => K z (h, n, w)) (show Int32.ofNat L = iv L from Eq.trans rfl rfl)
theorem c_aQ {β : Type} {K : Option Nat → HM β} {h : Nat → Option hC} {n w a t L : Nat} {q : Nat → Option Nat} {i : Int} (hc : h a = some (.inl (t, L, .inr (.inr q)))) (ht : t = 4 ∨ t = 5) (hL : L < 2147483648) (hi : 0 ≤ i ∧ i < L) : mb (aQ (some a) (iv i)) K (h, n, w) = K (q i.toNat) (h, n, w) := by
  obtain ⟨k, rfl⟩ : ∃ k : Nat, i = k := ⟨i.toNat, by omega⟩
  have h1 : (iv (k : Int)).toNatClampNeg = k := iv_clamp (by omega)
  have h2 : ¬ iv (k : Int) < 0 := iv_nneg (by omega)
  unfold mb aQ
  simp only [hc, h1]
  rw [if_pos ⟨ht, h2, by omega⟩]
  rfl
theorem hset_hset {h : Nat → Option hC} {a : Nat} {x y : hC} : hset (hset h a x) a y = hset h a y := by
  funext q
  unfold hset
  by_cases e : q = a
  · rw [if_pos e, if_pos e]
  · rw [if_neg e, if_neg e, if_neg e]
theorem hset_id {h : Nat → Option hC} {a : Nat} {x : hC} (hc : h a = some x) : hset h a x = h := by
  funext q
  unfold hset
  by_cases e : q = a
  · rw [if_pos e, e, hc]
  · rw [if_neg e]
theorem hset_cm {h : Nat → Option hC} {a b : Nat} {x y : hC} (hne : a ≠ b) : hset (hset h a x) b y = hset (hset h b y) a x := by
  funext q
  unfold hset
  by_cases e : q = a
  · subst e; rw [if_neg hne, if_pos rfl, if_pos rfl]
  · by_cases f : q = b
    · simp only [if_neg e, if_pos f]
    · simp only [if_neg e, if_neg f]
theorem hset_at {h : Nat → Option hC} {a : Nat} {x : hC} : hset h a x a = some x := if_pos rfl
theorem ne_oa {h : Nat → Option hC} {a b : Nat} {o : Nat × List Value} {x : Nat × Nat × hAr} (ha : h a = some (.inr o)) (hb : h b = some (.inl x)) : a ≠ b := by
  intro e
  rw [e, hb] at ha
  cases ha
theorem ne_oo {h : Nat → Option hC} {a b : Nat} {o o' : Nat × List Value} (ha : h a = some (.inr o)) (hb : h b = some (.inr o')) (hne : o.1 ≠ o'.1) : a ≠ b := by
  intro e
  rw [e, hb] at ha
  exact hne (congrArg (fun z => z.1) (Sum.inr.inj (Option.some.inj ha)).symm)
theorem ne_aa {h : Nat → Option hC} {a b : Nat} {x y : Nat × Nat × hAr} (ha : h a = some (.inl x)) (hb : h b = some (.inl y)) (hne : x.1 ≠ y.1) : a ≠ b := by
  intro e
  rw [e, hb] at ha
  exact hne (congrArg (fun z => z.1) (Sum.inl.inj (Option.some.inj ha)).symm)
/-! ===== ArrayList ===== -/
/-- a list of len addresses f -/
def AL (g : Nat → Nat) (h : Nat → Option hC) (r : Nat) (len : Int) (f : Int → Nat) : Prop := ∃ (mc : Int32) (arr : Nat), h r = some (.inr (13, [.int mc, .ref arr, .int (iv len)])) ∧ (0 ≤ len ∧ len ≤ 1000) ∧
  ((len = 0 ∧ arr = g 0 ∧ h arr = none) ∨ ∃ (cap : Nat) (q : Nat → Option Nat), h arr = some (.inl (4, cap, .inr (.inr q))) ∧ len ≤ cap ∧ (cap = 10 ∨ cap = 15 ∨ cap = 22) ∧ ∀ i, 0 ≤ i → i < len → q i.toNat = some (f i))
theorem J2_size_ev {g : Nat → Nat} {h : Nat → Option hC} {n w r : Nat} {len : Int} {f : Int → Nat} (hl : AL g h r len f) : fJ2_size g (some r) (h, n, w) = some (iv len, (h, n, w)) := by
  obtain ⟨mc, arr, h1, -⟩ := hl
  unfold fJ2_size
  rw [c_oI h1 rfl]
  rfl
theorem J2_size_c {β : Type} {K : Int32 → HM β} {g : Nat → Nat} {h : Nat → Option hC} {n w r : Nat} {len : Int} {f : Int → Nat} (hl : AL g h r len f) : mb (mon 13 (some r) (mcall0 (fJ2_size g (some r)))) K (h, n, w) = K (iv len) (h, n, w) := by
  obtain ⟨mc, arr, h1, -⟩ := id hl
  rw [c_mon h1, e_call0 (J2_size_ev hl)]
theorem J7_checkIndex_c {β : Type} {K : Int32 → HM β} {g : Nat → Nat} {h : Nat → Option hC} {n w : Nat} {i len : Int} (hi : 0 ≤ i ∧ i < len) (hl : len ≤ 100000) : mb (mcall0 (fJ7_checkIndex g (iv i) (iv len))) K (h, n, w) = K (iv i) (h, n, w) := by
  have e1 : fJ8_checkIndex g (iv i) (iv len) none (h, n, 0) = some (iv i, (h, n, 0)) := by
    unfold fJ8_checkIndex
    simp (disch := omega) only [↓mjn0_b, iv_lit, iv_lt_t, iv_lt_f, if_true, if_false, e_mret]
  have e2 : fJ7_checkIndex g (iv i) (iv len) (h, n, 0) = some (iv i, (h, n, 0)) := by
    unfold fJ7_checkIndex
    rw [e_call0 e1]
    rfl
  exact e_call0 e2
theorem J2_get_ev {g : Nat → Nat} {h : Nat → Option hC} {n w r : Nat} {len i : Int} {f : Int → Nat} (hl : AL g h r len f) (hi : 0 ≤ i ∧ i < len) : fJ2_get g (some r) (iv i) (h, n, w) = some (some (f i), (h, n, w)) := by
  obtain ⟨mc, arr, h1, h2, h3⟩ := hl
  rcases h3 with h3 | ⟨cap, q, h4, h5, h6, h7⟩
  · omega
  · have e1 : fJ2_elementData g (some r) (iv i) (h, n, 0) = some (some (f i), (h, n, 0)) := by
      unfold fJ2_elementData
      rw [c_oR h1 rfl, c_aQ h4 (Or.inl rfl) (by omega) (by omega), h7 i hi.1 hi.2]
      rfl
    unfold fJ2_get
    rw [c_oI h1 rfl, J7_checkIndex_c hi (by omega), c_mon h1, e_call0 e1]
    rfl
theorem J2_get_c {β : Type} {K : Option Nat → HM β} {g : Nat → Nat} {h : Nat → Option hC} {n w r : Nat} {len i : Int} {f : Int → Nat} (hl : AL g h r len f) (hi : 0 ≤ i ∧ i < len) : mb (mon 13 (some r) (mcall0 (fJ2_get g (some r) (iv i)))) K (h, n, w) = K (some (f i)) (h, n, w) := by
  obtain ⟨mc, arr, h1, -⟩ := id hl
  rw [c_mon h1, e_call0 (J2_get_ev hl hi)]
