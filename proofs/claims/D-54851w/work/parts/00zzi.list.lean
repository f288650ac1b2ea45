/-! ===== ArrayList: add ===== -/
def arq (n : Nat) (q : Nat → Option Nat) : hC := .inl (4, n, .inr (.inr q))
/-- an object of one of our classes -/
def OB (h : Nat → Option hC) (b : Nat) : Prop := ∃ o : Nat × List Value, h b = some (.inr o) ∧ o.1 < 24
theorem okV_of {h : Nat → Option hC} {n w b : Nat} (hb : OB h b) : okV 4 (some b) (h, n, w) = true := by
  obtain ⟨o, h1, h2⟩ := hb
  unfold okV okA
  simp only [h1]
  simp [h2]
theorem c_sQ {β : Type} {K : Unit → HM β} {h : Nat → Option hC} {n w a L : Nat} {q : Nat → Option Nat} {i : Int} {v : Option Nat} (hc : h a = some (arq L q)) (hL : L < 2147483648) (hi : 0 ≤ i ∧ i < L) (hv : okV 4 v (h, n, w) = true) : mb (sQ (some a) (iv i) v) K (h, n, w) = K () (hset h a (arq L (va_up q i.toNat v)), n, w) := by
  obtain ⟨k, rfl⟩ : ∃ k : Nat, i = k := ⟨i.toNat, by omega⟩
  have h1 : (iv (k : Int)).toNatClampNeg = k := iv_clamp (by omega)
  have h2 : ¬ iv (k : Int) < 0 := iv_nneg (by omega)
  unfold mb sQ
  simp only [hc, arq, h1]
  rw [if_pos ⟨Or.inl trivial, ⟨h2, by omega⟩, hv⟩]
  rfl
theorem c_nQ {β : Type} {K : Option Nat → HM β} {h : Nat → Option hC} {n w L : Nat} {k : Int} (hk : 0 ≤ k ∧ k < 100000) (hL : w + (1 + k.toNat) ≤ L) : mb (nA L 4 (iv k)) K (h, n, w) = K (some n) (hset h n (arq k.toNat (fun _ => none)), n + 1, w + (1 + k.toNat)) := by
  obtain ⟨j, rfl⟩ : ∃ j : Nat, k = j := ⟨k.toNat, by omega⟩
  have h1 : (iv (j : Int)).toNatClampNeg = j := iv_clamp (by omega)
  have h2 : ¬ iv (j : Int) < 0 := iv_nneg (by omega)
  have hz : zAr 4 = .inr (.inr (fun _ => none)) := by unfold zAr; rw [if_neg (by decide), if_neg (by decide)]
  rw [Int.toNat_natCast] at *
  unfold mb nA
  simp only [h1]
  rw [if_pos ⟨h2, hL⟩, hz]
  rfl
theorem c_cpQ {β : Type} {K : Unit → HM β} {h : Nat → Option hC} {n w a0 a n0 n1 : Nat} {f q : Nat → Option Nat} {sp dp k : Int} (h0 : h a0 = some (arq n0 f)) (h1 : h a = some (arq n1 q)) (hs : 0 ≤ sp ∧ sp < 100000) (hd : 0 ≤ dp ∧ dp < 100000) (hk : 0 ≤ k ∧ k < 100000) (e0 : sp + k ≤ n0) (e1 : dp + k ≤ n1) (hv : ∀ i : Nat, (i : Int) < k → okV 4 (f (sp.toNat + i)) (h, n, w) = true) :
    mb (mcpQ (some a0) (iv sp) (some a) (iv dp) (iv k)) K (h, n, w) = K () (hset h a (arq n1 (va_cpy f q sp.toNat dp.toNat k.toNat)), n, w) := by
  obtain ⟨s, rfl⟩ : ∃ s : Nat, sp = s := ⟨sp.toNat, by omega⟩
  obtain ⟨d, rfl⟩ : ∃ d : Nat, dp = d := ⟨dp.toNat, by omega⟩
  obtain ⟨m, rfl⟩ : ∃ m : Nat, k = m := ⟨k.toNat, by omega⟩
  have s1 : (iv (s : Int)).toNatClampNeg = s := iv_clamp (by omega)
  have s2 : ¬ iv (s : Int) < 0 := iv_nneg (by omega)
  have d1 : (iv (d : Int)).toNatClampNeg = d := iv_clamp (by omega)
  have d2 : ¬ iv (d : Int) < 0 := iv_nneg (by omega)
  have k1 : (iv (m : Int)).toNatClampNeg = m := iv_clamp (by omega)
  have k2 : ¬ iv (m : Int) < 0 := iv_nneg (by omega)
  rw [Int.toNat_natCast] at *
  unfold mb mcpQ
  simp only [h0, h1, arq, s1, d1, k1]
  rw [if_pos ⟨⟨trivial, trivial⟩, ⟨s2, d2, k2⟩, ⟨by omega, by omega⟩, fun i hi => hv i (by omega)⟩]
  rfl
/-- a list, its array told -/
def AX (g : Nat → Nat) (h : Nat → Option hC) (r arr : Nat) (len : Int) (f : Int → Nat) : Prop := ∃ (mc : Int32), h r = some (.inr (13, [.int mc, .ref arr, .int (iv len)])) ∧ (0 ≤ len ∧ len ≤ 1000) ∧
  ((len = 0 ∧ arr = g 0 ∧ h arr = none) ∨ ∃ (cap : Nat) (q : Nat → Option Nat), h arr = some (arq cap q) ∧ len ≤ cap ∧ (cap = 10 ∨ cap = 15 ∨ cap = 22) ∧ ∀ i, 0 ≤ i → i < len → q i.toNat = some (f i))
theorem AX_AL {g : Nat → Nat} {h : Nat → Option hC} {r arr : Nat} {len : Int} {f : Int → Nat} (a : AX g h r arr len f) : AL g h r len f := by
  obtain ⟨mc, h1, h2, h3⟩ := a
  exact ⟨mc, arr, h1, h2, h3⟩
theorem l_o0 {β : Type} {K : Int32 → HM β} {h : Nat → Option hC} {n w a v : Nat} {x y : Int32} (ha : h a = some (.inr (13, [.int x, .ref v, .int y]))) : mb (oI 13 0 (some a)) K (h, n, w) = K x (h, n, w) := c_oI ha rfl
theorem l_o1 {β : Type} {K : Option Nat → HM β} {h : Nat → Option hC} {n w a v : Nat} {x y : Int32} (ha : h a = some (.inr (13, [.int x, .ref v, .int y]))) : mb (oR 13 1 (some a)) K (h, n, w) = K (some v) (h, n, w) := c_oR ha rfl
theorem l_o2 {β : Type} {K : Int32 → HM β} {h : Nat → Option hC} {n w a v : Nat} {x y : Int32} (ha : h a = some (.inr (13, [.int x, .ref v, .int y]))) : mb (oI 13 2 (some a)) K (h, n, w) = K y (h, n, w) := c_oI ha rfl
theorem l_p0 {β : Type} {K : Unit → HM β} {h : Nat → Option hC} {n w a v : Nat} {x y u : Int32} (ha : h a = some (.inr (13, [.int x, .ref v, .int y]))) : mb (pI 13 0 (some a) u) K (h, n, w) = K () (hset h a (.inr (13, [.int u, .ref v, .int y])), n, w) := c_pI ha (show (0 : Nat) < 3 by decide)
theorem l_p1 {β : Type} {K : Unit → HM β} {h : Nat → Option hC} {n w a v b : Nat} {x y : Int32} (ha : h a = some (.inr (13, [.int x, .ref v, .int y]))) : mb (pR 13 1 (some a) (some b)) K (h, n, w) = K () (hset h a (.inr (13, [.int x, .ref b, .int y])), n, w) := c_pR ha (show (1 : Nat) < 3 by decide)
theorem l_p2 {β : Type} {K : Unit → HM β} {h : Nat → Option hC} {n w a v : Nat} {x y u : Int32} (ha : h a = some (.inr (13, [.int x, .ref v, .int y]))) : mb (pI 13 2 (some a) u) K (h, n, w) = K () (hset h a (.inr (13, [.int x, .ref v, .int u])), n, w) := c_pI ha (show (2 : Nat) < 3 by decide)
theorem OB_set {h : Nat → Option hC} {a b : Nat} {o : Nat × List Value} (hb : OB h b) (ho : o.1 < 24) : OB (hset h a (.inr o)) b := by
  obtain ⟨p, h1, h2⟩ := hb
  by_cases e : b = a
  · exact ⟨o, by rw [e]; exact hset_at, ho⟩
  · exact ⟨p, by rw [hset_ne e]; exact h1, h2⟩
theorem OB_arr {h : Nat → Option hC} {a b : Nat} {x : hC} (hb : OB h b) (ha : ∀ o, h a ≠ some (.inr o)) : OB (hset h a x) b := by
  obtain ⟨p, h1, h2⟩ := hb
  exact ⟨p, by rw [hset_ne (fun e => by rw [e] at h1; exact ha p h1)]; exact h1, h2⟩
