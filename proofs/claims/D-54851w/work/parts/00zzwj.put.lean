/-! ===== a new entry -/
def kins (kk : Int → Nat) (p : Int) (x : Nat) : Int → Nat := fun i => if i < p then kk i else if i = p then x else kk (i - 1)
theorem ov_new {r : Nat} {S : Nat → Prop} {cmp ks : Option Nat} {h : Nat → Option hC} {M : Nat → Nat → Option Nat} {C : Nat → Int32} {rt : Option Nat} {sz mc : Int32} {n : Nat} (hn : n ≠ r) (hS : ¬ S n) :
    hset (ov r S cmp ks h M C rt sz mc) n (.inr (19, [.null, .null, .null, .null, .null, .int 0])) = ov r (fun q => S q ∨ q = n) cmp ks h (fun f q => if q = n then none else M f q) (cup C n 0) rt sz mc := by
  funext q
  unfold hset ov
  by_cases e : q = n
  · rw [if_pos e, if_neg (by rw [e]; exact hn), if_pos (Or.inr e)]
    unfold eCell cup
    simp only [if_pos e]
    rfl
  · rw [if_neg e]
    by_cases e2 : q = r
    · rw [if_pos e2, if_pos e2]
    · rw [if_neg e2, if_neg e2]
      by_cases e3 : S q
      · rw [if_pos e3, if_pos (Or.inl e3)]
        unfold eCell cup
        simp only [if_neg e]
      · rw [if_neg e3, if_neg (fun q => q.elim e3 e)]
theorem c_nO {β : Type} {K : Option Nat → HM β} {h : Nat → Option hC} {n w L ci : Nat} {fs : List Value} (hL : w + (1 + fs.length) ≤ L) : mb (nO L ci fs) K (h, n, w) = K (some n) (hset h n (.inr (ci, fs)), n + 1, w + (1 + fs.length)) := by
  unfold mb nO
  simp only []
  rw [if_pos hL]
section
variable {r : Nat} {S : Nat → Prop} {cmp ks : Option Nat} {h : Nat → Option hC} {M : Nat → Nat → Option Nat} {C : Nat → Int32} {rt : Option Nat} {sz mc : Int32} {n w : Nat} {g : Nat → Nat} {nn : Int} {pos lo hi : Nat → Int} {e kk : Int → Nat} {PV : Option Nat → Prop}
theorem J25_init_c {β : Type} {K : Unit → HM β} (hr : ¬ S r) {a : Nat} (ha : S a) {k v u : Option Nat} : mb (mcall0 (fJ25_init g (some a) k v u)) K (ov r S cmp ks h M C rt sz mc, n, w) = K () (ov r S cmp ks h (mup (mup (mup M 0 a k) 1 a v) 4 a u) (cup C a 1) rt sz mc, n, w) := by
  refine e_call0 (u' := 0) ?_
  unfold fJ25_init
  rw [c_mnn, v_p5 hr ha (Or.inr rfl), v_p0 hr ha, v_p1 hr ha, v_p4 hr ha]
  rfl
theorem fixI_top (hr : ¬ S r) {M : Nat → Nat → Option Nat} {C : Nat → Int32} {rt : Option Nat} (hI : TI S M rt 0 nn pos lo hi) (hC : okC C) {x : Nat} (hx : S x) (hnn : nn ≤ 1001) :
    ∃ (M' : Nat → Nat → Option Nat) (C' : Nat → Int32) (rt' : Option Nat) (lo' hi' : Nat → Int), fJ6_fixAfterInsertion g (some r) (some x) (ov r S cmp ks h M C rt sz mc, n, 0) = some ((), (ov r S cmp ks h M' C' rt' sz mc, n, 0)) ∧ TI S M' rt' 0 nn pos lo' hi' ∧ okC C' ∧ ∀ f, f < 2 → M' f = M f := by
  have gx := hI.1 x hx
  obtain ⟨M', C', rt', lo', hi', e1, e2, e3, e4⟩ := fixI_ev (cmp := cmp) (ks := ks) (h := h) (sz := sz) (mc := mc) (n := n) (w := 0) (g := g) (K0 := mb (oR 18 3 (some r)) fun x44 => mb (pZ 19 5 x44 1) fun _ => mret ()) hr 5000 M (cup C x 0) rt lo hi x hI (okC_up hC (Or.inl rfl)) hx (by omega)
  rcases e2.2.2.2.2 with ⟨-, q⟩ | ⟨y, ey, sy, -⟩
  · omega
  refine ⟨M', cup C' y 1, rt', lo', hi', ?_, e2, okC_up e3 (Or.inr rfl), e4⟩
  unfold fJ6_fixAfterInsertion
  rw [v_p5 hr hx (Or.inl rfl), e1, v_m3, ey, v_p5 hr sy (Or.inr rfl)]
  rfl
/-- a leaf is linked, and the tree mended -/
theorem addE_ev (hr : ¬ S r) (hG : TG S M C rt nn pos lo hi e kk PV) (hn : n ≠ r) (hS : ¬ S n) (hN : nn < 1000) {x b : Nat} {v : Option Nat} (hv : PV v) {fl : Int32} {p : Int} (hb : S b) (hp : (fl ≠ 0 ∧ M 2 b = none ∧ p = pos b) ∨ (fl = 0 ∧ M 3 b = none ∧ p = pos b + 1)) :
    ∃ (M' : Nat → Nat → Option Nat) (C' : Nat → Int32) (rt' : Option Nat) (pos' lo' hi' : Nat → Int) (e' : Int → Nat), fJ6_addEntry g (some r) (some x) v (some b) fl (ov r S cmp ks h M C rt sz mc, n, 0) = some ((), (ov r (fun q => S q ∨ q = n) cmp ks h M' C' rt' (sz + 1) (mc + 1), n + 1, 7)) ∧ TG (fun q => S q ∨ q = n) M' C' rt' (nn + 1) pos' lo' hi' e' (kins kk p x) PV := by
  have hI := hG.1
  have gb := hI.1 b hb
  have hrn : ¬ (S r ∨ r = n) := fun q => q.elim hr (fun q => hn q.symm)
  have hbn : b ≠ n := fun q => hS (by rw [← q]; exact hb)
  have hjn := TG_inj hG
  have hnb : (fun q => S q ∨ q = n) b := Or.inl hb
  have hnn : (fun q => S q ∨ q = n) n := Or.inr rfl
  have hC1 : okC (cup (cup C n 0) n 1) := okC_up (okC_up hG.2.1 (Or.inl rfl)) (Or.inr rfl)
  have hsn : ∀ q, S q → q ≠ n := fun q hq w => hS (by rw [← w]; exact hq)
  have hp01 : 0 ≤ p ∧ p ≤ nn := by rcases hp with ⟨-, -, q⟩ | ⟨-, -, q⟩ <;> omega
  have hI2 : ∃ (M2 : Nat → Nat → Option Nat) (lo' hi' : Nat → Int), TI (fun q => S q ∨ q = n) M2 rt 0 (nn + 1) (pup pos n p) lo' hi' ∧ (∀ f, f < 2 → M2 f = (mup (mup (mup (fun f q => if q = n then none else M f q) 0 n (some x)) 1 n v) 4 n (some b)) f) ∧
      ∀ (J : HM Unit), (if fl = 0 then (mb (pR 19 3 (some b) (some n)) fun _ => J) else (mb (pR 19 2 (some b) (some n)) fun _ => J)) (ov r (fun q => S q ∨ q = n) cmp ks h (mup (mup (mup (fun f q => if q = n then none else M f q) 0 n (some x)) 1 n v) 4 n (some b)) (cup (cup C n 0) n 1) rt sz mc, n + 1, 7) = J (ov r (fun q => S q ∨ q = n) cmp ks h M2 (cup (cup C n 0) n 1) rt sz mc, n + 1, 7) := by
    rcases hp with ⟨f1, f2, f3⟩ | ⟨f1, f2, f3⟩
    · obtain ⟨lo', hi', k⟩ := TI_insL (M' := mup (mup (mup (mup (fun f q => if q = n then none else M f q) 0 n (some x)) 1 n v) 4 n (some b)) 2 b (some n)) hI hjn hb hS f2
        (fun q hq => by have := hsn q hq; unfold mup; grind) (fun q hq => by have := hsn q hq; unfold mup; grind) (fun q hq => by have := hsn q hq; unfold mup; grind) (by unfold mup; grind) (by unfold mup; grind) (by unfold mup; grind)
      refine ⟨_, lo', hi', by rw [f3]; exact k, fun f hf => ?_, fun J => ?_⟩
      · funext q
        exact mup_f (by omega)
      · rw [if_neg f1, v_p2 hrn hnb]
    · obtain ⟨lo', hi', k⟩ := TI_insR (M' := mup (mup (mup (mup (fun f q => if q = n then none else M f q) 0 n (some x)) 1 n v) 4 n (some b)) 3 b (some n)) hI hjn hb hS f2
        (fun q hq => by have := hsn q hq; unfold mup; grind) (fun q hq => by have := hsn q hq; unfold mup; grind) (fun q hq => by have := hsn q hq; unfold mup; grind) (by unfold mup; grind) (by unfold mup; grind) (by unfold mup; grind)
      refine ⟨_, lo', hi', by rw [f3]; exact k, fun f hf => ?_, fun J => ?_⟩
      · funext q
        exact mup_f (by omega)
      · rw [if_pos f1, v_p3 hrn hnb]
  obtain ⟨M2, lo2, hi2, I2, m2, k2⟩ := hI2
  obtain ⟨M3, C3, rt3, lo3, hi3, e1, e2, e3, e4⟩ := fixI_top (cmp := cmp) (ks := ks) (h := h) (sz := sz) (mc := mc) (n := n + 1) (g := g) hrn I2 hC1 hnn (by omega)
  refine ⟨M3, C3, rt3, pup pos n p, lo3, hi3, fun i => if i < p then e i else if i = p then n else e (i - 1), ?_, e2, e3, fun i i0 i1 => ?_, fun a ha => ?_, fun a ha => ?_, by omega, by omega⟩
  · unfold fJ6_addEntry
    rw [c_nO (by decide), ov_new hn hS, c_mnn, J25_init_c hrn hnn, mjn0_b]
    refine (k2 _).trans ?_
    rw [v_mon, e_call0 e1, v_m4, v_q4, v_m5, v_q5]
    rfl
  · show (S _ ∨ _ = n) ∧ _
    unfold pup
    by_cases q1 : i < p
    · obtain ⟨s1, s2⟩ := hG.2.2.1 i i0 (by omega)
      simp only [if_pos q1]
      refine ⟨Or.inl s1, ?_⟩
      rw [if_neg (hsn _ s1), s2, if_pos q1]
    · by_cases q2 : i = p
      · simp only [if_neg q1, if_pos q2]
        refine ⟨Or.inr trivial, ?_⟩
        rw [if_pos trivial, q2]
      · obtain ⟨s1, s2⟩ := hG.2.2.1 (i - 1) (by omega) (by omega)
        simp only [if_neg q1, if_neg q2]
        refine ⟨Or.inl s1, ?_⟩
        rw [if_neg (hsn _ s1), s2, if_neg (by omega)]
        omega
  · unfold pup
    rcases ha with ha | ha
    · have ga := hI.1 a ha
      rw [if_neg (hsn a ha)]
      by_cases q1 : pos a < p
      · simp only [if_pos q1]
        exact hG.2.2.2.1 a ha
      · simp only [if_neg q1]
        rw [if_neg (by omega), if_neg (by omega), show pos a + 1 - 1 = pos a by omega]
        exact hG.2.2.2.1 a ha
    · simp only [if_pos ha, if_neg (Int.lt_irrefl p), if_true]
      exact ha.symm
  · rw [e4 0 (by omega), e4 1 (by omega), m2 0 (by omega), m2 1 (by omega)]
    unfold pup kins
    rcases ha with ha | ha
    · have na := hsn a ha
      have ga := hI.1 a ha
      rw [if_neg na]
      have k0 : (mup (mup (mup (fun f q => if q = n then none else M f q) 0 n (some x)) 1 n v) 4 n (some b)) 0 a = M 0 a := by
        rw [mup_o na, mup_o na, mup_o na]; exact if_neg na
      have k1 : (mup (mup (mup (fun f q => if q = n then none else M f q) 0 n (some x)) 1 n v) 4 n (some b)) 1 a = M 1 a := by
        rw [mup_o na, mup_o na, mup_o na]; exact if_neg na
      rw [k0, k1]
      refine ⟨?_, (hG.2.2.2.2.1 a ha).2⟩
      rw [TG_key hG ha]
      by_cases q1 : pos a < p
      · rw [if_pos q1, if_pos q1]
      · rw [if_neg q1, if_neg (by omega), if_neg (by omega), show pos a + 1 - 1 = pos a by omega]
    · rw [if_pos ha, ha]
      have k0 : (mup (mup (mup (fun f q => if q = n then none else M f q) 0 n (some x)) 1 n v) 4 n (some b)) 0 n = some x := by
        rw [mup_f (by decide), mup_f (by decide), mup_s]
      have k1 : (mup (mup (mup (fun f q => if q = n then none else M f q) 0 n (some x)) 1 n v) 4 n (some b)) 1 n = v := by
        rw [mup_f (by decide), mup_s]
      rw [k0, k1, if_neg (Int.lt_irrefl p), if_pos rfl]
      exact ⟨rfl, hv⟩
/-- the first entry -/
theorem TG_one {S : Nat → Prop} (h0 : ∀ q, S q ↔ q = n) {M : Nat → Nat → Option Nat} {C : Nat → Int32} (hC : okC C) {x : Nat} {v : Option Nat} (hv : PV v) (m0 : M 0 n = some x) (m1 : M 1 n = v) (m2 : M 2 n = none) (m3 : M 3 n = none) (m4 : M 4 n = none) :
    TG S M C (some n) 1 (fun _ => 0) (fun _ => 0) (fun _ => 1) (fun _ => n) (kins kk 0 x) PV := by
  refine ⟨⟨fun q hq => by dsimp only; omega, fun q hq => ?_, fun q hq => ?_, fun q hq => ?_, ?_⟩, hC, fun i _ _ => ?_, fun a ha => ?_, fun a ha => ?_, by omega, by omega⟩
  · left; rw [(h0 q).1 hq]; exact ⟨m2, rfl⟩
  · left; rw [(h0 q).1 hq]; exact ⟨m3, rfl⟩
  · left; rw [(h0 q).1 hq]; exact ⟨m4, rfl⟩
  · right; exact ⟨n, rfl, (h0 n).2 rfl, m4, rfl, rfl⟩
  · exact ⟨(h0 n).2 rfl, by show (0 : Int) = i; omega⟩
  · exact ((h0 a).1 ha).symm
  · rw [(h0 a).1 ha, m0, m1]
    exact ⟨rfl, hv⟩
end
