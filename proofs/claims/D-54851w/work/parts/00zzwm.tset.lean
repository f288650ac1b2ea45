/-! ===== trees told by facts of the heap ===== -/
theorem mb_mret {α : Type} {m : HM α} {σ : Hp} : mb m mret σ = m σ := by
  unfold mb
  cases m σ <;> rfl
theorem ov_self {r : Nat} {S : Nat → Prop} {cmp ks : Option Nat} {H : Nat → Option hC} {M : Nat → Nat → Option Nat} {C : Nat → Int32} {rt : Option Nat} {sz mc : Int32} (h1 : H r = some (mCell cmp rt ks sz mc)) (h2 : ∀ a, S a → H a = some (eCell M C a)) : ov r S cmp ks H M C rt sz mc = H := by
  funext q
  unfold ov
  by_cases e : q = r
  · rw [if_pos e, e, h1]
  · rw [if_neg e]
    by_cases e2 : S q
    · rw [if_pos e2, h2 q e2]
    · rw [if_neg e2]
/-- a map at r, all its cells in A -/
def TS (H : Nat → Option hC) (A : Nat → Prop) (r : Nat) (cmp : Option Nat) (nn : Int) (kk : Int → Nat) (PV : Option Nat → Prop) : Prop :=
  A r ∧ ∃ (S : Nat → Prop) (ks : Option Nat) (mc : Int32) (M : Nat → Nat → Option Nat) (C : Nat → Int32) (rt : Option Nat) (pos lo hi : Nat → Int) (e : Int → Nat), ¬ S r ∧ (∀ a, S a → A a) ∧ H r = some (mCell cmp rt ks (iv nn) mc) ∧ (∀ a, S a → H a = some (eCell M C a)) ∧ TG S M C rt nn pos lo hi e kk PV ∧
    (ks = none ∨ ∃ b, ks = some b ∧ A b ∧ H b = some (.inr (20, [.ref r])))
theorem TS_fr {H H' : Nat → Option hC} {A A' : Nat → Prop} {r : Nat} {cmp : Option Nat} {nn : Int} {kk : Int → Nat} {PV : Option Nat → Prop} (h : TS H A r cmp nn kk PV) (hA : ∀ q, A q → A' q ∧ H' q = H q) : TS H' A' r cmp nn kk PV := by
  obtain ⟨a1, S, ks, mc, M, C, rt, pos, lo, hi, e, b1, b2, b3, b4, b5, b6⟩ := h
  refine ⟨(hA r a1).1, S, ks, mc, M, C, rt, pos, lo, hi, e, b1, fun a ha => (hA a (b2 a ha)).1, by rw [(hA r a1).2]; exact b3, fun a ha => by rw [(hA a (b2 a ha)).2]; exact b4 a ha, b5, ?_⟩
  rcases b6 with b6 | ⟨b, c1, c2, c3⟩
  · exact Or.inl b6
  · exact Or.inr ⟨b, c1, (hA b c2).1, by rw [(hA b c2).2]; exact c3⟩
theorem TS_nn {H : Nat → Option hC} {A : Nat → Prop} {r : Nat} {cmp : Option Nat} {nn : Int} {kk : Int → Nat} {PV : Option Nat → Prop} (h : TS H A r cmp nn kk PV) : 0 ≤ nn ∧ nn ≤ 1000 := by
  obtain ⟨a1, S, ks, mc, M, C, rt, pos, lo, hi, e, b1, b2, b3, b4, b5, b6⟩ := h
  exact b5.2.2.2.2.2
/-- the rank of a key -/
theorem rank_ex {P : Int → Prop} : ∀ (k : Nat), (∀ i j : Int, 0 ≤ i → i < j → j < k → P j → P i) → ∃ p : Int, (0 ≤ p ∧ p ≤ k) ∧ (∀ i, 0 ≤ i → i < p → P i) ∧ ∀ i, p ≤ i → i < k → ¬ P i := by
  intro k
  induction k with
  | zero => intro _; exact ⟨0, by omega, fun i _ _ => by omega, fun i _ _ => by omega⟩
  | succ k ih =>
    intro h
    by_cases q : P k
    · exact ⟨(k : Int) + 1, by omega, fun i i0 i1 => by
        by_cases e : i = k
        · rw [e]; exact q
        · exact h i k i0 (by omega) (by omega) q, fun i i0 i1 => by omega⟩
    · obtain ⟨p, p1, p2, p3⟩ := ih (fun i j a b c d => h i j a b (by omega) d)
      refine ⟨p, by omega, p2, fun i i0 i1 => ?_⟩
      by_cases e : i = k
      · rw [e]; exact q
      · exact p3 i i0 (by omega)
theorem TS_put {g : Nat → Nat} {H : Nat → Option hC} {n : Nat} {A : Nat → Prop} {r : Nat} {nn : Int} {kk : Int → Nat} {PV : Option Nat → Prop} (h : TS H A r none nn kk PV) (hn : H n = none) (hN : nn < 1000) {x : Nat} {v : Option Nat} (hv : PV v) {d : Int → Int} {d0 : Int32} {p : Int} (hp : 0 ≤ p ∧ p ≤ nn)
    (hc : ∀ i, 0 ≤ i → i < nn → (mon 4 (some x) (mcall0 (fX10_compareTo g (some x) (some (kk i))))) (H, n, 0) = some (iv (d i), (H, n, 0)))
    (hs : (mon 4 (some x) (mcall0 (fX10_compareTo g (some x) (some x)))) (H, n, 0) = some (d0, (H, n, 0))) (hk : mcst [4, 15, 16, 23] (some x) (H, n, 0) = some ((), (H, n, 0)))
    (hd : ∀ i, 0 ≤ i → i < nn → -2147483648 ≤ d i ∧ d i < 2147483648) (h1 : ∀ i, 0 ≤ i → i < p → 0 < d i) (h2 : ∀ i, p ≤ i → i < nn → d i < 0) :
    ∃ H' : Nat → Option hC, fJ6_put g (some r) (some x) v (H, n, 0) = some (none, (H', n + 1, 14)) ∧ TS H' (fun q => A q ∨ q = n) r none (nn + 1) (kins kk p x) PV ∧ ∀ q, ¬ A q → q ≠ n → H' q = H q := by
  obtain ⟨a1, S, ks, mc, M, C, rt, pos, lo, hi, e, b1, b2, b3, b4, b5, b6⟩ := h
  have es := ov_self b3 b4
  have nr : n ≠ r := fun w => by rw [w, b3] at hn; cases hn
  have nS : ¬ S n := fun w => by rw [b4 n w] at hn; cases hn
  rw [← es] at hc hs hk
  obtain ⟨M', C', rt', pos', lo', hi', e', k1, k2⟩ := putN_ev b1 b5 nr nS hN hv hp hc hs hk hd h1 h2
  rw [es] at k1
  have hr' : ¬ (S r ∨ r = n) := fun q => q.elim b1 (fun q => nr q.symm)
  refine ⟨_, k1, ⟨Or.inl a1, fun q => S q ∨ q = n, ks, mc + 1, M', C', rt', pos', lo', hi', e', hr', fun a ha => ha.elim (fun q => Or.inl (b2 a q)) Or.inr, ov_r, fun a ha => ov_s hr' ha, k2, ?_⟩, fun q q1 q2 => ov_o (fun w => q1 (by rw [w]; exact a1)) (fun w => w.elim (fun z => q1 (b2 q z)) q2)⟩
  rcases b6 with b6 | ⟨b, c1, c2, c3⟩
  · exact Or.inl b6
  · refine Or.inr ⟨b, c1, Or.inl c2, ?_⟩
    rw [ov_o (fun w => by rw [w, b3] at c3; cases c3) (fun w => w.elim (fun z => by rw [b4 b z] at c3; cases c3) (fun z => by rw [z, hn] at c3; cases c3))]
    exact c3
theorem TS_get {g : Nat → Nat} {H : Nat → Option hC} {n w : Nat} {A : Nat → Prop} {r : Nat} {nn : Int} {kk : Int → Nat} {PV : Option Nat → Prop} (h : TS H A r none nn kk PV) {x : Nat} {d : Int → Int} {p : Int} (hp : 0 ≤ p ∧ p ≤ nn)
    (hc : ∀ i, 0 ≤ i → i < nn → (mon 4 (some x) (mcall0 (fX10_compareTo g (some x) (some (kk i))))) (H, n, 0) = some (iv (d i), (H, n, 0))) (hk : mcst [4, 15, 16, 23] (some x) (H, n, 0) = some ((), (H, n, 0)))
    (hd : ∀ i, 0 ≤ i → i < nn → -2147483648 ≤ d i ∧ d i < 2147483648) (h1 : ∀ i, 0 ≤ i → i < p → 0 < d i) (h2 : ∀ i, p ≤ i → i < nn → d i ≤ 0) (h3 : ∀ i, p < i → i < nn → d i < 0) :
    ((p < nn ∧ d p = 0) ∧ ∃ a, mon 18 (some r) (mcall0 (fJ6_getEntry g (some r) (some x))) (H, n, w) = some (some a, (H, n, w)) ∧
        ∃ H' c, (mon 18 (some r) (mcall0 (fJ6_deleteEntry g (some r) (some a)))) (H, n, w) = some ((), (H', n, w)) ∧ TS H' A r none (nn - 1) (kdel kk p) PV ∧ (∀ q, ¬ A q → H' q = H q) ∧ PV c ∧ ∀ {β : Type} (K : Option Nat → HM β), mb (oR 19 1 (some a)) K (H, n, w) = K c (H, n, w)) ∨
    ((∀ i, 0 ≤ i → i < nn → d i ≠ 0) ∧ mon 18 (some r) (mcall0 (fJ6_getEntry g (some r) (some x))) (H, n, w) = some (none, (H, n, w))) := by
  obtain ⟨a1, S, ks, mc, M, C, rt, pos, lo, hi, e, b1, b2, b3, b4, b5, b6⟩ := h
  have es := ov_self b3 b4
  have hnn := b5.2.2.2.2.2
  have hmon : ∀ {α : Type} (F : HM α), mon 18 (some r) F (H, n, w) = F (H, n, w) := fun F => by
    unfold mon oC
    simp only [b3, mCell, if_true]
  have hm0 : ∀ {α : Type} (F : HM α) (a : α) (H' : Nat → Option hC) (n' u : Nat), F (H, n, 0) = some (a, (H', n', u)) → mcall0 F (H, n, w) = some (a, (H', n', w)) := fun F a H' n' u hF => by
    unfold mcall0
    simp only [hF]
  have ent : ∀ z : Option Nat, (∀ y, rt = some y → fJ6_getEntry_L28 g 5000 (some x) (some y) (H, n, 0) = some (z, (H, n, 0))) → (rt = none → z = none) → mon 18 (some r) (mcall0 (fJ6_getEntry g (some r) (some x))) (H, n, w) = some (z, (H, n, w)) := fun z hz hz0 => by
    rw [hmon]
    refine hm0 _ _ _ _ 0 ?_
    unfold fJ6_getEntry
    have hk' := hk
    rw [← es] at hk'
    rw [← es, v_m2, if_pos rfl, J7_rnn_c, mb_eq hk', v_m3, es]
    cases hrt : rt with
    | none =>
      rw [hz0 hrt, fJ6_getEntry_L28, if_pos rfl]
      rfl
    | some y => exact hz y hrt
  by_cases q : p < nn ∧ d p = 0
  · left
    obtain ⟨sp, pp⟩ := b5.2.2.1 p hp.1 q.1
    refine ⟨q, e p, ent _ (fun y hy => ?_) (fun hy => ?_), ?_⟩
    · obtain ⟨sy, -, y1, y2⟩ := TI_rt b5.1 hy
      have hc' := hc
      rw [← es] at hc' ⊢
      exact srN_in b1 b5 hc' hd q.2 h1 h3 5000 y sy (by omega) (by omega) (by omega)
    · rcases b5.1.2.2.2.2 with ⟨-, z⟩ | ⟨y, z, -⟩
      · omega
      · rw [hy] at z; cases z
    · obtain ⟨p0, M', C', rt', pos', lo', hi', e', c, k0, k1, k2⟩ := delE_ev (g := g) (cmp := none) (ks := ks) (h := H) (sz := iv nn) (mc := mc) (n := n) b1 b5 sp
      rw [es] at k1
      have esz : iv nn - 1 = iv (nn - 1) := iv_sub nn 1
      rw [esz] at k1
      rw [pp] at k2
      have hr' : ¬ (S r ∧ r ≠ p0) := fun z => b1 z.1
      refine ⟨ov r (fun q => S q ∧ q ≠ p0) none ks (hset H p0 c) M' C' rt' (iv (nn - 1)) (mc + 1), M 1 (e p), ?_, ⟨a1, fun q => S q ∧ q ≠ p0, ks, mc + 1, M', C', rt', pos', lo', hi', e', hr', fun a ha => b2 a ha.1, ov_r, fun a ha => ov_s hr' ha, k2, ?_⟩, fun q q1 => ?_, (b5.2.2.2.2.1 (e p) sp).2, fun K => ?_⟩
      · rw [hmon]
        exact hm0 _ _ _ _ 0 k1
      · rcases b6 with b6 | ⟨b, c1, c2, c3⟩
        · exact Or.inl b6
        · refine Or.inr ⟨b, c1, c2, ?_⟩
          have nS : ¬ S b := fun z => by rw [b4 b z] at c3; cases c3
          rw [ov_o (fun w => by rw [w, b3] at c3; cases c3) (fun z => nS z.1), hset_ne (fun z => nS (by rw [z]; exact k0))]
          exact c3
      · rw [ov_o (fun w => q1 (by rw [w]; exact a1)) (fun z => q1 (b2 q z.1)), hset_ne (fun z => q1 (by rw [z]; exact b2 p0 k0))]
      · exact rf_get (b4 (e p) sp) rfl
  · right
    have h2' : ∀ i, p ≤ i → i < nn → d i < 0 := fun i i0 i1 => by
      by_cases z : i = p
      · have := h2 i i0 i1
        rw [z] at this i1 ⊢
        have : d p ≠ 0 := fun w => q ⟨i1, w⟩
        omega
      · exact h3 i (by omega) i1
    refine ⟨fun i i0 i1 => ?_, ent _ (fun y hy => ?_) (fun _ => rfl)⟩
    · by_cases z : i < p
      · have := h1 i i0 z; omega
      · have := h2' i (by omega) i1; omega
    · obtain ⟨sy, -, y1, y2⟩ := TI_rt b5.1 hy
      have hc' := hc
      rw [← es] at hc' ⊢
      exact srN_out b1 b5 hc' hd h1 h2' 4999 y sy (by omega) (by omega) (by omega)
