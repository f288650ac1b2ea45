/-! ===== a tree's iterator ===== -/
/-- a map at r with an iterator at it, ahead of the place i -/
def TI2 (H : Nat → Option hC) (A : Nat → Prop) (r : Nat) (cmp : Option Nat) (nn : Int) (kk : Int → Nat) (PV : Option Nat → Prop) (it : Nat) (i : Int) : Prop :=
  A r ∧ ∃ (S : Nat → Prop) (ks : Option Nat) (mc : Int32) (M : Nat → Nat → Option Nat) (C : Nat → Int32) (rt : Option Nat) (pos lo hi : Nat → Int) (e : Int → Nat) (lr : Option Nat), ¬ S r ∧ (∀ a, S a → A a) ∧ H r = some (mCell cmp rt ks (iv nn) mc) ∧ (∀ a, S a → H a = some (eCell M C a)) ∧ TG S M C rt nn pos lo hi e kk PV ∧
    (ks = none ∨ ∃ b, ks = some b ∧ A b ∧ H b = some (.inr (20, [.ref r]))) ∧ H it = some (.inr (21, [va_rf (if i < nn then some (e i) else none), va_rf lr, .int mc, .ref r]))
theorem TI2_TS {H : Nat → Option hC} {A : Nat → Prop} {r : Nat} {cmp : Option Nat} {nn : Int} {kk : Int → Nat} {PV : Option Nat → Prop} {it : Nat} {i : Int} (h : TI2 H A r cmp nn kk PV it i) : TS H A r cmp nn kk PV := by
  obtain ⟨a1, S, ks, mc, M, C, rt, pos, lo, hi, e, lr, b1, b2, b3, b4, b5, b6, b7⟩ := h
  exact ⟨a1, S, ks, mc, M, C, rt, pos, lo, hi, e, b1, b2, b3, b4, b5, b6⟩
theorem TI2_fr {H H' : Nat → Option hC} {A : Nat → Prop} {r : Nat} {cmp : Option Nat} {nn : Int} {kk : Int → Nat} {PV : Option Nat → Prop} {it : Nat} {i : Int} (h : TI2 H A r cmp nn kk PV it i) (hA : ∀ q, A q → H' q = H q) (hi : H' it = H it) : TI2 H' A r cmp nn kk PV it i := by
  obtain ⟨a1, S, ks, mc, M, C, rt, pos, lo, hi', e, lr, b1, b2, b3, b4, b5, b6, b7⟩ := h
  refine ⟨a1, S, ks, mc, M, C, rt, pos, lo, hi', e, lr, b1, b2, by rw [hA r a1]; exact b3, fun a ha => by rw [hA a (b2 a ha)]; exact b4 a ha, b5, ?_, by rw [hi]; exact b7⟩
  rcases b6 with b6 | ⟨b, c1, c2, c3⟩
  · exact Or.inl b6
  · exact Or.inr ⟨b, c1, c2, by rw [hA b c2]; exact c3⟩
theorem J21_next_c {β : Type} {K : Option Nat → HM β} {g : Nat → Nat} {H : Nat → Option hC} {n w : Nat} {A : Nat → Prop} {r : Nat} {cmp : Option Nat} {nn : Int} {kk : Int → Nat} {PV : Option Nat → Prop} {it : Nat} {i : Int} (h : TI2 H A r cmp nn kk PV it i) (hi : 0 ≤ i ∧ i < nn) :
    ∃ x : hC, mb (mon 21 (some it) (mcall0 (fJ21_next g (some it)))) K (H, n, w) = K (some (kk i)) (hset H it x, n, w) ∧ TI2 (hset H it x) A r cmp nn kk PV it (i + 1) := by
  obtain ⟨a1, S, ks, mc, M, C, rt, pos, lo, hi', e, lr, b1, b2, b3, b4, b5, b6, b7⟩ := h
  have es := ov_self b3 b4
  obtain ⟨se, pe⟩ := b5.2.2.1 i hi.1 hi.2
  rw [if_pos hi.2] at b7
  have nir : it ≠ r := fun w => by rw [w, b3] at b7; cases b7
  have niS : ¬ S it := fun w => by rw [b4 it w] at b7; cases b7
  have b8 : hset H it (.inr (21, [va_rf (if i + 1 < nn then some (e (i + 1)) else none), va_rf lr, .int mc, .ref r])) it = some (.inr (21, [va_rf (if i + 1 < nn then some (e (i + 1)) else none), va_rf lr, .int mc, .ref r])) := hset_at
  have key : fJ20_nextEntry g (some it) (H, n, 0) = some (some (e i), (hset H it (.inr (21, [va_rf (if i + 1 < nn then some (e (i + 1)) else none), va_rf (some (e i)), .int mc, .ref r])), n, 0)) := by
    unfold fJ20_nextEntry
    rw [rf_get b7 rfl, if_neg (fun w => by cases w), rf_get (v := some r) b7 rfl, c_oI b3 rfl, c_oI b7 rfl, if_pos rfl]
    have e1 := fun (K : Option Nat → HM (Option Nat)) => v_suc (K := K) (cmp := cmp) (ks := ks) (h := H) (sz := iv nn) (mc := mc) (n := n) (w := 0) (g := g) b1 b5 se
    rw [es] at e1
    rw [e1, pe, c_pR b7 (show (0 : Nat) < 4 by decide)]
    have e2 : ([va_rf (some (e i)), va_rf lr, Value.int mc, Value.ref r].set 0 (va_rf (if i + 1 < nn then some (e (i + 1)) else none))) = [va_rf (if i + 1 < nn then some (e (i + 1)) else none), va_rf lr, .int mc, .ref r] := rfl
    rw [e2, c_pR b8 (show (1 : Nat) < 4 by decide), hset_hset]
    rfl
  refine ⟨_, ?_, a1, S, ks, mc, M, C, rt, pos, lo, hi', e, some (e i), b1, b2, by rw [hset_ne (fun w => nir w.symm)]; exact b3, fun a ha => by rw [hset_ne (fun w => niS (by rw [← w]; exact ha))]; exact b4 a ha, b5, ?_, hset_at⟩
  · have ne : hset H it (.inr (21, [va_rf (if i + 1 < nn then some (e (i + 1)) else none), va_rf (some (e i)), .int mc, .ref r])) (e i) = some (eCell M C (e i)) := by
      rw [hset_ne (fun w => niS (by rw [← w]; exact se))]
      exact b4 _ se
    have k2 : fJ21_next g (some it) (H, n, 0) = some (some (kk i), (hset H it (.inr (21, [va_rf (if i + 1 < nn then some (e (i + 1)) else none), va_rf (some (e i)), .int mc, .ref r])), n, 0)) := by
      unfold fJ21_next
      rw [c_mon b7, e_call0 key, rf_get (v := M 0 (e i)) ne rfl, TG_key b5 se, pe]
      rfl
    rw [c_mon b7, e_call0 k2]
  · rcases b6 with b6 | ⟨b, c1, c2, c3⟩
    · exact Or.inl b6
    · exact Or.inr ⟨b, c1, c2, by rw [hset_ne (fun w => by rw [w, b7] at c3; cases c3)]; exact c3⟩
theorem J20_hasNext_c {β : Type} {K : Int32 → HM β} {g : Nat → Nat} {H : Nat → Option hC} {n w : Nat} {A : Nat → Prop} {r : Nat} {cmp : Option Nat} {nn : Int} {kk : Int → Nat} {PV : Option Nat → Prop} {it : Nat} {i : Int} (h : TI2 H A r cmp nn kk PV it i) :
    mb (mon 21 (some it) (mcall0 (fJ20_hasNext g (some it)))) K (H, n, w) = K (iv (b2 (i < nn))) (H, n, w) := by
  obtain ⟨a1, S, ks, mc, M, C, rt, pos, lo, hi', e, lr, b1, b2', b3, b4, b5, b6, b7⟩ := h
  rw [c_mon b7]
  refine e_call0 (u' := 0) ?_
  unfold fJ20_hasNext
  rw [rf_get b7 rfl]
  by_cases q : i < nn
  · rw [if_pos q, if_neg (fun w => by cases w), b2_t q]
    exact congrFun (mretT_b (a := 1) (Or.inr rfl)) _
  · rw [if_neg q, if_pos rfl, b2_f q]
    exact congrFun (mretT_b (a := 0) (Or.inl rfl)) _
/-- making an iterator -/
theorem kit_ev {g : Nat → Nat} {H : Nat → Option hC} {n r : Nat} {S : Nat → Prop} {cmp ks rt : Option Nat} {mc : Int32} {M : Nat → Nat → Option Nat} {C : Nat → Int32} {pos lo hi : Nat → Int} {e : Int → Nat} {nn : Int} {kk : Int → Nat} {PV : Option Nat → Prop} (b1 : ¬ S r) (b3 : H r = some (mCell cmp rt ks (iv nn) mc)) (b4 : ∀ a, S a → H a = some (eCell M C a)) (b5 : TG S M C rt nn pos lo hi e kk PV) (hn : H n = none) :
    fJ6_keyIterator g (some r) (H, n, 0) = some (some n, (hset H n (.inr (21, [va_rf (if 0 < nn then some (e 0) else none), .null, .int mc, .ref r])), n + 1, 5)) := by
  have nr : r ≠ n := fun w => by rw [w, hn] at b3; cases b3
  have nS : ¬ S n := fun w => by rw [b4 n w] at hn; cases hn
  have c0 : hset H n (.inr (21, [.null, .null, .int 0, .null])) n = some (.inr (21, [.null, .null, .int 0, .null])) := hset_at
  have c3 : hset H n (.inr (21, [.null, .null, .int 0, .null])) r = some (mCell cmp rt ks (iv nn) mc) := by rw [hset_ne nr]; exact b3
  have c4 : ∀ a, S a → hset H n (.inr (21, [.null, .null, .int 0, .null])) a = some (eCell M C a) := fun a ha => by rw [hset_ne (fun w => nS (by rw [← w]; exact ha))]; exact b4 a ha
  generalize hH : hset H n (.inr (21, [.null, .null, .int 0, .null])) = H1 at c0 c3 c4
  have es := ov_self c3 c4
  have e1 := J6_first_ev (cmp := cmp) (ks := ks) (h := H1) (sz := iv nn) (mc := mc) (n := n + 1) (w := 0) (g := g) b1 b5
  rw [es] at e1
  generalize hf : (if 0 < nn then some (e 0) else none) = f0 at e1
  have d1 : hset H1 n (.inr (21, [.null, .null, .int 0, .ref r])) n = some (.inr (21, [.null, .null, .int 0, .ref r])) := hset_at
  have d2 : hset H1 n (.inr (21, [.null, .null, .int 0, .ref r])) r = some (mCell cmp rt ks (iv nn) mc) := by rw [hset_ne nr]; exact c3
  have d3 : hset H1 n (.inr (21, [.null, .null, .int mc, .ref r])) n = some (.inr (21, [.null, .null, .int mc, .ref r])) := hset_at
  have ei : fJ20_init g (some n) (some r) f0 (H1, n + 1, 0) = some ((), (hset H1 n (.inr (21, [va_rf f0, .null, .int mc, .ref r])), n + 1, 0)) := by
    unfold fJ20_init
    rw [c_pR c0 (show (3 : Nat) < 4 by decide), c_mnn]
    show mb (oI 18 5 (some r)) _ (hset H1 n (.inr (21, [.null, .null, .int 0, .ref r])), n + 1, 0) = _
    rw [c_oI d2 rfl, c_pI d1 (show (2 : Nat) < 4 by decide), hset_hset]
    show mb (pR 21 1 (some n) none) _ (hset H1 n (.inr (21, [.null, .null, .int mc, .ref r])), n + 1, 0) = _
    rw [c_pR d3 (show (1 : Nat) < 4 by decide), hset_hset]
    show mb (pR 21 0 (some n) f0) _ (hset H1 n (.inr (21, [.null, .null, .int mc, .ref r])), n + 1, 0) = _
    rw [c_pR d3 (show (0 : Nat) < 4 by decide), hset_hset]
    rfl
  have ej : fJ21_init g (some n) (some r) f0 (H1, n + 1, 0) = some ((), (hset H1 n (.inr (21, [va_rf f0, .null, .int mc, .ref r])), n + 1, 0)) := by
    unfold fJ21_init
    rw [c_mnn, e_call0 ei]
    rfl
  unfold fJ6_keyIterator
  rw [c_nO (by decide), hH, c_mon c3, e_call0 e1, c_mnn, e_call0 ej, ← hH, hset_hset]
  rfl
theorem J22_iterator_ev {g : Nat → Nat} {H : Nat → Option hC} {n v r : Nat} {S : Nat → Prop} {cmp ks rt : Option Nat} {mc : Int32} {M : Nat → Nat → Option Nat} {C : Nat → Int32} {pos lo hi : Nat → Int} {e : Int → Nat} {nn : Int} {kk : Int → Nat} {PV : Option Nat → Prop} (b1 : ¬ S r) (b3 : H r = some (mCell cmp rt ks (iv nn) mc)) (b4 : ∀ a, S a → H a = some (eCell M C a)) (b5 : TG S M C rt nn pos lo hi e kk PV) (hn : H n = none) (hv : H v = some (.inr (20, [.ref r]))) :
    fJ22_iterator g (some v) (H, n, 0) = some (some n, (hset H n (.inr (21, [va_rf (if 0 < nn then some (e 0) else none), .null, .int mc, .ref r])), n + 1, 5)) := by
  have ek := kit_ev (g := g) b1 b3 b4 b5 hn
  have em : ∀ (K : Int32 → HM (Option Nat)), mb (mins [18] [] (some r)) K (H, n, 0) = K 1 (H, n, 0) := fun K => by
    unfold mb mins oC
    simp only [b3, mCell]
    simp
  unfold fJ22_iterator
  rw [rf_get (v := some r) hv rfl, em, if_neg (by decide), rf_get (v := some r) hv rfl, c_mcst b3 (by decide), c_mon b3, c_mcall ek (by decide)]
  rfl
theorem J4_iterator_ev {g : Nat → Nat} {H : Nat → Option hC} {n s : Nat} {A : Nat → Prop} {r : Nat} {nn : Int} {kk : Int → Nat} {PV : Option Nat → Prop} (h : TS H A r none nn kk PV) (hs : H s = some (.inr (17, [.ref r]))) (hn : ∀ q, n ≤ q → H q = none) :
    ∃ (H' : Nat → Option hC) (n' it : Nat), fJ4_iterator g (some s) (H, n, 0) = some (some it, (H', n', 7)) ∧ (n ≤ it ∧ it < n' ∧ n' ≤ n + 2) ∧ TI2 H' (fun q => A q ∨ (q = n ∧ it ≠ n)) r none nn kk PV it 0 ∧ (∀ q, ¬ A q → q < n → H' q = H q) ∧ (∀ q, n' ≤ q → H' q = none) ∧ ∀ q, q < n → q ≠ r → H' q = H q := by
  obtain ⟨a1, S, ks, mc, M, C, rt, pos, lo, hi, e, b1, b2, b3, b4, b5, b6⟩ := h
  have hn0 := hn n (Nat.le_refl n)
  have nr : r ≠ n := fun w => by rw [w, hn0] at b3; cases b3
  have nS : ¬ S n := fun w => by rw [b4 n w] at hn0; cases hn0
  have ns : s ≠ n := fun w => by rw [w, hn0] at hs; cases hs
  have hlt : ∀ q, H q ≠ none → q < n := fun q hq => Classical.byContradiction (fun w => hq (hn q (by omega)))
  rcases b6 with b6 | ⟨v, c1, c2, c3⟩
  · -- the view is made
    have v0 : hset H n (.inr (20, [.null])) n = some (.inr (20, [.null])) := hset_at
    have v3 : hset H n (.inr (20, [.ref r])) r = some (mCell none rt ks (iv nn) mc) := by rw [hset_ne nr]; exact b3
    have ei : fJ22_init g (some n) (some r) (hset H n (.inr (20, [.null])), n + 1, 0) = some ((), (hset H n (.inr (20, [.ref r])), n + 1, 0)) := by
      have e0 : ∀ (H : Nat → Option hC), fJ0_init g (some n) (H, n + 1, 0) = some ((), (H, n + 1, 0)) := fun H => by unfold fJ0_init; rw [c_mnn]; rfl
      have e3 : ∀ (H : Nat → Option hC), fJ3_init g (some n) (H, n + 1, 0) = some ((), (H, n + 1, 0)) := fun H => by unfold fJ3_init; rw [c_mnn, e_call0 (e0 H)]; rfl
      unfold fJ22_init
      rw [c_mnn, e_call0 (e3 _), c_pR v0 (show (0 : Nat) < 1 by decide), hset_hset]
      rfl
    have ev : fJ6_navigableKeySet g (some r) (H, n, 0) = some (some n, (hset (hset H n (.inr (20, [.ref r]))) r (mCell none rt (some n) (iv nn) mc), n + 1, 2)) := by
      unfold fJ6_navigableKeySet
      rw [rf_get b3 rfl, b6, if_pos rfl, c_nO (by decide), c_mnn, e_call0 ei, c_pR v3 (show (7 : Nat) < 9 by decide)]
      rfl
    have d3 : hset (hset H n (.inr (20, [.ref r]))) r (mCell none rt (some n) (iv nn) mc) r = some (mCell none rt (some n) (iv nn) mc) := hset_at
    have dv : hset (hset H n (.inr (20, [.ref r]))) r (mCell none rt (some n) (iv nn) mc) n = some (.inr (20, [.ref r])) := by rw [hset_ne (fun w => nr w.symm)]; exact hset_at
    have d4 : ∀ a, S a → hset (hset H n (.inr (20, [.ref r]))) r (mCell none rt (some n) (iv nn) mc) a = some (eCell M C a) := fun a ha => by rw [hset_ne (fun w => b1 (by rw [← w]; exact ha)), hset_ne (fun w => nS (by rw [← w]; exact ha))]; exact b4 a ha
    have dn : hset (hset H n (.inr (20, [.ref r]))) r (mCell none rt (some n) (iv nn) mc) (n + 1) = none := by
      have : n + 1 ≠ r := fun w => by
        have := hlt r (by rw [b3]; exact fun z => by cases z)
        omega
      rw [hset_ne this, hset_ne (by omega)]; exact hn _ (by omega)
    have do' : ∀ q, q ≠ n → q ≠ r → hset (hset H n (.inr (20, [.ref r]))) r (mCell none rt (some n) (iv nn) mc) q = H q := fun q q1 q2 => by rw [hset_ne q2, hset_ne q1]
    generalize hset (hset H n (.inr (20, [.ref r]))) r (mCell none rt (some n) (iv nn) mc) = H1 at ev d3 dv d4 dn do'
    have eit := J22_iterator_ev (g := g) b1 d3 d4 b5 dn dv
    have n1r : r ≠ n + 1 := fun w => by rw [w, dn] at d3; cases d3
    have n1S : ¬ S (n + 1) := fun w => by rw [d4 _ w] at dn; cases dn
    refine ⟨hset H1 (n + 1) (.inr (21, [va_rf (if 0 < nn then some (e 0) else none), .null, .int mc, .ref r])), n + 2, n + 1, ?_, by omega, ⟨Or.inl a1, S, some n, mc, M, C, rt, pos, lo, hi, e, none, b1, fun a ha => Or.inl (b2 a ha), ?_, fun a ha => ?_, b5, Or.inr ⟨n, rfl, Or.inr ⟨rfl, by omega⟩, ?_⟩, hset_at⟩, fun q q1 q2 => ?_, fun q q1 => ?_, fun q q1 q2 => ?_⟩
    · unfold fJ4_iterator
      rw [rf_get (v := some r) hs rfl, c_mon b3, c_mcall ev (by decide), c_mon dv, c_mcall eit (by decide)]
      rfl
    · rw [hset_ne n1r]; exact d3
    · rw [hset_ne (fun w => n1S (by rw [← w]; exact ha))]; exact d4 a ha
    · rw [hset_ne (by omega)]; exact dv
    · rw [hset_ne (by omega)]
      exact do' q (by omega) (fun w => q1 (by rw [w]; exact a1))
    · have : q ≠ r := fun w => by
        have := hlt r (by rw [b3]; exact fun z => by cases z)
        omega
      rw [hset_ne (by omega), do' q (by omega) this]
      exact hn q (by omega)
    · rw [hset_ne (by omega)]
      exact do' q (by omega) q2
  · have ev : fJ6_navigableKeySet g (some r) (H, n, 0) = some (some v, (H, n, 0)) := by
      unfold fJ6_navigableKeySet
      rw [rf_get b3 rfl, c1, if_neg (fun w => by cases w)]
      rfl
    have eit := J22_iterator_ev (g := g) b1 b3 b4 b5 hn0 c3
    have nv : v ≠ n := fun w => by rw [w, hn0] at c3; cases c3
    refine ⟨hset H n (.inr (21, [va_rf (if 0 < nn then some (e 0) else none), .null, .int mc, .ref r])), n + 1, n, ?_, by omega, ⟨Or.inl a1, S, ks, mc, M, C, rt, pos, lo, hi, e, none, b1, fun a ha => Or.inl (b2 a ha), ?_, fun a ha => ?_, b5, Or.inr ⟨v, c1, Or.inl c2, ?_⟩, hset_at⟩, fun q q1 q2 => ?_, fun q q1 => ?_, fun q q1 q2 => ?_⟩
    · unfold fJ4_iterator
      rw [rf_get (v := some r) hs rfl, c_mon b3, c_mcall ev (by decide), c_mon c3, c_mcall eit (by decide)]
      rfl
    · rw [hset_ne nr]; exact b3
    · rw [hset_ne (fun w => nS (by rw [← w]; exact ha))]; exact b4 a ha
    · rw [hset_ne nv]; exact c3
    · rw [hset_ne (by omega)]
    · rw [hset_ne (by omega)]; exact hn q (by omega)
    · rw [hset_ne (by omega)]
