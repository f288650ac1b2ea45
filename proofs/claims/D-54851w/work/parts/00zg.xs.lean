/-! ===== the mathematical state: row, saved rows, snapshot, text; what each call answers ===== -/
abbrev XS : Type := (Int → Int) × List (Int → Int) × Option (Int → Int) × (Int → Int) × Int
def xpush (hs : List (Int → Int)) (z : Int → Int) : List (Int → Int) := if hs.length = 5 then hs.tail ++ [z] else hs ++ [z]
def xupd (x : XS) (z : Int → Int) : XS := (z, xpush x.2.1 x.1, x.2.2)
def xeq (x x' : XS) : Prop := zeq x.1 x'.1 ∧ x'.2 = x.2
theorem xeq_rf {x : XS} : xeq x x := ⟨zeq_rf, rfl⟩
def MS (M : Mm) (x : XS) : Prop := x.1 = M 1 ∧ wZ x.1 ∧ (x.2.1.length ≤ 5 ∧ M 0 3 = x.2.1.length ∧ ∀ (j : Nat) (z : Int → Int), x.2.1[j]? = some z → zeq z (hrow M j) ∧ wZ z) ∧
  ((x.2.2.1 = none ∧ M 0 5 = 0) ∨ ∃ s, x.2.2.1 = some s ∧ M 0 5 = 1 ∧ zeq s (M 4) ∧ wZ s) ∧ (M 6 = x.2.2.2.1 ∧ M 0 7 = x.2.2.2.2 ∧ txt x.2.2.2.1 x.2.2.2.2)
def qeff (M M' : Mm) : Prop := zeq (M 1) (M' 1) ∧ (∀ b, b ≠ 0 → b ≠ 1 → b ≠ 8 → b ≠ 9 → b ≠ 10 → M' b = M b) ∧ ∀ j, 1 ≤ j → j < 11 → M' 0 j = M 0 j
theorem MS_q {M M' : Mm} {x : XS} (h : MS M x) (q : qeff M M') : MS M' (M' 1, x.2) ∧ xeq x (M' 1, x.2) := by
  obtain ⟨h1, h2, ⟨h3, h4, h5⟩, h6, h7, h8, h9⟩ := h
  obtain ⟨q1, q2, q3⟩ := q
  rw [← h1] at q1
  refine ⟨⟨rfl, wZ_zeq q1 h2, ⟨h3, by rw [q3 3 (by omega) (by omega)]; exact h4, fun j z hj => ?_⟩, ?_, ?_, ?_, h9⟩, q1, rfl⟩
  · have e : hrow M' j = hrow M j := by unfold hrow; rw [q2 2 (by decide) (by decide) (by decide) (by decide) (by decide)]
    rw [e]; exact h5 j z hj
  · rcases h6 with ⟨a, b⟩ | ⟨s, a, b, c, d⟩
    · exact Or.inl ⟨a, by rw [q3 5 (by omega) (by omega)]; exact b⟩
    · exact Or.inr ⟨s, a, by rw [q3 5 (by omega) (by omega)]; exact b, by rw [q2 4 (by decide) (by decide) (by decide) (by decide) (by decide)]; exact c, d⟩
  · rw [q2 6 (by decide) (by decide) (by decide) (by decide) (by decide)]; exact h7
  · rw [q3 7 (by omega) (by omega)]; exact h8
/-- a record, and what came behind it -/
def ueff (M M' : Mm) : Prop := M' 0 3 = hnx (M 0 3) ∧ zeq (M 1) (hrow M' (hnx (M 0 3) - 1)) ∧ (∀ j i, 0 ≤ j → j < hnx (M 0 3) - 1 → 0 ≤ i → i < 631 → hrow M' j i = if M 0 3 = 5 then hrow M (j + 1) i else hrow M j i) ∧ M' 4 = M 4 ∧ M' 6 = M 6 ∧ M' 0 5 = M 0 5 ∧ M' 0 7 = M 0 7
theorem rel_rg {z : Int → Int} (h : wZ z) {i : Int} (hi : rel z i) : 0 ≤ i ∧ i < 631 := by
  have h60 := wZ_60 h
  have h15 := wZ_15 h
  have h2 := h.1.2.2.1
  unfold rel at hi
  omega
theorem MS_h {M M' : Mm} {x : XS} (h : MS M x) (u : ueff M M') : (xpush x.2.1 x.1).length ≤ 5 ∧ M' 0 3 = (xpush x.2.1 x.1).length ∧ ∀ (j : Nat) (z : Int → Int), (xpush x.2.1 x.1)[j]? = some z → zeq z (hrow M' j) ∧ wZ z := by
  obtain ⟨h1, h2, ⟨h3, h4, h5⟩, -⟩ := h
  obtain ⟨u1, u2, u3, -⟩ := u
  unfold xpush
  by_cases hl : x.2.1.length = 5
  · have e5 : M 0 3 = 5 := by omega
    have en : hnx (M 0 3) = 5 := by unfold hnx; rw [if_pos e5]
    rw [en] at u1 u2 u3
    rw [if_pos hl]
    have ht : x.2.1.tail.length = 4 := by rw [List.length_tail, hl]
    refine ⟨by rw [List.length_append, ht, List.length_singleton]; exact Nat.le_refl 5, by rw [u1, List.length_append, ht]; rfl, fun j z hj => ?_⟩
    by_cases hj4 : j < 4
    · rw [List.getElem?_append_left (by omega), List.getElem?_tail] at hj
      obtain ⟨a, b⟩ := h5 (j + 1) z hj
      refine ⟨fun i hi => ?_, b⟩
      have hr := rel_rg b hi
      rw [u3 j i (by omega) (by omega) hr.1 hr.2, if_pos e5]
      exact a i hi
    · rw [List.getElem?_append_right (by omega), ht] at hj
      have hj2 : j - 4 = 0 := by
        by_cases q : j - 4 = 0
        · exact q
        · rw [List.getElem?_eq_none (by simp; omega)] at hj; cases hj
      rw [hj2] at hj
      have e : x.1 = z := Option.some.inj hj
      subst e
      refine ⟨fun i hi => ?_, h2⟩
      rw [show ((j : Nat) : Int) = 5 - 1 by omega, u2 i (by rw [← h1]; exact hi), h1]
  · have e5 : ¬ M 0 3 = 5 := by omega
    have en : hnx (M 0 3) = M 0 3 + 1 := by unfold hnx; rw [if_neg e5]
    rw [en] at u1 u2 u3
    rw [if_neg hl]
    refine ⟨by rw [List.length_append]; simp only [List.length_cons, List.length_nil]; omega, by rw [u1, List.length_append, h4]; simp, fun j z hj => ?_⟩
    by_cases hjl : j < x.2.1.length
    · rw [List.getElem?_append_left hjl] at hj
      obtain ⟨a, b⟩ := h5 j z hj
      refine ⟨fun i hi => ?_, b⟩
      have hr := rel_rg b hi
      rw [u3 j i (by omega) (by omega) hr.1 hr.2, if_neg e5]
      exact a i hi
    · rw [List.getElem?_append_right (by omega)] at hj
      have hj2 : j - x.2.1.length = 0 := by
        by_cases q : j - x.2.1.length = 0
        · exact q
        · rw [List.getElem?_eq_none (by simp; omega)] at hj; cases hj
      rw [hj2] at hj
      have e : x.1 = z := Option.some.inj hj
      subst e
      refine ⟨fun i hi => ?_, h2⟩
      rw [show ((j : Nat) : Int) = M 0 3 + 1 - 1 by omega, u2 i (by rw [← h1]; exact hi), h1]
theorem MS_u {M M' : Mm} {x : XS} (h : MS M x) (u : ueff M M') {z' : Int → Int} (hz : zeq z' (M' 1)) (hw : wZ z') : MS M' (M' 1, (xupd x z').2) ∧ xeq (xupd x z') (M' 1, (xupd x z').2) := by
  have hh := MS_h h u
  obtain ⟨h1, h2, -, h6, h7, h8, h9⟩ := h
  obtain ⟨u1, u2, u3, u4, u5, u6, u7⟩ := u
  refine ⟨⟨rfl, wZ_zeq hz hw, hh, ?_, by rw [u5]; exact h7, by rw [u7]; exact h8, h9⟩, hz, rfl⟩
  rcases h6 with ⟨a, b⟩ | ⟨s, a, b, c, d⟩
  · exact Or.inl ⟨a, by rw [u6]; exact b⟩
  · exact Or.inr ⟨s, a, by rw [u6]; exact b, by rw [u4]; exact c, d⟩
/-- the model's answer -/
def MR (m : Nat) (h : Nat → Option hC) (n : Nat) (res : Option (Int32 × Hp)) (o : Int × Int × XS) : Prop := ∃ (M' : Mm) (r : Int32), res = some (r, (md m M' h, n, 0)) ∧ M' 0 0 = o.1 ∧ (o.1 = 0 → r = iv o.2.1) ∧ ∃ x', MS M' x' ∧ xeq o.2.2 x'
theorem MR_q {m n : Nat} {h : Nat → Option hC} {res : Option (Int32 × Hp)} {M : Mm} {x : XS} {t v : Int} (hs : MS M x) (M' : Mm) (r : Int32) (e : res = some (r, (md m M' h, n, 0))) (ht : M' 0 0 = t) (hv : t = 0 → r = iv v) (q : qeff M M') : MR m h n res (t, v, x) := by
  obtain ⟨a, b⟩ := MS_q hs q
  exact ⟨M', r, e, ht, hv, _, a, b⟩
theorem qeff_0 {M : Mm} {t : Int} : qeff M (mu M 0 0 t) := ⟨by rw [mu_ob (by decide)]; exact zeq_rf, fun b b0 _ _ _ _ => mu_ob b0, fun j a _ => mu_ni (by omega)⟩
theorem qeff_of {M M1 M' : Mm} {t : Int} (h1 : M1 = mu M 0 0 t) (h : qsm M1 M') (hz : zeq (M1 1) (M' 1)) : qeff M M' := by
  subst h1
  rw [mu_ob (by decide)] at hz
  refine ⟨hz, fun b b0 b1 b8 b9 b10 => by rw [h b b1 b8 b9 b10, mu_ob b0], fun j a _ => ?_⟩
  rw [h 0 (by decide) (by decide) (by decide) (by decide), mu_ni (by omega)]
theorem qsm_0 {M M' : Mm} {t : Int} (h : qsm (mu M 0 0 t) M') : M' 0 0 = t := by
  rw [h 0 (by decide) (by decide) (by decide) (by decide), mu_eq]
