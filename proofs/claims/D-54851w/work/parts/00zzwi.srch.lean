/-! ===== searching a tree; where a new key comes to ===== -/
section
variable {r : Nat} {S : Nat → Prop} {cmp ks : Option Nat} {h : Nat → Option hC} {M : Nat → Nat → Option Nat} {C : Nat → Int32} {rt : Option Nat} {sz mc : Int32} {n w : Nat} {g : Nat → Nat} {nn : Int} {pos lo hi : Nat → Int} {e kk : Int → Nat} {PV : Option Nat → Prop}
theorem srN_in (hr : ¬ S r) (hG : TG S M C rt nn pos lo hi e kk PV) {x : Nat} {d : Int → Int} {p : Int} (hc : ∀ i, 0 ≤ i → i < nn → (mon 4 (some x) (mcall0 (fX10_compareTo g (some x) (some (kk i))))) (ov r S cmp ks h M C rt sz mc, n, w) = some (iv (d i), (ov r S cmp ks h M C rt sz mc, n, w))) (hd : ∀ i, 0 ≤ i → i < nn → -2147483648 ≤ d i ∧ d i < 2147483648) (hp : d p = 0) (h1 : ∀ i, 0 ≤ i → i < p → 0 < d i) (h2 : ∀ i, p < i → i < nn → d i < 0) :
    ∀ (k a : Nat), S a → lo a ≤ p → p < hi a → hi a - lo a < k → fJ6_getEntry_L28 g k (some x) (some a) (ov r S cmp ks h M C rt sz mc, n, w) = some (some (e p), (ov r S cmp ks h M C rt sz mc, n, w)) := by
  have hI := hG.1
  intro k
  induction k with
  | zero =>
    intro a ha _ _ hk
    have := hI.1 a ha
    omega
  | succ k ih =>
    intro a ha u1 u2 hk
    have ga := hI.1 a ha
    have gd := hd (pos a) (by omega) (by omega)
    rw [fJ6_getEntry_L28, if_neg (fun q => by cases q), v_e0 hr ha, TG_key hG ha, mb_eq (hc (pos a) (by omega) (by omega))]
    by_cases q1 : pos a < p
    · have := h1 (pos a) (by omega) q1
      rw [if_pos (by show iv 0 ≤ iv _; rw [iv_le (by omega) gd]; omega), if_neg (by show ¬ iv _ ≤ iv 0; rw [iv_le gd (by omega)]; omega), v_e3 hr ha]
      cases hc3 : M 3 a with
      | none => have := TI_r0 hI ha hc3; omega
      | some b =>
        obtain ⟨b1, b2, b3, b4⟩ := TI_r hI ha hc3
        exact ih b b1 (by omega) (by omega) (by omega)
    · by_cases q2 : p < pos a
      · have := h2 (pos a) q2 (by omega)
        rw [if_neg (by show ¬ iv 0 ≤ iv _; rw [iv_le (by omega) gd]; omega), v_e2 hr ha]
        cases hc3 : M 2 a with
        | none => have := TI_l0 hI ha hc3; omega
        | some b =>
          obtain ⟨b1, b2, b3, b4⟩ := TI_l hI ha hc3
          exact ih b b1 (by omega) (by omega) (by omega)
      · have q3 : pos a = p := by omega
        rw [q3, hp, if_pos (by show iv 0 ≤ iv 0; rw [iv_le (by omega) (by omega)]; omega), if_pos (by show iv 0 ≤ iv 0; rw [iv_le (by omega) (by omega)]; omega), ← q3, hG.2.2.2.1 a ha]
        rfl
theorem srN_out (hr : ¬ S r) (hG : TG S M C rt nn pos lo hi e kk PV) {x : Nat} {d : Int → Int} {p : Int} (hc : ∀ i, 0 ≤ i → i < nn → (mon 4 (some x) (mcall0 (fX10_compareTo g (some x) (some (kk i))))) (ov r S cmp ks h M C rt sz mc, n, w) = some (iv (d i), (ov r S cmp ks h M C rt sz mc, n, w))) (hd : ∀ i, 0 ≤ i → i < nn → -2147483648 ≤ d i ∧ d i < 2147483648) (h1 : ∀ i, 0 ≤ i → i < p → 0 < d i) (h2 : ∀ i, p ≤ i → i < nn → d i < 0) :
    ∀ (k a : Nat), S a → lo a ≤ p → p ≤ hi a → hi a - lo a < k → fJ6_getEntry_L28 g (k + 1) (some x) (some a) (ov r S cmp ks h M C rt sz mc, n, w) = some (none, (ov r S cmp ks h M C rt sz mc, n, w)) := by
  have hI := hG.1
  intro k
  induction k with
  | zero =>
    intro a ha _ _ hk
    have := hI.1 a ha
    omega
  | succ k ih =>
    intro a ha u1 u2 hk
    have ga := hI.1 a ha
    have gd := hd (pos a) (by omega) (by omega)
    have e0 : fJ6_getEntry_L28 g (k + 1) (some x) none (ov r S cmp ks h M C rt sz mc, n, w) = some (none, (ov r S cmp ks h M C rt sz mc, n, w)) := by
      rw [fJ6_getEntry_L28, if_pos rfl]
      rfl
    rw [fJ6_getEntry_L28, if_neg (fun q => by cases q), v_e0 hr ha, TG_key hG ha, mb_eq (hc (pos a) (by omega) (by omega))]
    by_cases q1 : pos a < p
    · have := h1 (pos a) (by omega) q1
      rw [if_pos (by show iv 0 ≤ iv _; rw [iv_le (by omega) gd]; omega), if_neg (by show ¬ iv _ ≤ iv 0; rw [iv_le gd (by omega)]; omega), v_e3 hr ha]
      cases hc3 : M 3 a with
      | none => exact e0
      | some b =>
        obtain ⟨b1, b2, b3, b4⟩ := TI_r hI ha hc3
        exact ih b b1 (by omega) (by omega) (by omega)
    · have := h2 (pos a) (by omega) (by omega)
      rw [if_neg (by show ¬ iv 0 ≤ iv _; rw [iv_le (by omega) gd]; omega), v_e2 hr ha]
      cases hc3 : M 2 a with
      | none => exact e0
      | some b =>
        obtain ⟨b1, b2, b3, b4⟩ := TI_l hI ha hc3
        exact ih b b1 (by omega) (by omega) (by omega)
theorem srN_put (hr : ¬ S r) (hG : TG S M C rt nn pos lo hi e kk PV) {x : Nat} {d : Int → Int} {p : Int} (hc : ∀ i, 0 ≤ i → i < nn → (mon 4 (some x) (mcall0 (fX10_compareTo g (some x) (some (kk i))))) (ov r S cmp ks h M C rt sz mc, n, w) = some (iv (d i), (ov r S cmp ks h M C rt sz mc, n, w))) (hd : ∀ i, 0 ≤ i → i < nn → -2147483648 ≤ d i ∧ d i < 2147483648) (h1 : ∀ i, 0 ≤ i → i < p → 0 < d i) (h2 : ∀ i, p ≤ i → i < nn → d i < 0) {v0 v2 : Option Nat} {v3 : Int32} {K0 : Option Nat → HM (Option Nat)} {K1 : Int32 → Option Nat → HM (Option Nat)} :
    ∀ (k a : Nat), S a → lo a ≤ p → p ≤ hi a → hi a - lo a < k → ∃ b, fJ6_put_2_L123 g k v0 (some x) v2 v3 (some a) (some x) K0 K1 (ov r S cmp ks h M C rt sz mc, n, w) = K1 (iv (d (pos b))) (some b) (ov r S cmp ks h M C rt sz mc, n, w) ∧ S b ∧ ((M 2 b = none ∧ p = pos b ∧ d (pos b) < 0) ∨ (M 3 b = none ∧ p = pos b + 1 ∧ 0 < d (pos b))) := by
  have hI := hG.1
  intro k
  induction k with
  | zero =>
    intro a ha _ _ hk
    have := hI.1 a ha
    omega
  | succ k ih =>
    intro a ha u1 u2 hk
    have ga := hI.1 a ha
    have gd := hd (pos a) (by omega) (by omega)
    rw [fJ6_put_2_L123, v_e0 hr ha, TG_key hG ha, mb_eq (hc (pos a) (by omega) (by omega)), mjn_b]
    by_cases q1 : pos a < p
    · have d1 := h1 (pos a) (by omega) q1
      rw [if_pos (by show iv 0 ≤ iv _; rw [iv_le (by omega) gd]; omega), if_neg (by show ¬ iv _ ≤ iv 0; rw [iv_le gd (by omega)]; omega), v_e3 hr ha]
      cases hc3 : M 3 a with
      | none =>
        have := TI_r0 hI ha hc3
        exact ⟨a, by dsimp only; rw [if_pos rfl], ha, Or.inr ⟨hc3, by omega, d1⟩⟩
      | some b =>
        obtain ⟨b1, b2, b3, b4⟩ := TI_r hI ha hc3
        dsimp only
        rw [if_neg (fun q => by cases q)]
        exact ih b b1 (by omega) (by omega) (by omega)
    · have d1 := h2 (pos a) (by omega) (by omega)
      rw [if_neg (by show ¬ iv 0 ≤ iv _; rw [iv_le (by omega) gd]; omega), v_e2 hr ha]
      cases hc3 : M 2 a with
      | none =>
        have := TI_l0 hI ha hc3
        exact ⟨a, by dsimp only; rw [if_pos rfl], ha, Or.inl ⟨hc3, by omega, d1⟩⟩
      | some b =>
        obtain ⟨b1, b2, b3, b4⟩ := TI_l hI ha hc3
        dsimp only
        rw [if_neg (fun q => by cases q)]
        exact ih b b1 (by omega) (by omega) (by omega)
theorem srC_in (hr : ¬ S r) (hG : TG S M C rt nn pos lo hi e kk PV) {x c : Nat} {d : Int → Int} {p : Int} (hc : ∀ i, 0 ≤ i → i < nn → (mdsp (some c) [(9, mcall0 (fX11_compare g (some c) (some x) (some (kk i)))), (10, mcall0 (fX12_compare g (some c) (some x) (some (kk i))))]) (ov r S cmp ks h M C rt sz mc, n, w) = some (iv (d i), (ov r S cmp ks h M C rt sz mc, n, w))) (hd : ∀ i, 0 ≤ i → i < nn → -2147483648 ≤ d i ∧ d i < 2147483648) (hp : d p = 0) (h1 : ∀ i, 0 ≤ i → i < p → 0 < d i) (h2 : ∀ i, p < i → i < nn → d i < 0) :
    ∀ (k a : Nat), S a → lo a ≤ p → p < hi a → hi a - lo a < k → fJ6_getEntryUsingComparator_L17 g k (some x) (some c) (some a) (ov r S cmp ks h M C rt sz mc, n, w) = some (some (e p), (ov r S cmp ks h M C rt sz mc, n, w)) := by
  have hI := hG.1
  intro k
  induction k with
  | zero =>
    intro a ha _ _ hk
    have := hI.1 a ha
    omega
  | succ k ih =>
    intro a ha u1 u2 hk
    have ga := hI.1 a ha
    have gd := hd (pos a) (by omega) (by omega)
    rw [fJ6_getEntryUsingComparator_L17, if_neg (fun q => by cases q), v_e0 hr ha, TG_key hG ha, mb_eq (hc (pos a) (by omega) (by omega))]
    by_cases q1 : pos a < p
    · have := h1 (pos a) (by omega) q1
      rw [if_pos (by show iv 0 ≤ iv _; rw [iv_le (by omega) gd]; omega), if_neg (by show ¬ iv _ ≤ iv 0; rw [iv_le gd (by omega)]; omega), v_e3 hr ha]
      cases hc3 : M 3 a with
      | none => have := TI_r0 hI ha hc3; omega
      | some b =>
        obtain ⟨b1, b2, b3, b4⟩ := TI_r hI ha hc3
        exact ih b b1 (by omega) (by omega) (by omega)
    · by_cases q2 : p < pos a
      · have := h2 (pos a) q2 (by omega)
        rw [if_neg (by show ¬ iv 0 ≤ iv _; rw [iv_le (by omega) gd]; omega), v_e2 hr ha]
        cases hc3 : M 2 a with
        | none => have := TI_l0 hI ha hc3; omega
        | some b =>
          obtain ⟨b1, b2, b3, b4⟩ := TI_l hI ha hc3
          exact ih b b1 (by omega) (by omega) (by omega)
      · have q3 : pos a = p := by omega
        rw [q3, hp, if_pos (by show iv 0 ≤ iv 0; rw [iv_le (by omega) (by omega)]; omega), if_pos (by show iv 0 ≤ iv 0; rw [iv_le (by omega) (by omega)]; omega), ← q3, hG.2.2.2.1 a ha]
        rfl
theorem srC_out (hr : ¬ S r) (hG : TG S M C rt nn pos lo hi e kk PV) {x c : Nat} {d : Int → Int} {p : Int} (hc : ∀ i, 0 ≤ i → i < nn → (mdsp (some c) [(9, mcall0 (fX11_compare g (some c) (some x) (some (kk i)))), (10, mcall0 (fX12_compare g (some c) (some x) (some (kk i))))]) (ov r S cmp ks h M C rt sz mc, n, w) = some (iv (d i), (ov r S cmp ks h M C rt sz mc, n, w))) (hd : ∀ i, 0 ≤ i → i < nn → -2147483648 ≤ d i ∧ d i < 2147483648) (h1 : ∀ i, 0 ≤ i → i < p → 0 < d i) (h2 : ∀ i, p ≤ i → i < nn → d i < 0) :
    ∀ (k a : Nat), S a → lo a ≤ p → p ≤ hi a → hi a - lo a < k → fJ6_getEntryUsingComparator_L17 g (k + 1) (some x) (some c) (some a) (ov r S cmp ks h M C rt sz mc, n, w) = some (none, (ov r S cmp ks h M C rt sz mc, n, w)) := by
  have hI := hG.1
  intro k
  induction k with
  | zero =>
    intro a ha _ _ hk
    have := hI.1 a ha
    omega
  | succ k ih =>
    intro a ha u1 u2 hk
    have ga := hI.1 a ha
    have gd := hd (pos a) (by omega) (by omega)
    have e0 : fJ6_getEntryUsingComparator_L17 g (k + 1) (some x) (some c) none (ov r S cmp ks h M C rt sz mc, n, w) = some (none, (ov r S cmp ks h M C rt sz mc, n, w)) := by
      rw [fJ6_getEntryUsingComparator_L17, if_pos rfl]
      rfl
    rw [fJ6_getEntryUsingComparator_L17, if_neg (fun q => by cases q), v_e0 hr ha, TG_key hG ha, mb_eq (hc (pos a) (by omega) (by omega))]
    by_cases q1 : pos a < p
    · have := h1 (pos a) (by omega) q1
      rw [if_pos (by show iv 0 ≤ iv _; rw [iv_le (by omega) gd]; omega), if_neg (by show ¬ iv _ ≤ iv 0; rw [iv_le gd (by omega)]; omega), v_e3 hr ha]
      cases hc3 : M 3 a with
      | none => exact e0
      | some b =>
        obtain ⟨b1, b2, b3, b4⟩ := TI_r hI ha hc3
        exact ih b b1 (by omega) (by omega) (by omega)
    · have := h2 (pos a) (by omega) (by omega)
      rw [if_neg (by show ¬ iv 0 ≤ iv _; rw [iv_le (by omega) gd]; omega), v_e2 hr ha]
      cases hc3 : M 2 a with
      | none => exact e0
      | some b =>
        obtain ⟨b1, b2, b3, b4⟩ := TI_l hI ha hc3
        exact ih b b1 (by omega) (by omega) (by omega)
theorem srC_put (hr : ¬ S r) (hG : TG S M C rt nn pos lo hi e kk PV) {x c : Nat} {d : Int → Int} {p : Int} (hc : ∀ i, 0 ≤ i → i < nn → (mdsp (some c) [(9, mcall0 (fX11_compare g (some c) (some x) (some (kk i)))), (10, mcall0 (fX12_compare g (some c) (some x) (some (kk i))))]) (ov r S cmp ks h M C rt sz mc, n, w) = some (iv (d i), (ov r S cmp ks h M C rt sz mc, n, w))) (hd : ∀ i, 0 ≤ i → i < nn → -2147483648 ≤ d i ∧ d i < 2147483648) (h1 : ∀ i, 0 ≤ i → i < p → 0 < d i) (h2 : ∀ i, p ≤ i → i < nn → d i < 0) {v0 v2 : Option Nat} {v3 : Int32} {K0 : Option Nat → HM (Option Nat)} {K1 : Int32 → Option Nat → HM (Option Nat)} :
    ∀ (k a : Nat), S a → lo a ≤ p → p ≤ hi a → hi a - lo a < k → ∃ b, fJ6_put_2_L30 g k v0 (some x) v2 v3 (some a) (some c) K0 K1 (ov r S cmp ks h M C rt sz mc, n, w) = K1 (iv (d (pos b))) (some b) (ov r S cmp ks h M C rt sz mc, n, w) ∧ S b ∧ ((M 2 b = none ∧ p = pos b ∧ d (pos b) < 0) ∨ (M 3 b = none ∧ p = pos b + 1 ∧ 0 < d (pos b))) := by
  have hI := hG.1
  intro k
  induction k with
  | zero =>
    intro a ha _ _ hk
    have := hI.1 a ha
    omega
  | succ k ih =>
    intro a ha u1 u2 hk
    have ga := hI.1 a ha
    have gd := hd (pos a) (by omega) (by omega)
    rw [fJ6_put_2_L30, v_e0 hr ha, TG_key hG ha, mb_eq (hc (pos a) (by omega) (by omega)), mjn_b]
    by_cases q1 : pos a < p
    · have d1 := h1 (pos a) (by omega) q1
      rw [if_pos (by show iv 0 ≤ iv _; rw [iv_le (by omega) gd]; omega), if_neg (by show ¬ iv _ ≤ iv 0; rw [iv_le gd (by omega)]; omega), v_e3 hr ha]
      cases hc3 : M 3 a with
      | none =>
        have := TI_r0 hI ha hc3
        exact ⟨a, by dsimp only; rw [if_pos rfl], ha, Or.inr ⟨hc3, by omega, d1⟩⟩
      | some b =>
        obtain ⟨b1, b2, b3, b4⟩ := TI_r hI ha hc3
        dsimp only
        rw [if_neg (fun q => by cases q)]
        exact ih b b1 (by omega) (by omega) (by omega)
    · have d1 := h2 (pos a) (by omega) (by omega)
      rw [if_neg (by show ¬ iv 0 ≤ iv _; rw [iv_le (by omega) gd]; omega), v_e2 hr ha]
      cases hc3 : M 2 a with
      | none =>
        have := TI_l0 hI ha hc3
        exact ⟨a, by dsimp only; rw [if_pos rfl], ha, Or.inl ⟨hc3, by omega, d1⟩⟩
      | some b =>
        obtain ⟨b1, b2, b3, b4⟩ := TI_l hI ha hc3
        dsimp only
        rw [if_neg (fun q => by cases q)]
        exact ih b b1 (by omega) (by omega) (by omega)
end
