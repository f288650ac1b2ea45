/-! ===== a sorted tree: its keys' addresses kk in order ===== -/
def TG (S : Nat → Prop) (M : Nat → Nat → Option Nat) (C : Nat → Int32) (rt : Option Nat) (nn : Int) (pos lo hi : Nat → Int) (e kk : Int → Nat) (PV : Option Nat → Prop) : Prop :=
  TI S M rt 0 nn pos lo hi ∧ okC C ∧ (∀ i, 0 ≤ i → i < nn → S (e i) ∧ pos (e i) = i) ∧ (∀ a, S a → e (pos a) = a) ∧ (∀ a, S a → M 0 a = some (kk (pos a)) ∧ PV (M 1 a)) ∧ 0 ≤ nn ∧ nn ≤ 1000
section
variable {r : Nat} {S : Nat → Prop} {cmp ks : Option Nat} {h : Nat → Option hC} {M : Nat → Nat → Option Nat} {C : Nat → Int32} {rt : Option Nat} {sz mc : Int32} {n w : Nat} {g : Nat → Nat} {nn : Int} {pos lo hi : Nat → Int} {e kk : Int → Nat} {PV : Option Nat → Prop}
theorem TG_inj (h : TG S M C rt nn pos lo hi e kk PV) : inj S pos := fun a b ha hb he => by
  rw [← h.2.2.2.1 a ha, ← h.2.2.2.1 b hb, he]
theorem TG_key (h : TG S M C rt nn pos lo hi e kk PV) {a : Nat} (ha : S a) : M 0 a = some (kk (pos a)) := (h.2.2.2.2.1 a ha).1
theorem TG_rg (h : TG S M C rt nn pos lo hi e kk PV) {a : Nat} (ha : S a) : 0 ≤ lo a ∧ lo a ≤ pos a ∧ pos a < hi a ∧ hi a ≤ nn := h.1.1 a ha
/-- the leftmost node below a -/
theorem J6_first_L (hr : ¬ S r) (hI : TI S M rt 0 nn pos lo hi) : ∀ (k a : Nat), S a → hi a - lo a < k → ∃ b, fJ6_getFirstEntry_L9 g k (some a) (ov r S cmp ks h M C rt sz mc, n, w) = some (some b, (ov r S cmp ks h M C rt sz mc, n, w)) ∧ S b ∧ pos b = lo a := by
  intro k
  induction k with
  | zero =>
    intro a ha hk
    have := hI.1 a ha
    omega
  | succ k ih =>
    intro a ha hk
    rw [fJ6_getFirstEntry_L9, v_e2 hr ha]
    cases hc : M 2 a with
    | none => exact ⟨a, by rw [if_pos rfl]; rfl, ha, (TI_l0 hI ha hc).symm⟩
    | some c =>
      obtain ⟨c1, c2, c3, c4⟩ := TI_l hI ha hc
      have ga := hI.1 a ha
      rw [if_neg (fun e => by cases e), v_e2 hr ha, hc]
      obtain ⟨b, e1, e2, e3⟩ := ih c c1 (by omega)
      exact ⟨b, e1, e2, by omega⟩
theorem J6_first_ev (hr : ¬ S r) (hG : TG S M C rt nn pos lo hi e kk PV) : fJ6_getFirstEntry g (some r) (ov r S cmp ks h M C rt sz mc, n, w) = some (if 0 < nn then some (e 0) else none, (ov r S cmp ks h M C rt sz mc, n, w)) := by
  have hI := hG.1
  unfold fJ6_getFirstEntry
  rw [v_m3]
  cases hc : rt with
  | none =>
    rcases hI.2.2.2.2 with ⟨-, q⟩ | ⟨a, q, -⟩
    · rw [if_pos rfl, if_neg (by omega)]; rfl
    · rw [hc] at q; cases q
  | some a =>
    obtain ⟨a1, a2, a3, a4⟩ := TI_rt hI hc
    have ga := hI.1 a a1
    have hnn := hG.2.2.2.2.2
    rw [if_neg (fun e => by cases e), if_pos (by omega)]
    obtain ⟨b, e1, e2, e3⟩ := J6_first_L (cmp := cmp) (ks := ks) (h := h) (C := C) (sz := sz) (mc := mc) (n := n) (w := w) (g := g) hr hI 5000 a a1 (by omega)
    rw [hc] at e1
    rw [e1, ← hG.2.2.2.1 b e2, e3, a3]
theorem J6_suc_L18 (hr : ¬ S r) (hI : TI S M rt 0 nn pos lo hi) : ∀ (k a : Nat), S a → hi a - lo a < k → ∃ b, fJ6_successor_L18 g k (some a) (ov r S cmp ks h M C rt sz mc, n, w) = some (some b, (ov r S cmp ks h M C rt sz mc, n, w)) ∧ S b ∧ pos b = lo a := by
  intro k
  induction k with
  | zero =>
    intro a ha hk
    have := hI.1 a ha
    omega
  | succ k ih =>
    intro a ha hk
    rw [fJ6_successor_L18, v_e2 hr ha]
    cases hc : M 2 a with
    | none => exact ⟨a, by rw [if_pos rfl]; rfl, ha, (TI_l0 hI ha hc).symm⟩
    | some c =>
      obtain ⟨c1, c2, c3, c4⟩ := TI_l hI ha hc
      have ga := hI.1 a ha
      rw [if_neg (fun e => by cases e), v_e2 hr ha, hc]
      obtain ⟨b, e1, e2, e3⟩ := ih c c1 (by omega)
      exact ⟨b, e1, e2, by omega⟩
theorem J6_suc_L42 (hr : ¬ S r) (hI : TI S M rt 0 nn pos lo hi) : ∀ (k a : Nat), S a → nn - (hi a - lo a) + 1 < k →
    (hi a = nn ∧ fJ6_successor_L42 g k (M 4 a) (some a) (ov r S cmp ks h M C rt sz mc, n, w) = some (none, (ov r S cmp ks h M C rt sz mc, n, w))) ∨ ∃ b, fJ6_successor_L42 g k (M 4 a) (some a) (ov r S cmp ks h M C rt sz mc, n, w) = some (some b, (ov r S cmp ks h M C rt sz mc, n, w)) ∧ S b ∧ pos b = hi a := by
  intro k
  induction k with
  | zero =>
    intro a ha hk
    have := hI.1 a ha
    omega
  | succ k ih =>
    intro a ha hk
    have ga := hI.1 a ha
    rw [fJ6_successor_L42]
    cases hp : M 4 a with
    | none =>
      left
      have := TI_rt hI (TI_p0 hI ha hp)
      exact ⟨this.2.2.2, by rw [if_pos rfl]; rfl⟩
    | some p =>
      obtain ⟨sp, pc⟩ := TI_p hI ha hp
      have gpa := TI_pn hI ha hp
      rw [if_neg (fun e => by cases e), v_e3 hr sp]
      by_cases e : some a = M 3 p
      · rw [if_pos e, v_e4 hr sp]
        have g3 := TI_r hI sp e.symm
        rcases ih p sp (by omega) with ⟨i1, i2⟩ | ⟨b, i1, i2, i3⟩
        · exact Or.inl ⟨by omega, i2⟩
        · exact Or.inr ⟨b, i1, i2, by omega⟩
      · rw [if_neg e]
        have e2 := pc.resolve_right (fun w => e w.symm)
        have g2 := TI_l hI sp e2
        exact Or.inr ⟨p, rfl, sp, by omega⟩
theorem J6_suc_ev (hr : ¬ S r) (hG : TG S M C rt nn pos lo hi e kk PV) {a : Nat} (ha : S a) : fJ6_successor g (some a) (ov r S cmp ks h M C rt sz mc, n, w) = some (if pos a + 1 < nn then some (e (pos a + 1)) else none, (ov r S cmp ks h M C rt sz mc, n, w)) := by
  have hI := hG.1
  have ga := hI.1 a ha
  have hnn := hG.2.2.2.2.2
  unfold fJ6_successor
  rw [if_neg (fun e => by cases e), v_e3 hr ha]
  cases hc : M 3 a with
  | none =>
    have h0 := TI_r0 hI ha hc
    rw [if_pos rfl, v_e4 hr ha]
    rcases J6_suc_L42 (cmp := cmp) (ks := ks) (h := h) (C := C) (sz := sz) (mc := mc) (n := n) (w := w) (g := g) hr hI 5000 a ha (by omega) with ⟨i1, i2⟩ | ⟨b, i1, i2, i3⟩
    · rw [i2, if_neg (by omega)]
    · have gb := hI.1 b i2
      rw [i1, if_pos (by omega), ← hG.2.2.2.1 b i2, i3, h0]
  | some c =>
    obtain ⟨c1, c2, c3, c4⟩ := TI_r hI ha hc
    have gc := hI.1 c c1
    rw [if_neg (fun e => by cases e), v_e3 hr ha, hc]
    obtain ⟨b, i1, i2, i3⟩ := J6_suc_L18 (cmp := cmp) (ks := ks) (h := h) (C := C) (sz := sz) (mc := mc) (n := n) (w := w) (g := g) hr hI 5000 c c1 (by omega)
    rw [i1, if_pos (by omega), ← hG.2.2.2.1 b i2, i3, c3]
theorem v_suc {β : Type} {K : Option Nat → HM β} (hr : ¬ S r) (hG : TG S M C rt nn pos lo hi e kk PV) {a : Nat} (ha : S a) : mb (mcall0 (fJ6_successor g (some a))) K (ov r S cmp ks h M C rt sz mc, n, w) = K (if pos a + 1 < nn then some (e (pos a + 1)) else none) (ov r S cmp ks h M C rt sz mc, n, w) := e_call0 (u' := 0) (J6_suc_ev hr hG ha)
end
