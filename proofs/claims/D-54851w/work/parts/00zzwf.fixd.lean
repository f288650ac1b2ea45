/-! ===== TreeMap.fixAfterDeletion: colours and rotations only ===== -/
theorem TI_rotLx {S : Nat → Prop} {M : Nat → Nat → Option Nat} {rt : Option Nat} {i j : Int} {pos lo hi : Nat → Int} (h : TI S M rt i j pos lo hi) {a b : Nat} (ha : S a) (hb : M 3 a = some b) :
    ∃ lo' hi', TI S (rotL M a b) (if M 4 a = none then some b else rt) i j pos lo' hi' := ⟨_, _, TI_rotL h ha hb⟩
def rdD (r : Nat) (S : Nat → Prop) (cmp ks : Option Nat) (h : Nat → Option hC) (sz mc : Int32) (n w : Nat) (nn : Int) (pos : Nat → Int) (K0 : Option Nat → HM Unit) (M : Nat → Nat → Option Nat) (l u : Int) (z : Option (Unit × Hp)) : Prop :=
  ∃ (M' : Nat → Nat → Option Nat) (C' : Nat → Int32) (rt' : Option Nat) (lo' hi' : Nat → Int) (y : Nat), z = K0 (some y) (ov r S cmp ks h M' C' rt' sz mc, n, w) ∧ S y ∧ TI S M' rt' 0 nn pos lo' hi' ∧ okC C' ∧ (∀ f, f < 2 → M' f = M f) ∧
    ∀ q, S q → M 2 q = none → M 3 q = none → l ≤ pos q → pos q < u → M' 2 q = none ∧ M' 3 q = none
section
variable {r : Nat} {S : Nat → Prop} {cmp ks : Option Nat} {h : Nat → Option hC} {sz mc : Int32} {n w : Nat} {g : Nat → Nat} {nn : Int} {pos : Nat → Int} {K0 : Option Nat → HM Unit}
theorem fixD_rt {M : Nat → Nat → Option Nat} {C : Nat → Int32} {k y : Nat} (hk : 0 < k) : fJ6_fixAfterDeletion_L0 g k (some r) (some y) K0 (ov r S cmp ks h M C (some y) sz mc, n, w) = K0 (some y) (ov r S cmp ks h M C (some y) sz mc, n, w) := by
  obtain ⟨k, rfl⟩ : ∃ q, k = q + 1 := ⟨k - 1, by omega⟩
  rw [fJ6_fixAfterDeletion_L0, v_m3, if_pos rfl]
theorem fixD_c {M : Nat → Nat → Option Nat} {C : Nat → Int32} {rt : Option Nat} (hr : ¬ S r) (hC : okC C) {k y : Nat} (hk : 0 < k) (hy : S y) (hc : C y ≠ 1) : fJ6_fixAfterDeletion_L0 g k (some r) (some y) K0 (ov r S cmp ks h M C rt sz mc, n, w) = K0 (some y) (ov r S cmp ks h M C rt sz mc, n, w) := by
  obtain ⟨k, rfl⟩ : ∃ q, k = q + 1 := ⟨k - 1, by omega⟩
  rw [fJ6_fixAfterDeletion_L0, v_m3]
  by_cases e : some y = rt
  · rw [if_pos e]
  · rw [if_neg e, v_col hr hC (sv_s hy), cl_s, if_neg hc]
/-- the sibling is told: what follows (l) -/
theorem fixD_l (hr : ¬ S r) {k x p : Nat} (hk : 0 < k) {M : Nat → Nat → Option Nat} {C : Nat → Int32} {rt : Option Nat} {lo hi : Nat → Int} (hI : TI S M rt 0 nn pos lo hi) (hC : okC C) (hx : S x) (sp : S p) (hp : M 4 x = some p) (hA : M 2 p = some x) {s : Nat} (hs : M 3 p = some s) :
    ∃ (M' : Nat → Nat → Option Nat) (C' : Nat → Int32) (rt' : Option Nat) (lo' hi' : Nat → Int) (y : Nat), (fun (x38 : Option Nat) => mb (mcall0 (fJ6_parentOf g (some x))) fun x39 => mb (mcall0 (fJ6_colorOf g x39)) fun x40 => mb (mcall0 (fJ6_setColor g x38 x40)) fun _ => mb (mcall0 (fJ6_parentOf g (some x))) fun x41 => mb (mcall0 (fJ6_setColor g x41 1)) fun _ => mb (mcall0 (fJ6_rightOf g x38)) fun x42 => mb (mcall0 (fJ6_setColor g x42 1)) fun _ => mb (mcall0 (fJ6_parentOf g (some x))) fun x43 => mb (mon 18 (some r) (mcall0 (fJ6_rotateLeft g (some r) x43))) fun _ => mb (oR 18 3 (some r)) fun x44 => fJ6_fixAfterDeletion_L0 g k (some r) x44 K0) (some s) (ov r S cmp ks h M C rt sz mc, n, w) = K0 (some y) (ov r S cmp ks h M' C' rt' sz mc, n, w) ∧ S y ∧ TI S M' rt' 0 nn pos lo' hi' ∧ okC C' ∧ (∀ f, f < 2 → M' f = M f) ∧
      ∀ q, S q → M 2 q = none → M 3 q = none → pos q < pos p → M' 2 q = none ∧ M' 3 q = none := by
  obtain ⟨ss, ps, -⟩ := TI_r hI sp hs
  have gx := hI.1 x hx
  have hv : sv S (M 3 s) := fun y hy => (TI_r hI ss hy).1
  have gsp : pos p < pos s := by
    have h1 := TI_r hI sp hs
    have h2 := hI.1 s ss
    omega
  obtain ⟨lo2, hi2, I2⟩ := TI_rotLx hI sp hs
  rcases I2.2.2.2.2 with ⟨-, q⟩ | ⟨y, ey, sy, -⟩
  · omega
  rw [ey] at I2
  refine ⟨rotL M p s, cs (cs (cs C (some s) (C p)) (some p) 1) (M 3 s) 1, some y, lo2, hi2, y, ?_, sy, I2, okC_cs (okC_cs (okC_cs hC (hC p)) (Or.inr rfl)) (Or.inr rfl), fun f hf => rotL_o hf, fun q sq q2 q3 hq => ?_⟩
  · show (mb (mcall0 (fJ6_parentOf g (some x))) fun x39 => mb (mcall0 (fJ6_colorOf g x39)) fun x40 => mb (mcall0 (fJ6_setColor g (some s) x40)) fun _ => mb (mcall0 (fJ6_parentOf g (some x))) fun x41 => mb (mcall0 (fJ6_setColor g x41 1)) fun _ => mb (mcall0 (fJ6_rightOf g (some s))) fun x42 => mb (mcall0 (fJ6_setColor g x42 1)) fun _ => mb (mcall0 (fJ6_parentOf g (some x))) fun x43 => mb (mon 18 (some r) (mcall0 (fJ6_rotateLeft g (some r) x43))) fun _ => mb (oR 18 3 (some r)) fun x44 => fJ6_fixAfterDeletion_L0 g k (some r) x44 K0) (ov r S cmp ks h M C rt sz mc, n, w) = _
    rw [v_par hr (sv_s hx), bn_s, hp, v_col hr hC (sv_s sp), cl_s, v_sco hr (sv_s ss) (hC p), v_par hr (sv_s hx), bn_s, hp, v_sco hr (sv_s sp) (Or.inr rfl), v_rgt hr (sv_s ss), bn_s, v_sco hr hv (Or.inr rfl), v_par hr (sv_s hx), bn_s, hp, v_rotL hr hI sp hs, v_m3, ey, fixD_rt hk]
  · have n1 : q ≠ s := fun e => by rw [e] at hq; omega
    have n2 : q ≠ p := fun e => by rw [e] at hq; omega
    refine ⟨?_, ?_⟩
    · rw [rotL_2, if_neg n1, if_neg (fun e => by rw [q2] at e; cases e.2)]
      exact q2
    · rw [rotL_3, if_neg n2, if_neg (fun e => by
        have := (TI_p hI sp e.1).2.resolve_left e.2
        rw [q3] at this; cases this)]
      exact q3
theorem fixD_lb (hr : ¬ S r) {k x p : Nat} (hk : 0 < k) {M : Nat → Nat → Option Nat} {C : Nat → Int32} {rt : Option Nat} {lo hi : Nat → Int} (hI : TI S M rt 0 nn pos lo hi) (hC : okC C) (hx : S x) (sp : S p) (hp : M 4 x = some p) (hA : M 2 p = some x) :
    ((fun (x33 : Option Nat) => mb (mcall0 (fJ6_leftOf g x33)) fun x34 => mb (mcall0 (fJ6_colorOf g x34)) fun x35 => mjn0 ( mb (mcall0 (fJ6_rightOf g x33)) fun x36 => mb (mcall0 (fJ6_colorOf g x36)) fun x37 => mjn (fun (x38 : Option Nat) => mb (mcall0 (fJ6_parentOf g (some x))) fun x39 => mb (mcall0 (fJ6_colorOf g x39)) fun x40 => mb (mcall0 (fJ6_setColor g x38 x40)) fun _ => mb (mcall0 (fJ6_parentOf g (some x))) fun x41 => mb (mcall0 (fJ6_setColor g x41 1)) fun _ => mb (mcall0 (fJ6_rightOf g x38)) fun x42 => mb (mcall0 (fJ6_setColor g x42 1)) fun _ => mb (mcall0 (fJ6_parentOf g (some x))) fun x43 => mb (mon 18 (some r) (mcall0 (fJ6_rotateLeft g (some r) x43))) fun _ => mb (oR 18 3 (some r)) fun x44 => fJ6_fixAfterDeletion_L0 g k (some r) x44 K0) fun j143 => if x37 = 1 then (mb (mcall0 (fJ6_leftOf g x33)) fun x45 => mb (mcall0 (fJ6_setColor g x45 1)) fun _ => mb (mcall0 (fJ6_setColor g x33 0)) fun _ => mb (mon 18 (some r) (mcall0 (fJ6_rotateRight g (some r) x33))) fun _ => mb (mcall0 (fJ6_parentOf g (some x))) fun x46 => mb (mcall0 (fJ6_rightOf g x46)) fun x47 => j143 x47) else (j143 x33)) fun j106 => if x35 = 1 then (mb (mcall0 (fJ6_rightOf g x33)) fun x48 => mb (mcall0 (fJ6_colorOf g x48)) fun x49 => if x49 = 1 then (mb (mcall0 (fJ6_setColor g x33 0)) fun _ => mb (mcall0 (fJ6_parentOf g (some x))) fun x50 => fJ6_fixAfterDeletion_L0 g k (some r) x50 K0) else (j106)) else (j106)) (M 3 p) (ov r S cmp ks h M C rt sz mc, n, w) = fJ6_fixAfterDeletion_L0 g k (some r) (some p) K0 (ov r S cmp ks h M (cs C (M 3 p) 0) rt sz mc, n, w)) ∨
    ∃ (M' : Nat → Nat → Option Nat) (C' : Nat → Int32) (rt' : Option Nat) (lo' hi' : Nat → Int) (y : Nat), (fun (x33 : Option Nat) => mb (mcall0 (fJ6_leftOf g x33)) fun x34 => mb (mcall0 (fJ6_colorOf g x34)) fun x35 => mjn0 ( mb (mcall0 (fJ6_rightOf g x33)) fun x36 => mb (mcall0 (fJ6_colorOf g x36)) fun x37 => mjn (fun (x38 : Option Nat) => mb (mcall0 (fJ6_parentOf g (some x))) fun x39 => mb (mcall0 (fJ6_colorOf g x39)) fun x40 => mb (mcall0 (fJ6_setColor g x38 x40)) fun _ => mb (mcall0 (fJ6_parentOf g (some x))) fun x41 => mb (mcall0 (fJ6_setColor g x41 1)) fun _ => mb (mcall0 (fJ6_rightOf g x38)) fun x42 => mb (mcall0 (fJ6_setColor g x42 1)) fun _ => mb (mcall0 (fJ6_parentOf g (some x))) fun x43 => mb (mon 18 (some r) (mcall0 (fJ6_rotateLeft g (some r) x43))) fun _ => mb (oR 18 3 (some r)) fun x44 => fJ6_fixAfterDeletion_L0 g k (some r) x44 K0) fun j143 => if x37 = 1 then (mb (mcall0 (fJ6_leftOf g x33)) fun x45 => mb (mcall0 (fJ6_setColor g x45 1)) fun _ => mb (mcall0 (fJ6_setColor g x33 0)) fun _ => mb (mon 18 (some r) (mcall0 (fJ6_rotateRight g (some r) x33))) fun _ => mb (mcall0 (fJ6_parentOf g (some x))) fun x46 => mb (mcall0 (fJ6_rightOf g x46)) fun x47 => j143 x47) else (j143 x33)) fun j106 => if x35 = 1 then (mb (mcall0 (fJ6_rightOf g x33)) fun x48 => mb (mcall0 (fJ6_colorOf g x48)) fun x49 => if x49 = 1 then (mb (mcall0 (fJ6_setColor g x33 0)) fun _ => mb (mcall0 (fJ6_parentOf g (some x))) fun x50 => fJ6_fixAfterDeletion_L0 g k (some r) x50 K0) else (j106)) else (j106)) (M 3 p) (ov r S cmp ks h M C rt sz mc, n, w) = K0 (some y) (ov r S cmp ks h M' C' rt' sz mc, n, w) ∧ S y ∧ TI S M' rt' 0 nn pos lo' hi' ∧ okC C' ∧ (∀ f, f < 2 → M' f = M f) ∧
      ∀ q, S q → M 2 q = none → M 3 q = none → pos q < pos p → M' 2 q = none ∧ M' 3 q = none := by
  have hvs : sv S (M 3 p) := fun y hy => (TI_r hI sp hy).1
  have hv2 : sv S (bn M 2 (M 3 p)) := fun y hy => by
    cases e : M 3 p with
    | none => rw [e] at hy; cases hy
    | some s => rw [e, bn_s] at hy; exact (TI_l hI (hvs s e) hy).1
  have hv3 : sv S (bn M 3 (M 3 p)) := fun y hy => by
    cases e : M 3 p with
    | none => rw [e] at hy; cases hy
    | some s => rw [e, bn_s] at hy; exact (TI_r hI (hvs s e) hy).1
  -- not both are black
  have rest : ¬ (cl C (bn M 2 (M 3 p)) = 1 ∧ cl C (bn M 3 (M 3 p)) = 1) → ∃ (M' : Nat → Nat → Option Nat) (C' : Nat → Int32) (rt' : Option Nat) (lo' hi' : Nat → Int) (y : Nat), (mb (mcall0 (fJ6_rightOf g (M 3 p))) fun x36 => mb (mcall0 (fJ6_colorOf g x36)) fun x37 => mjn (fun (x38 : Option Nat) => mb (mcall0 (fJ6_parentOf g (some x))) fun x39 => mb (mcall0 (fJ6_colorOf g x39)) fun x40 => mb (mcall0 (fJ6_setColor g x38 x40)) fun _ => mb (mcall0 (fJ6_parentOf g (some x))) fun x41 => mb (mcall0 (fJ6_setColor g x41 1)) fun _ => mb (mcall0 (fJ6_rightOf g x38)) fun x42 => mb (mcall0 (fJ6_setColor g x42 1)) fun _ => mb (mcall0 (fJ6_parentOf g (some x))) fun x43 => mb (mon 18 (some r) (mcall0 (fJ6_rotateLeft g (some r) x43))) fun _ => mb (oR 18 3 (some r)) fun x44 => fJ6_fixAfterDeletion_L0 g k (some r) x44 K0) fun j143 => if x37 = 1 then (mb (mcall0 (fJ6_leftOf g (M 3 p))) fun x45 => mb (mcall0 (fJ6_setColor g x45 1)) fun _ => mb (mcall0 (fJ6_setColor g (M 3 p) 0)) fun _ => mb (mon 18 (some r) (mcall0 (fJ6_rotateRight g (some r) (M 3 p)))) fun _ => mb (mcall0 (fJ6_parentOf g (some x))) fun x46 => mb (mcall0 (fJ6_rightOf g x46)) fun x47 => j143 x47) else (j143 (M 3 p))) (ov r S cmp ks h M C rt sz mc, n, w) = K0 (some y) (ov r S cmp ks h M' C' rt' sz mc, n, w) ∧ S y ∧ TI S M' rt' 0 nn pos lo' hi' ∧ okC C' ∧ (∀ f, f < 2 → M' f = M f) ∧
      ∀ q, S q → M 2 q = none → M 3 q = none → pos q < pos p → M' 2 q = none ∧ M' 3 q = none := by
    intro hnb
    rw [v_rgt hr hvs, v_col hr hC hv3, mjn_b]
    by_cases c3 : cl C (bn M 3 (M 3 p)) = 1
    · have c2 : cl C (bn M 2 (M 3 p)) ≠ 1 := fun e => hnb ⟨e, c3⟩
      obtain ⟨s, hs⟩ : ∃ s, M 3 p = some s := by
        cases e : M 3 p with
        | none => rw [e] at c2; exact absurd rfl c2
        | some s => exact ⟨s, rfl⟩
      have ss := hvs s hs
      obtain ⟨l, hl⟩ : ∃ l, M 2 s = some l := by
        cases e : M 2 s with
        | none => rw [hs, bn_s, e] at c2; exact absurd rfl c2
        | some l => exact ⟨l, rfl⟩
      obtain ⟨sl, pl, -⟩ := TI_l hI ss hl
      obtain ⟨-, ps, -⟩ := TI_r hI sp hs
      have hI1 := hI.1 p sp
      have gs := TI_r hI sp hs
      have gs1 := hI.1 s ss
      have gl := TI_l hI ss hl
      have gl1 := hI.1 l sl
      have gx := TI_l hI sp hA
      have gx1 := hI.1 x hx
      have nxl : x ≠ l := fun e => by rw [e] at gx gx1; omega
      have nxs : x ≠ s := fun e => by rw [e] at gx gx1; omega
      have npl : p ≠ l := fun e => by rw [e] at gs; omega
      have nps : p ≠ s := fun e => by rw [e] at gs; omega
      obtain ⟨lo1, hi1, I1⟩ := TI_rotR hI ss hl
      have m4x : rotR M s l 4 x = some p := by
        rw [rotR_4, if_neg (fun e => by
          have := (TI_r hI sl e).2.1
          rw [hp] at this
          exact npl (Option.some.inj this)), if_neg nxl, if_neg nxs]
        exact hp
      have mAp : rotR M s l 2 p = some x := by
        rw [rotR_2, if_neg nps, if_neg (fun e => e.2 hs)]
        exact hA
      have mBp : rotR M s l 3 p = some l := by
        rw [rotR_3, if_neg npl, if_pos ⟨ps, hs⟩]
      have hv2' := hv2
      rw [hs, bn_s] at hv2'
      rw [hs, bn_s] at c3
      obtain ⟨M', C', rt', lo', hi', y, e1, e2, e3, e4, e5, e6⟩ := fixD_l (K0 := K0) (g := g) (cmp := cmp) (ks := ks) (h := h) (sz := sz) (mc := mc) (n := n) (w := w) hr hk I1 (okC_cs (okC_cs hC (v := M 2 s) (x := 1) (Or.inr rfl)) (v := some s) (x := 0) (Or.inl rfl)) hx sp m4x mAp mBp
      refine ⟨M', C', rt', lo', hi', y, ?_, e2, e3, e4, fun f hf => by rw [e5 f hf, rotR_o hf], fun q sq q2 q3 hq => e6 q sq ?_ ?_ hq⟩
      · rw [hs, bn_s, if_pos c3, v_lft hr (sv_s ss), bn_s, v_sco hr hv2' (Or.inr rfl), v_sco hr (sv_s ss) (Or.inl rfl), v_rotR hr hI ss hl, v_par hr (sv_s hx), bn_s, m4x, v_rgt hr (sv_s sp), bn_s, mBp]
        exact e1
      · have n1 : q ≠ s := fun e => by rw [e] at hq; omega
        have n2 : q ≠ l := fun e => by rw [e] at hq; omega
        have n3 : M 4 s ≠ some q := fun e => by
          rw [ps] at e
          have e2 := Option.some.inj e
          rw [e2] at hq; omega
        rw [rotR_2, if_neg n1, if_neg (fun e => n3 e.1)]
        exact q2
      · have n1 : q ≠ s := fun e => by rw [e] at hq; omega
        have n2 : q ≠ l := fun e => by rw [e] at hq; omega
        have n3 : M 4 s ≠ some q := fun e => by
          rw [ps] at e
          have e2 := Option.some.inj e
          rw [e2] at hq; omega
        rw [rotR_3, if_neg n2, if_neg (fun e => n3 e.1)]
        exact q3
    · obtain ⟨s, hs⟩ : ∃ s, M 3 p = some s := by
        cases e : M 3 p with
        | none => rw [e] at c3; exact absurd rfl c3
        | some s => exact ⟨s, rfl⟩
      obtain ⟨M', C', rt', lo', hi', y, e1, e2⟩ := fixD_l (K0 := K0) (g := g) (cmp := cmp) (ks := ks) (h := h) (sz := sz) (mc := mc) (n := n) (w := w) hr hk hI hC hx sp hp hA hs
      refine ⟨M', C', rt', lo', hi', y, ?_, e2⟩
      rw [if_neg c3, hs]
      exact e1
  show ((mb (mcall0 (fJ6_leftOf g (M 3 p))) fun x34 => mb (mcall0 (fJ6_colorOf g x34)) fun x35 => mjn0 ( mb (mcall0 (fJ6_rightOf g (M 3 p))) fun x36 => mb (mcall0 (fJ6_colorOf g x36)) fun x37 => mjn (fun (x38 : Option Nat) => mb (mcall0 (fJ6_parentOf g (some x))) fun x39 => mb (mcall0 (fJ6_colorOf g x39)) fun x40 => mb (mcall0 (fJ6_setColor g x38 x40)) fun _ => mb (mcall0 (fJ6_parentOf g (some x))) fun x41 => mb (mcall0 (fJ6_setColor g x41 1)) fun _ => mb (mcall0 (fJ6_rightOf g x38)) fun x42 => mb (mcall0 (fJ6_setColor g x42 1)) fun _ => mb (mcall0 (fJ6_parentOf g (some x))) fun x43 => mb (mon 18 (some r) (mcall0 (fJ6_rotateLeft g (some r) x43))) fun _ => mb (oR 18 3 (some r)) fun x44 => fJ6_fixAfterDeletion_L0 g k (some r) x44 K0) fun j143 => if x37 = 1 then (mb (mcall0 (fJ6_leftOf g (M 3 p))) fun x45 => mb (mcall0 (fJ6_setColor g x45 1)) fun _ => mb (mcall0 (fJ6_setColor g (M 3 p) 0)) fun _ => mb (mon 18 (some r) (mcall0 (fJ6_rotateRight g (some r) (M 3 p)))) fun _ => mb (mcall0 (fJ6_parentOf g (some x))) fun x46 => mb (mcall0 (fJ6_rightOf g x46)) fun x47 => j143 x47) else (j143 (M 3 p))) fun j106 => if x35 = 1 then (mb (mcall0 (fJ6_rightOf g (M 3 p))) fun x48 => mb (mcall0 (fJ6_colorOf g x48)) fun x49 => if x49 = 1 then (mb (mcall0 (fJ6_setColor g (M 3 p) 0)) fun _ => mb (mcall0 (fJ6_parentOf g (some x))) fun x50 => fJ6_fixAfterDeletion_L0 g k (some r) x50 K0) else (j106)) else (j106)) (ov r S cmp ks h M C rt sz mc, n, w) = _) ∨ _
  by_cases c2 : cl C (bn M 2 (M 3 p)) = 1
  · by_cases c3 : cl C (bn M 3 (M 3 p)) = 1
    · left
      rw [v_lft hr hvs, v_col hr hC hv2, mjn0_b, if_pos c2, v_rgt hr hvs, v_col hr hC hv3, if_pos c3, v_sco hr hvs (Or.inl rfl), v_par hr (sv_s hx), bn_s, hp]
    · right
      obtain ⟨M', C', rt', lo', hi', y, e1, e2⟩ := rest (fun e => c3 e.2)
      refine ⟨M', C', rt', lo', hi', y, ?_, e2⟩
      show (mb (mcall0 (fJ6_leftOf g (M 3 p))) fun x34 => mb (mcall0 (fJ6_colorOf g x34)) fun x35 => mjn0 ( mb (mcall0 (fJ6_rightOf g (M 3 p))) fun x36 => mb (mcall0 (fJ6_colorOf g x36)) fun x37 => mjn (fun (x38 : Option Nat) => mb (mcall0 (fJ6_parentOf g (some x))) fun x39 => mb (mcall0 (fJ6_colorOf g x39)) fun x40 => mb (mcall0 (fJ6_setColor g x38 x40)) fun _ => mb (mcall0 (fJ6_parentOf g (some x))) fun x41 => mb (mcall0 (fJ6_setColor g x41 1)) fun _ => mb (mcall0 (fJ6_rightOf g x38)) fun x42 => mb (mcall0 (fJ6_setColor g x42 1)) fun _ => mb (mcall0 (fJ6_parentOf g (some x))) fun x43 => mb (mon 18 (some r) (mcall0 (fJ6_rotateLeft g (some r) x43))) fun _ => mb (oR 18 3 (some r)) fun x44 => fJ6_fixAfterDeletion_L0 g k (some r) x44 K0) fun j143 => if x37 = 1 then (mb (mcall0 (fJ6_leftOf g (M 3 p))) fun x45 => mb (mcall0 (fJ6_setColor g x45 1)) fun _ => mb (mcall0 (fJ6_setColor g (M 3 p) 0)) fun _ => mb (mon 18 (some r) (mcall0 (fJ6_rotateRight g (some r) (M 3 p)))) fun _ => mb (mcall0 (fJ6_parentOf g (some x))) fun x46 => mb (mcall0 (fJ6_rightOf g x46)) fun x47 => j143 x47) else (j143 (M 3 p))) fun j106 => if x35 = 1 then (mb (mcall0 (fJ6_rightOf g (M 3 p))) fun x48 => mb (mcall0 (fJ6_colorOf g x48)) fun x49 => if x49 = 1 then (mb (mcall0 (fJ6_setColor g (M 3 p) 0)) fun _ => mb (mcall0 (fJ6_parentOf g (some x))) fun x50 => fJ6_fixAfterDeletion_L0 g k (some r) x50 K0) else (j106)) else (j106)) (ov r S cmp ks h M C rt sz mc, n, w) = _
      rw [v_lft hr hvs, v_col hr hC hv2, mjn0_b, if_pos c2, v_rgt hr hvs, v_col hr hC hv3, if_neg c3]
      exact e1
  · right
    obtain ⟨M', C', rt', lo', hi', y, e1, e2⟩ := rest (fun e => c2 e.1)
    refine ⟨M', C', rt', lo', hi', y, ?_, e2⟩
    show (mb (mcall0 (fJ6_leftOf g (M 3 p))) fun x34 => mb (mcall0 (fJ6_colorOf g x34)) fun x35 => mjn0 ( mb (mcall0 (fJ6_rightOf g (M 3 p))) fun x36 => mb (mcall0 (fJ6_colorOf g x36)) fun x37 => mjn (fun (x38 : Option Nat) => mb (mcall0 (fJ6_parentOf g (some x))) fun x39 => mb (mcall0 (fJ6_colorOf g x39)) fun x40 => mb (mcall0 (fJ6_setColor g x38 x40)) fun _ => mb (mcall0 (fJ6_parentOf g (some x))) fun x41 => mb (mcall0 (fJ6_setColor g x41 1)) fun _ => mb (mcall0 (fJ6_rightOf g x38)) fun x42 => mb (mcall0 (fJ6_setColor g x42 1)) fun _ => mb (mcall0 (fJ6_parentOf g (some x))) fun x43 => mb (mon 18 (some r) (mcall0 (fJ6_rotateLeft g (some r) x43))) fun _ => mb (oR 18 3 (some r)) fun x44 => fJ6_fixAfterDeletion_L0 g k (some r) x44 K0) fun j143 => if x37 = 1 then (mb (mcall0 (fJ6_leftOf g (M 3 p))) fun x45 => mb (mcall0 (fJ6_setColor g x45 1)) fun _ => mb (mcall0 (fJ6_setColor g (M 3 p) 0)) fun _ => mb (mon 18 (some r) (mcall0 (fJ6_rotateRight g (some r) (M 3 p)))) fun _ => mb (mcall0 (fJ6_parentOf g (some x))) fun x46 => mb (mcall0 (fJ6_rightOf g x46)) fun x47 => j143 x47) else (j143 (M 3 p))) fun j106 => if x35 = 1 then (mb (mcall0 (fJ6_rightOf g (M 3 p))) fun x48 => mb (mcall0 (fJ6_colorOf g x48)) fun x49 => if x49 = 1 then (mb (mcall0 (fJ6_setColor g (M 3 p) 0)) fun _ => mb (mcall0 (fJ6_parentOf g (some x))) fun x50 => fJ6_fixAfterDeletion_L0 g k (some r) x50 K0) else (j106)) else (j106)) (ov r S cmp ks h M C rt sz mc, n, w) = _
    rw [v_lft hr hvs, v_col hr hC hv2, mjn0_b, if_neg c2]
    exact e1
/-- the sibling is told: what follows (r) -/
theorem fixD_r (hr : ¬ S r) {k x p : Nat} (hk : 0 < k) {M : Nat → Nat → Option Nat} {C : Nat → Int32} {rt : Option Nat} {lo hi : Nat → Int} (hI : TI S M rt 0 nn pos lo hi) (hC : okC C) (hx : S x) (sp : S p) (hp : M 4 x = some p) (hA : M 3 p = some x) {s : Nat} (hs : M 2 p = some s) :
    ∃ (M' : Nat → Nat → Option Nat) (C' : Nat → Int32) (rt' : Option Nat) (lo' hi' : Nat → Int) (y : Nat), (fun (x38 : Option Nat) => mb (mcall0 (fJ6_parentOf g (some x))) fun x14 => mb (mcall0 (fJ6_colorOf g x14)) fun x15 => mb (mcall0 (fJ6_setColor g x38 x15)) fun _ => mb (mcall0 (fJ6_parentOf g (some x))) fun x16 => mb (mcall0 (fJ6_setColor g x16 1)) fun _ => mb (mcall0 (fJ6_leftOf g x38)) fun x17 => mb (mcall0 (fJ6_setColor g x17 1)) fun _ => mb (mcall0 (fJ6_parentOf g (some x))) fun x18 => mb (mon 18 (some r) (mcall0 (fJ6_rotateRight g (some r) x18))) fun _ => mb (oR 18 3 (some r)) fun x19 => fJ6_fixAfterDeletion_L0 g k (some r) x19 K0) (some s) (ov r S cmp ks h M C rt sz mc, n, w) = K0 (some y) (ov r S cmp ks h M' C' rt' sz mc, n, w) ∧ S y ∧ TI S M' rt' 0 nn pos lo' hi' ∧ okC C' ∧ (∀ f, f < 2 → M' f = M f) ∧
      ∀ q, S q → M 2 q = none → M 3 q = none → pos p < pos q → M' 2 q = none ∧ M' 3 q = none := by
  obtain ⟨ss, ps, -⟩ := TI_l hI sp hs
  have gx := hI.1 x hx
  have hv : sv S (M 2 s) := fun y hy => (TI_l hI ss hy).1
  have gsp : pos s < pos p := by
    have h1 := TI_l hI sp hs
    have h2 := hI.1 s ss
    omega
  obtain ⟨lo2, hi2, I2⟩ := TI_rotR hI sp hs
  rcases I2.2.2.2.2 with ⟨-, q⟩ | ⟨y, ey, sy, -⟩
  · omega
  rw [ey] at I2
  refine ⟨rotR M p s, cs (cs (cs C (some s) (C p)) (some p) 1) (M 2 s) 1, some y, lo2, hi2, y, ?_, sy, I2, okC_cs (okC_cs (okC_cs hC (hC p)) (Or.inr rfl)) (Or.inr rfl), fun f hf => rotR_o hf, fun q sq q2 q3 hq => ?_⟩
  · show (mb (mcall0 (fJ6_parentOf g (some x))) fun x14 => mb (mcall0 (fJ6_colorOf g x14)) fun x15 => mb (mcall0 (fJ6_setColor g (some s) x15)) fun _ => mb (mcall0 (fJ6_parentOf g (some x))) fun x16 => mb (mcall0 (fJ6_setColor g x16 1)) fun _ => mb (mcall0 (fJ6_leftOf g (some s))) fun x17 => mb (mcall0 (fJ6_setColor g x17 1)) fun _ => mb (mcall0 (fJ6_parentOf g (some x))) fun x18 => mb (mon 18 (some r) (mcall0 (fJ6_rotateRight g (some r) x18))) fun _ => mb (oR 18 3 (some r)) fun x19 => fJ6_fixAfterDeletion_L0 g k (some r) x19 K0) (ov r S cmp ks h M C rt sz mc, n, w) = _
    rw [v_par hr (sv_s hx), bn_s, hp, v_col hr hC (sv_s sp), cl_s, v_sco hr (sv_s ss) (hC p), v_par hr (sv_s hx), bn_s, hp, v_sco hr (sv_s sp) (Or.inr rfl), v_lft hr (sv_s ss), bn_s, v_sco hr hv (Or.inr rfl), v_par hr (sv_s hx), bn_s, hp, v_rotR hr hI sp hs, v_m3, ey, fixD_rt hk]
  · have n1 : q ≠ s := fun e => by rw [e] at hq; omega
    have n2 : q ≠ p := fun e => by rw [e] at hq; omega
    refine ⟨?_, ?_⟩
    · rw [rotR_2, if_neg n2, if_neg (fun e => by
        have := (TI_p hI sp e.1).2.resolve_right e.2
        rw [q2] at this; cases this)]
      exact q2
    · rw [rotR_3, if_neg n1, if_neg (fun e => by rw [q3] at e; cases e.2)]
      exact q3
theorem fixD_rb (hr : ¬ S r) {k x p : Nat} (hk : 0 < k) {M : Nat → Nat → Option Nat} {C : Nat → Int32} {rt : Option Nat} {lo hi : Nat → Int} (hI : TI S M rt 0 nn pos lo hi) (hC : okC C) (hx : S x) (sp : S p) (hp : M 4 x = some p) (hA : M 3 p = some x) :
    ((fun (x33 : Option Nat) => mb (mcall0 (fJ6_rightOf g x33)) fun x9 => mb (mcall0 (fJ6_colorOf g x9)) fun x10 => mjn0 ( mb (mcall0 (fJ6_leftOf g x33)) fun x11 => mb (mcall0 (fJ6_colorOf g x11)) fun x12 => mjn (fun (x13 : Option Nat) => mb (mcall0 (fJ6_parentOf g (some x))) fun x14 => mb (mcall0 (fJ6_colorOf g x14)) fun x15 => mb (mcall0 (fJ6_setColor g x13 x15)) fun _ => mb (mcall0 (fJ6_parentOf g (some x))) fun x16 => mb (mcall0 (fJ6_setColor g x16 1)) fun _ => mb (mcall0 (fJ6_leftOf g x13)) fun x17 => mb (mcall0 (fJ6_setColor g x17 1)) fun _ => mb (mcall0 (fJ6_parentOf g (some x))) fun x18 => mb (mon 18 (some r) (mcall0 (fJ6_rotateRight g (some r) x18))) fun _ => mb (oR 18 3 (some r)) fun x19 => fJ6_fixAfterDeletion_L0 g k (some r) x19 K0) fun j302 => if x12 = 1 then (mb (mcall0 (fJ6_rightOf g x33)) fun x20 => mb (mcall0 (fJ6_setColor g x20 1)) fun _ => mb (mcall0 (fJ6_setColor g x33 0)) fun _ => mb (mon 18 (some r) (mcall0 (fJ6_rotateLeft g (some r) x33))) fun _ => mb (mcall0 (fJ6_parentOf g (some x))) fun x21 => mb (mcall0 (fJ6_leftOf g x21)) fun x22 => j302 x22) else (j302 x33)) fun j265 => if x10 = 1 then (mb (mcall0 (fJ6_leftOf g x33)) fun x23 => mb (mcall0 (fJ6_colorOf g x23)) fun x24 => if x24 = 1 then (mb (mcall0 (fJ6_setColor g x33 0)) fun _ => mb (mcall0 (fJ6_parentOf g (some x))) fun x25 => fJ6_fixAfterDeletion_L0 g k (some r) x25 K0) else (j265)) else (j265)) (M 2 p) (ov r S cmp ks h M C rt sz mc, n, w) = fJ6_fixAfterDeletion_L0 g k (some r) (some p) K0 (ov r S cmp ks h M (cs C (M 2 p) 0) rt sz mc, n, w)) ∨
    ∃ (M' : Nat → Nat → Option Nat) (C' : Nat → Int32) (rt' : Option Nat) (lo' hi' : Nat → Int) (y : Nat), (fun (x33 : Option Nat) => mb (mcall0 (fJ6_rightOf g x33)) fun x9 => mb (mcall0 (fJ6_colorOf g x9)) fun x10 => mjn0 ( mb (mcall0 (fJ6_leftOf g x33)) fun x11 => mb (mcall0 (fJ6_colorOf g x11)) fun x12 => mjn (fun (x13 : Option Nat) => mb (mcall0 (fJ6_parentOf g (some x))) fun x14 => mb (mcall0 (fJ6_colorOf g x14)) fun x15 => mb (mcall0 (fJ6_setColor g x13 x15)) fun _ => mb (mcall0 (fJ6_parentOf g (some x))) fun x16 => mb (mcall0 (fJ6_setColor g x16 1)) fun _ => mb (mcall0 (fJ6_leftOf g x13)) fun x17 => mb (mcall0 (fJ6_setColor g x17 1)) fun _ => mb (mcall0 (fJ6_parentOf g (some x))) fun x18 => mb (mon 18 (some r) (mcall0 (fJ6_rotateRight g (some r) x18))) fun _ => mb (oR 18 3 (some r)) fun x19 => fJ6_fixAfterDeletion_L0 g k (some r) x19 K0) fun j302 => if x12 = 1 then (mb (mcall0 (fJ6_rightOf g x33)) fun x20 => mb (mcall0 (fJ6_setColor g x20 1)) fun _ => mb (mcall0 (fJ6_setColor g x33 0)) fun _ => mb (mon 18 (some r) (mcall0 (fJ6_rotateLeft g (some r) x33))) fun _ => mb (mcall0 (fJ6_parentOf g (some x))) fun x21 => mb (mcall0 (fJ6_leftOf g x21)) fun x22 => j302 x22) else (j302 x33)) fun j265 => if x10 = 1 then (mb (mcall0 (fJ6_leftOf g x33)) fun x23 => mb (mcall0 (fJ6_colorOf g x23)) fun x24 => if x24 = 1 then (mb (mcall0 (fJ6_setColor g x33 0)) fun _ => mb (mcall0 (fJ6_parentOf g (some x))) fun x25 => fJ6_fixAfterDeletion_L0 g k (some r) x25 K0) else (j265)) else (j265)) (M 2 p) (ov r S cmp ks h M C rt sz mc, n, w) = K0 (some y) (ov r S cmp ks h M' C' rt' sz mc, n, w) ∧ S y ∧ TI S M' rt' 0 nn pos lo' hi' ∧ okC C' ∧ (∀ f, f < 2 → M' f = M f) ∧
      ∀ q, S q → M 2 q = none → M 3 q = none → pos p < pos q → M' 2 q = none ∧ M' 3 q = none := by
  have hvs : sv S (M 2 p) := fun y hy => (TI_l hI sp hy).1
  have hv2 : sv S (bn M 3 (M 2 p)) := fun y hy => by
    cases e : M 2 p with
    | none => rw [e] at hy; cases hy
    | some s => rw [e, bn_s] at hy; exact (TI_r hI (hvs s e) hy).1
  have hv3 : sv S (bn M 2 (M 2 p)) := fun y hy => by
    cases e : M 2 p with
    | none => rw [e] at hy; cases hy
    | some s => rw [e, bn_s] at hy; exact (TI_l hI (hvs s e) hy).1
  -- not both are black
  have rest : ¬ (cl C (bn M 3 (M 2 p)) = 1 ∧ cl C (bn M 2 (M 2 p)) = 1) → ∃ (M' : Nat → Nat → Option Nat) (C' : Nat → Int32) (rt' : Option Nat) (lo' hi' : Nat → Int) (y : Nat), (mb (mcall0 (fJ6_leftOf g (M 2 p))) fun x11 => mb (mcall0 (fJ6_colorOf g x11)) fun x12 => mjn (fun (x13 : Option Nat) => mb (mcall0 (fJ6_parentOf g (some x))) fun x14 => mb (mcall0 (fJ6_colorOf g x14)) fun x15 => mb (mcall0 (fJ6_setColor g x13 x15)) fun _ => mb (mcall0 (fJ6_parentOf g (some x))) fun x16 => mb (mcall0 (fJ6_setColor g x16 1)) fun _ => mb (mcall0 (fJ6_leftOf g x13)) fun x17 => mb (mcall0 (fJ6_setColor g x17 1)) fun _ => mb (mcall0 (fJ6_parentOf g (some x))) fun x18 => mb (mon 18 (some r) (mcall0 (fJ6_rotateRight g (some r) x18))) fun _ => mb (oR 18 3 (some r)) fun x19 => fJ6_fixAfterDeletion_L0 g k (some r) x19 K0) fun j302 => if x12 = 1 then (mb (mcall0 (fJ6_rightOf g (M 2 p))) fun x20 => mb (mcall0 (fJ6_setColor g x20 1)) fun _ => mb (mcall0 (fJ6_setColor g (M 2 p) 0)) fun _ => mb (mon 18 (some r) (mcall0 (fJ6_rotateLeft g (some r) (M 2 p)))) fun _ => mb (mcall0 (fJ6_parentOf g (some x))) fun x21 => mb (mcall0 (fJ6_leftOf g x21)) fun x22 => j302 x22) else (j302 (M 2 p))) (ov r S cmp ks h M C rt sz mc, n, w) = K0 (some y) (ov r S cmp ks h M' C' rt' sz mc, n, w) ∧ S y ∧ TI S M' rt' 0 nn pos lo' hi' ∧ okC C' ∧ (∀ f, f < 2 → M' f = M f) ∧
      ∀ q, S q → M 2 q = none → M 3 q = none → pos p < pos q → M' 2 q = none ∧ M' 3 q = none := by
    intro hnb
    rw [v_lft hr hvs, v_col hr hC hv3, mjn_b]
    by_cases c3 : cl C (bn M 2 (M 2 p)) = 1
    · have c2 : cl C (bn M 3 (M 2 p)) ≠ 1 := fun e => hnb ⟨e, c3⟩
      obtain ⟨s, hs⟩ : ∃ s, M 2 p = some s := by
        cases e : M 2 p with
        | none => rw [e] at c2; exact absurd rfl c2
        | some s => exact ⟨s, rfl⟩
      have ss := hvs s hs
      obtain ⟨l, hl⟩ : ∃ l, M 3 s = some l := by
        cases e : M 3 s with
        | none => rw [hs, bn_s, e] at c2; exact absurd rfl c2
        | some l => exact ⟨l, rfl⟩
      obtain ⟨sl, pl, -⟩ := TI_r hI ss hl
      obtain ⟨-, ps, -⟩ := TI_l hI sp hs
      have hI1 := hI.1 p sp
      have gs := TI_l hI sp hs
      have gs1 := hI.1 s ss
      have gl := TI_r hI ss hl
      have gl1 := hI.1 l sl
      have gx := TI_r hI sp hA
      have gx1 := hI.1 x hx
      have nxl : x ≠ l := fun e => by rw [e] at gx gx1; omega
      have nxs : x ≠ s := fun e => by rw [e] at gx gx1; omega
      have npl : p ≠ l := fun e => by rw [e] at gs; omega
      have nps : p ≠ s := fun e => by rw [e] at gs; omega
      obtain ⟨lo1, hi1, I1⟩ := TI_rotLx hI ss hl
      have m4x : rotL M s l 4 x = some p := by
        rw [rotL_4, if_neg (fun e => by
          have := (TI_l hI sl e).2.1
          rw [hp] at this
          exact npl (Option.some.inj this)), if_neg nxl, if_neg nxs]
        exact hp
      have mAp : rotL M s l 3 p = some x := by
        rw [rotL_3, if_neg nps, if_neg (fun e => e.2 hs)]
        exact hA
      have mBp : rotL M s l 2 p = some l := by
        rw [rotL_2, if_neg npl, if_pos ⟨ps, hs⟩]
      have hv2' := hv2
      rw [hs, bn_s] at hv2'
      rw [hs, bn_s] at c3
      obtain ⟨M', C', rt', lo', hi', y, e1, e2, e3, e4, e5, e6⟩ := fixD_r (K0 := K0) (g := g) (cmp := cmp) (ks := ks) (h := h) (sz := sz) (mc := mc) (n := n) (w := w) hr hk I1 (okC_cs (okC_cs hC (v := M 3 s) (x := 1) (Or.inr rfl)) (v := some s) (x := 0) (Or.inl rfl)) hx sp m4x mAp mBp
      refine ⟨M', C', rt', lo', hi', y, ?_, e2, e3, e4, fun f hf => by rw [e5 f hf, rotL_o hf], fun q sq q2 q3 hq => e6 q sq ?_ ?_ hq⟩
      · rw [hs, bn_s, if_pos c3, v_rgt hr (sv_s ss), bn_s, v_sco hr hv2' (Or.inr rfl), v_sco hr (sv_s ss) (Or.inl rfl), v_rotL hr hI ss hl, v_par hr (sv_s hx), bn_s, m4x, v_lft hr (sv_s sp), bn_s, mBp]
        exact e1
      · have n1 : q ≠ s := fun e => by rw [e] at hq; omega
        have n2 : q ≠ l := fun e => by rw [e] at hq; omega
        have n3 : M 4 s ≠ some q := fun e => by
          rw [ps] at e
          have e2 := Option.some.inj e
          rw [e2] at hq; omega
        rw [rotL_2, if_neg n2, if_neg (fun e => n3 e.1)]
        exact q2
      · have n1 : q ≠ s := fun e => by rw [e] at hq; omega
        have n2 : q ≠ l := fun e => by rw [e] at hq; omega
        have n3 : M 4 s ≠ some q := fun e => by
          rw [ps] at e
          have e2 := Option.some.inj e
          rw [e2] at hq; omega
        rw [rotL_3, if_neg n1, if_neg (fun e => n3 e.1)]
        exact q3
    · obtain ⟨s, hs⟩ : ∃ s, M 2 p = some s := by
        cases e : M 2 p with
        | none => rw [e] at c3; exact absurd rfl c3
        | some s => exact ⟨s, rfl⟩
      obtain ⟨M', C', rt', lo', hi', y, e1, e2⟩ := fixD_r (K0 := K0) (g := g) (cmp := cmp) (ks := ks) (h := h) (sz := sz) (mc := mc) (n := n) (w := w) hr hk hI hC hx sp hp hA hs
      refine ⟨M', C', rt', lo', hi', y, ?_, e2⟩
      rw [if_neg c3, hs]
      exact e1
  show ((mb (mcall0 (fJ6_rightOf g (M 2 p))) fun x9 => mb (mcall0 (fJ6_colorOf g x9)) fun x10 => mjn0 ( mb (mcall0 (fJ6_leftOf g (M 2 p))) fun x11 => mb (mcall0 (fJ6_colorOf g x11)) fun x12 => mjn (fun (x13 : Option Nat) => mb (mcall0 (fJ6_parentOf g (some x))) fun x14 => mb (mcall0 (fJ6_colorOf g x14)) fun x15 => mb (mcall0 (fJ6_setColor g x13 x15)) fun _ => mb (mcall0 (fJ6_parentOf g (some x))) fun x16 => mb (mcall0 (fJ6_setColor g x16 1)) fun _ => mb (mcall0 (fJ6_leftOf g x13)) fun x17 => mb (mcall0 (fJ6_setColor g x17 1)) fun _ => mb (mcall0 (fJ6_parentOf g (some x))) fun x18 => mb (mon 18 (some r) (mcall0 (fJ6_rotateRight g (some r) x18))) fun _ => mb (oR 18 3 (some r)) fun x19 => fJ6_fixAfterDeletion_L0 g k (some r) x19 K0) fun j302 => if x12 = 1 then (mb (mcall0 (fJ6_rightOf g (M 2 p))) fun x20 => mb (mcall0 (fJ6_setColor g x20 1)) fun _ => mb (mcall0 (fJ6_setColor g (M 2 p) 0)) fun _ => mb (mon 18 (some r) (mcall0 (fJ6_rotateLeft g (some r) (M 2 p)))) fun _ => mb (mcall0 (fJ6_parentOf g (some x))) fun x21 => mb (mcall0 (fJ6_leftOf g x21)) fun x22 => j302 x22) else (j302 (M 2 p))) fun j265 => if x10 = 1 then (mb (mcall0 (fJ6_leftOf g (M 2 p))) fun x23 => mb (mcall0 (fJ6_colorOf g x23)) fun x24 => if x24 = 1 then (mb (mcall0 (fJ6_setColor g (M 2 p) 0)) fun _ => mb (mcall0 (fJ6_parentOf g (some x))) fun x25 => fJ6_fixAfterDeletion_L0 g k (some r) x25 K0) else (j265)) else (j265)) (ov r S cmp ks h M C rt sz mc, n, w) = _) ∨ _
  by_cases c2 : cl C (bn M 3 (M 2 p)) = 1
  · by_cases c3 : cl C (bn M 2 (M 2 p)) = 1
    · left
      rw [v_rgt hr hvs, v_col hr hC hv2, mjn0_b, if_pos c2, v_lft hr hvs, v_col hr hC hv3, if_pos c3, v_sco hr hvs (Or.inl rfl), v_par hr (sv_s hx), bn_s, hp]
    · right
      obtain ⟨M', C', rt', lo', hi', y, e1, e2⟩ := rest (fun e => c3 e.2)
      refine ⟨M', C', rt', lo', hi', y, ?_, e2⟩
      show (mb (mcall0 (fJ6_rightOf g (M 2 p))) fun x9 => mb (mcall0 (fJ6_colorOf g x9)) fun x10 => mjn0 ( mb (mcall0 (fJ6_leftOf g (M 2 p))) fun x11 => mb (mcall0 (fJ6_colorOf g x11)) fun x12 => mjn (fun (x13 : Option Nat) => mb (mcall0 (fJ6_parentOf g (some x))) fun x14 => mb (mcall0 (fJ6_colorOf g x14)) fun x15 => mb (mcall0 (fJ6_setColor g x13 x15)) fun _ => mb (mcall0 (fJ6_parentOf g (some x))) fun x16 => mb (mcall0 (fJ6_setColor g x16 1)) fun _ => mb (mcall0 (fJ6_leftOf g x13)) fun x17 => mb (mcall0 (fJ6_setColor g x17 1)) fun _ => mb (mcall0 (fJ6_parentOf g (some x))) fun x18 => mb (mon 18 (some r) (mcall0 (fJ6_rotateRight g (some r) x18))) fun _ => mb (oR 18 3 (some r)) fun x19 => fJ6_fixAfterDeletion_L0 g k (some r) x19 K0) fun j302 => if x12 = 1 then (mb (mcall0 (fJ6_rightOf g (M 2 p))) fun x20 => mb (mcall0 (fJ6_setColor g x20 1)) fun _ => mb (mcall0 (fJ6_setColor g (M 2 p) 0)) fun _ => mb (mon 18 (some r) (mcall0 (fJ6_rotateLeft g (some r) (M 2 p)))) fun _ => mb (mcall0 (fJ6_parentOf g (some x))) fun x21 => mb (mcall0 (fJ6_leftOf g x21)) fun x22 => j302 x22) else (j302 (M 2 p))) fun j265 => if x10 = 1 then (mb (mcall0 (fJ6_leftOf g (M 2 p))) fun x23 => mb (mcall0 (fJ6_colorOf g x23)) fun x24 => if x24 = 1 then (mb (mcall0 (fJ6_setColor g (M 2 p) 0)) fun _ => mb (mcall0 (fJ6_parentOf g (some x))) fun x25 => fJ6_fixAfterDeletion_L0 g k (some r) x25 K0) else (j265)) else (j265)) (ov r S cmp ks h M C rt sz mc, n, w) = _
      rw [v_rgt hr hvs, v_col hr hC hv2, mjn0_b, if_pos c2, v_lft hr hvs, v_col hr hC hv3, if_neg c3]
      exact e1
  · right
    obtain ⟨M', C', rt', lo', hi', y, e1, e2⟩ := rest (fun e => c2 e.1)
    refine ⟨M', C', rt', lo', hi', y, ?_, e2⟩
    show (mb (mcall0 (fJ6_rightOf g (M 2 p))) fun x9 => mb (mcall0 (fJ6_colorOf g x9)) fun x10 => mjn0 ( mb (mcall0 (fJ6_leftOf g (M 2 p))) fun x11 => mb (mcall0 (fJ6_colorOf g x11)) fun x12 => mjn (fun (x13 : Option Nat) => mb (mcall0 (fJ6_parentOf g (some x))) fun x14 => mb (mcall0 (fJ6_colorOf g x14)) fun x15 => mb (mcall0 (fJ6_setColor g x13 x15)) fun _ => mb (mcall0 (fJ6_parentOf g (some x))) fun x16 => mb (mcall0 (fJ6_setColor g x16 1)) fun _ => mb (mcall0 (fJ6_leftOf g x13)) fun x17 => mb (mcall0 (fJ6_setColor g x17 1)) fun _ => mb (mcall0 (fJ6_parentOf g (some x))) fun x18 => mb (mon 18 (some r) (mcall0 (fJ6_rotateRight g (some r) x18))) fun _ => mb (oR 18 3 (some r)) fun x19 => fJ6_fixAfterDeletion_L0 g k (some r) x19 K0) fun j302 => if x12 = 1 then (mb (mcall0 (fJ6_rightOf g (M 2 p))) fun x20 => mb (mcall0 (fJ6_setColor g x20 1)) fun _ => mb (mcall0 (fJ6_setColor g (M 2 p) 0)) fun _ => mb (mon 18 (some r) (mcall0 (fJ6_rotateLeft g (some r) (M 2 p)))) fun _ => mb (mcall0 (fJ6_parentOf g (some x))) fun x21 => mb (mcall0 (fJ6_leftOf g x21)) fun x22 => j302 x22) else (j302 (M 2 p))) fun j265 => if x10 = 1 then (mb (mcall0 (fJ6_leftOf g (M 2 p))) fun x23 => mb (mcall0 (fJ6_colorOf g x23)) fun x24 => if x24 = 1 then (mb (mcall0 (fJ6_setColor g (M 2 p) 0)) fun _ => mb (mcall0 (fJ6_parentOf g (some x))) fun x25 => fJ6_fixAfterDeletion_L0 g k (some r) x25 K0) else (j265)) else (j265)) (ov r S cmp ks h M C rt sz mc, n, w) = _
    rw [v_rgt hr hvs, v_col hr hC hv2, mjn0_b, if_neg c2]
    exact e1
theorem fixD_ev (hr : ¬ S r) : ∀ (k : Nat) (M : Nat → Nat → Option Nat) (C : Nat → Int32) (rt : Option Nat) (lo hi : Nat → Int) (x : Nat), TI S M rt 0 nn pos lo hi → okC C → S x → nn - (hi x - lo x) + 1 < k →
    rdD r S cmp ks h sz mc n w nn pos K0 M (lo x) (hi x) (fJ6_fixAfterDeletion_L0 g k (some r) (some x) K0 (ov r S cmp ks h M C rt sz mc, n, w)) := by
  intro k
  induction k with
  | zero =>
    intro M C rt lo hi x hI hC hx hk
    have := hI.1 x hx
    omega
  | succ k ih =>
    intro M C rt lo hi x hI hC hx hk
    have gx := hI.1 x hx
    have hk0 : 0 < k := by omega
    rw [fJ6_fixAfterDeletion_L0, v_m3]
    by_cases e : some x = rt
    · rw [if_pos e]
      exact ⟨M, C, rt, lo, hi, x, rfl, hx, hI, hC, fun _ _ => rfl, fun _ _ a b _ _ => ⟨a, b⟩⟩
    rw [if_neg e, v_col hr hC (sv_s hx), cl_s]
    by_cases c1 : C x = 1
    · obtain ⟨p, hp⟩ : ∃ p, M 4 x = some p := by
        cases q : M 4 x with
        | none => exact absurd (TI_p0 hI hx q).symm e
        | some p => exact ⟨p, rfl⟩
      obtain ⟨sp, pc⟩ := TI_p hI hx hp
      obtain ⟨nxp, gxp⟩ := TI_pn hI hx hp
      have gp := hI.1 p sp
      have hvl : sv S (M 2 p) := fun y hy => (TI_l hI sp hy).1
      have hvr : sv S (M 3 p) := fun y hy => (TI_r hI sp hy).1
      rw [if_pos c1, v_par hr (sv_s hx), bn_s, hp, v_lft hr (sv_s sp), bn_s]
      by_cases eL : some x = M 2 p
      · have hA := eL.symm
        have gA := TI_l hI sp hA
        rw [if_pos eL, v_par hr (sv_s hx), bn_s, hp, v_rgt hr (sv_s sp), bn_s, v_col hr hC hvr, mjn_b]
        by_cases cs0 : cl C (M 3 p) = 0
        · obtain ⟨s, hs⟩ : ∃ s, M 3 p = some s := by
            cases q : M 3 p with
            | none => rw [q] at cs0; exact absurd (show (1 : Int32) = 0 from cs0) (by decide)
            | some s => exact ⟨s, rfl⟩
          obtain ⟨ss, ps, gs⟩ := TI_r hI sp hs
          have gs1 := hI.1 s ss
          obtain ⟨lo1, hi1, I1⟩ := TI_rotLx hI sp hs
          have nxs : x ≠ s := fun w => by rw [w] at gA; omega
          have nps : p ≠ s := fun w => by rw [w] at gp gs; omega
          have m4x : rotL M p s 4 x = some p := by
            rw [rotL_4, if_neg (fun w => by
              have := (TI_l hI ss w).2.1
              rw [hp] at this
              exact nps (Option.some.inj this)), if_neg nxs, if_neg nxp]
            exact hp
          have mA : rotL M p s 2 p = some x := by
            rw [rotL_2, if_neg nps, if_neg (fun w => (TI_pn hI sp w.1).1 rfl)]
            exact hA
          have mB : rotL M p s 3 p = M 2 s := by rw [rotL_3, if_pos rfl]
          have hC1 : okC (cs (cs C (some s) 1) (some p) 0) := okC_cs (okC_cs hC (Or.inr rfl)) (Or.inl rfl)
          rw [if_pos cs0, hs, v_sco hr (sv_s ss) (Or.inr rfl), v_par hr (sv_s hx), bn_s, hp, v_sco hr (sv_s sp) (Or.inl rfl), v_par hr (sv_s hx), bn_s, hp, v_rotL hr hI sp hs, v_par hr (sv_s hx), bn_s, m4x, v_rgt hr (sv_s sp), bn_s]
          have lf : ∀ q, S q → M 2 q = none → M 3 q = none → lo x ≤ pos q → pos q < hi x → (pos q < pos p) ∧ rotL M p s 2 q = none ∧ rotL M p s 3 q = none := fun q sq q2 q3 ql qh => by
            have n1 : q ≠ s := fun w => by rw [w] at ql qh; omega
            have n2 : q ≠ p := fun w => by rw [w] at ql qh; omega
            refine ⟨by omega, ?_, ?_⟩
            · rw [rotL_2, if_neg n1, if_neg (fun w => by rw [q2] at w; cases w.2)]
              exact q2
            · rw [rotL_3, if_neg n2, if_neg (fun w => by
                have := (TI_p hI sp w.1).2.resolve_left w.2
                rw [q3] at this; cases this)]
              exact q3
          rcases fixD_lb (K0 := K0) (g := g) (cmp := cmp) (ks := ks) (h := h) (sz := sz) (mc := mc) (n := n) (w := w) hr hk0 I1 hC1 hx sp m4x mA with e1 | ⟨M', C', rt', lo', hi', y, e1, e2, e3, e4, e5, e6⟩
          · have cp : cs (cs (cs C (some s) 1) (some p) 0) (rotL M p s 3 p) 0 p ≠ 1 := by
              have : cs (cs (cs C (some s) 1) (some p) 0) (rotL M p s 3 p) 0 p = 0 := by
                cases rotL M p s 3 p with
                | none => rw [cs_n, cs_s]; unfold cup; rw [if_pos rfl]
                | some z =>
                  rw [cs_s, cs_s]
                  unfold cup
                  by_cases z1 : p = z
                  · rw [if_pos z1]
                  · rw [if_neg z1, if_pos rfl]
              rw [this]
              decide
            rw [fixD_c hr (okC_cs hC1 (Or.inl rfl)) hk0 sp cp] at e1
            exact ⟨_, _, _, lo1, hi1, p, e1, sp, I1, okC_cs hC1 (Or.inl rfl), fun f hf => rotL_o hf, fun q sq q2 q3 ql qh => (lf q sq q2 q3 ql qh).2⟩
          · exact ⟨M', C', rt', lo', hi', y, e1, e2, e3, e4, fun f hf => by rw [e5 f hf, rotL_o hf], fun q sq q2 q3 ql qh => by
              obtain ⟨a, b, c⟩ := lf q sq q2 q3 ql qh
              exact e6 q sq b c a⟩
        · rw [if_neg cs0]
          rcases fixD_lb (K0 := K0) (g := g) (cmp := cmp) (ks := ks) (h := h) (sz := sz) (mc := mc) (n := n) (w := w) hr hk0 hI hC hx sp hp hA with e1 | ⟨M', C', rt', lo', hi', y, e1, e2, e3, e4, e5, e6⟩
          · obtain ⟨M', C', rt', lo', hi', y, i1, i2, i3, i4, i5, i6⟩ := ih M (cs C (M 3 p) 0) rt lo hi p hI (okC_cs hC (Or.inl rfl)) sp (by omega)
            exact ⟨M', C', rt', lo', hi', y, e1.trans i1, i2, i3, i4, i5, fun q sq q2 q3 ql qh => i6 q sq q2 q3 (by omega) (by omega)⟩
          · exact ⟨M', C', rt', lo', hi', y, e1, e2, e3, e4, e5, fun q sq q2 q3 ql qh => e6 q sq q2 q3 (by omega)⟩
      · have hA : M 3 p = some x := pc.resolve_left (fun w => eL w.symm)
        have gA := TI_r hI sp hA
        rw [if_neg eL, v_par hr (sv_s hx), bn_s, hp, v_lft hr (sv_s sp), bn_s, v_col hr hC hvl, mjn_b]
        by_cases cs0 : cl C (M 2 p) = 0
        · obtain ⟨s, hs⟩ : ∃ s, M 2 p = some s := by
            cases q : M 2 p with
            | none => rw [q] at cs0; exact absurd (show (1 : Int32) = 0 from cs0) (by decide)
            | some s => exact ⟨s, rfl⟩
          obtain ⟨ss, ps, gs⟩ := TI_l hI sp hs
          have gs1 := hI.1 s ss
          obtain ⟨lo1, hi1, I1⟩ := TI_rotR hI sp hs
          have nxs : x ≠ s := fun w => by rw [w] at gA; omega
          have nps : p ≠ s := fun w => by rw [w] at gp gs; omega
          have m4x : rotR M p s 4 x = some p := by
            rw [rotR_4, if_neg (fun w => by
              have := (TI_r hI ss w).2.1
              rw [hp] at this
              exact nps (Option.some.inj this)), if_neg nxs, if_neg nxp]
            exact hp
          have mA : rotR M p s 3 p = some x := by
            rw [rotR_3, if_neg nps, if_neg (fun w => (TI_pn hI sp w.1).1 rfl)]
            exact hA
          have mB : rotR M p s 2 p = M 3 s := by rw [rotR_2, if_pos rfl]
          have hC1 : okC (cs (cs C (some s) 1) (some p) 0) := okC_cs (okC_cs hC (Or.inr rfl)) (Or.inl rfl)
          rw [if_pos cs0, hs, v_sco hr (sv_s ss) (Or.inr rfl), v_par hr (sv_s hx), bn_s, hp, v_sco hr (sv_s sp) (Or.inl rfl), v_par hr (sv_s hx), bn_s, hp, v_rotR hr hI sp hs, v_par hr (sv_s hx), bn_s, m4x, v_lft hr (sv_s sp), bn_s]
          have lf : ∀ q, S q → M 2 q = none → M 3 q = none → lo x ≤ pos q → pos q < hi x → (pos p < pos q) ∧ rotR M p s 2 q = none ∧ rotR M p s 3 q = none := fun q sq q2 q3 ql qh => by
            have n1 : q ≠ s := fun w => by rw [w] at ql qh; omega
            have n2 : q ≠ p := fun w => by rw [w] at ql qh; omega
            refine ⟨by omega, ?_, ?_⟩
            · rw [rotR_2, if_neg n2, if_neg (fun w => by
                have := (TI_p hI sp w.1).2.resolve_right w.2
                rw [q2] at this; cases this)]
              exact q2
            · rw [rotR_3, if_neg n1, if_neg (fun w => by rw [q3] at w; cases w.2)]
              exact q3
          rcases fixD_rb (K0 := K0) (g := g) (cmp := cmp) (ks := ks) (h := h) (sz := sz) (mc := mc) (n := n) (w := w) hr hk0 I1 hC1 hx sp m4x mA with e1 | ⟨M', C', rt', lo', hi', y, e1, e2, e3, e4, e5, e6⟩
          · have cp : cs (cs (cs C (some s) 1) (some p) 0) (rotR M p s 2 p) 0 p ≠ 1 := by
              have : cs (cs (cs C (some s) 1) (some p) 0) (rotR M p s 2 p) 0 p = 0 := by
                cases rotR M p s 2 p with
                | none => rw [cs_n, cs_s]; unfold cup; rw [if_pos rfl]
                | some z =>
                  rw [cs_s, cs_s]
                  unfold cup
                  by_cases z1 : p = z
                  · rw [if_pos z1]
                  · rw [if_neg z1, if_pos rfl]
              rw [this]
              decide
            rw [fixD_c hr (okC_cs hC1 (Or.inl rfl)) hk0 sp cp] at e1
            exact ⟨_, _, _, lo1, hi1, p, e1, sp, I1, okC_cs hC1 (Or.inl rfl), fun f hf => rotR_o hf, fun q sq q2 q3 ql qh => (lf q sq q2 q3 ql qh).2⟩
          · exact ⟨M', C', rt', lo', hi', y, e1, e2, e3, e4, fun f hf => by rw [e5 f hf, rotR_o hf], fun q sq q2 q3 ql qh => by
              obtain ⟨a, b, c⟩ := lf q sq q2 q3 ql qh
              exact e6 q sq b c a⟩
        · rw [if_neg cs0]
          rcases fixD_rb (K0 := K0) (g := g) (cmp := cmp) (ks := ks) (h := h) (sz := sz) (mc := mc) (n := n) (w := w) hr hk0 hI hC hx sp hp hA with e1 | ⟨M', C', rt', lo', hi', y, e1, e2, e3, e4, e5, e6⟩
          · obtain ⟨M', C', rt', lo', hi', y, i1, i2, i3, i4, i5, i6⟩ := ih M (cs C (M 2 p) 0) rt lo hi p hI (okC_cs hC (Or.inl rfl)) sp (by omega)
            exact ⟨M', C', rt', lo', hi', y, e1.trans i1, i2, i3, i4, i5, fun q sq q2 q3 ql qh => i6 q sq q2 q3 (by omega) (by omega)⟩
          · exact ⟨M', C', rt', lo', hi', y, e1, e2, e3, e4, e5, fun q sq q2 q3 ql qh => e6 q sq q2 q3 (by omega)⟩
    · rw [if_neg c1]
      exact ⟨M, C, rt, lo, hi, x, rfl, hx, hI, hC, fun _ _ => rfl, fun _ _ a b _ _ => ⟨a, b⟩⟩
end
