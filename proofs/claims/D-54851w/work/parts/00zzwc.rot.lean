/-! ===== rotations carried out ===== -/
section
variable {β : Type} {r : Nat} {S : Nat → Prop} {cmp ks : Option Nat} {h : Nat → Option hC} {M : Nat → Nat → Option Nat} {C : Nat → Int32} {rt : Option Nat} {sz mc : Int32} {n w : Nat} {g : Nat → Nat} {i j : Int} {pos lo hi : Nat → Int}
theorem rotL_ev (hr : ¬ S r) (hI : TI S M rt i j pos lo hi) {a b : Nat} (ha : S a) (hb : M 3 a = some b) : fJ6_rotateLeft g (some r) (some a) (ov r S cmp ks h M C rt sz mc, n, w) = some ((), (ov r S cmp ks h (rotL M a b) C (if M 4 a = none then some b else rt) sz mc, n, w)) := by
  obtain ⟨sb, pb, lb, hb2⟩ := TI_r hI ha hb
  have ga := hI.1 a ha
  have gb := hI.1 b sb
  have hab : a ≠ b := fun e => by rw [e] at lb ga; omega
  have hba : b ≠ a := fun e => hab e.symm
  -- behind the child's link
  have key : ∀ (M2 : Nat → Nat → Option Nat), (∀ f q, M2 f q = if f = 3 ∧ q = a then M 2 b else if f = 4 ∧ M 2 b = some q then some a else M f q) →
      (mb (oR 19 4 (some a)) fun x4 => mb (pR 19 4 (some b) x4) fun _ => mb (oR 19 4 (some a)) fun x5 => mjn0 (mb (pR 19 2 (some b) (some a)) fun _ => mb (pR 19 4 (some a) (some b)) fun _ => mret ()) fun j85 => if x5 = none then (mb (pR 18 3 (some r) (some b)) fun _ => j85) else (mb (oR 19 4 (some a)) fun x6 => mb (oR 19 2 x6) fun x7 => if x7 = some a then (mb (oR 19 4 (some a)) fun x9 => mb (pR 19 2 x9 (some b)) fun _ => j85) else (mb (oR 19 4 (some a)) fun x8 => mb (pR 19 3 x8 (some b)) fun _ => j85))) (ov r S cmp ks h M2 C rt sz mc, n, w) = some ((), (ov r S cmp ks h (rotL M a b) C (if M 4 a = none then some b else rt) sz mc, n, w)) := by
    intro M2 hM2
    have hca : M 2 b ≠ some a := fun e => by
      obtain ⟨c1, c2, c3, c4⟩ := TI_l hI sb e
      omega
    have hcb : M 2 b ≠ some b := fun e => by
      obtain ⟨c1, c2, c3, c4⟩ := TI_l hI sb e
      omega
    have e4 : M2 4 a = M 4 a := by rw [hM2, if_neg (fun e => by cases e.1), if_neg (fun e => hca e.2)]
    have e4' : mup M2 4 b (M 4 a) 4 a = M 4 a := by rw [mup_o hab, e4]
    rw [v_e4 hr ha, e4, v_p4 hr sb, v_e4 hr ha, e4', mjn0_b]
    cases hp : M 4 a with
    | none =>
      rw [if_pos rfl, if_pos rfl, v_q3, v_p2 hr sb, v_p4 hr ha]
      have eM : mup (mup (mup M2 4 b none) 2 b (some a)) 4 a (some b) = rotL M a b := by
        funext f q
        unfold mup rotL
        rw [hM2, hp]
        grind
      rw [eM]
      rfl
    | some p =>
      obtain ⟨sp, p2⟩ := TI_p hI ha hp
      have gp := hI.1 p sp
      have pab : p ≠ a ∧ p ≠ b := by
        rcases p2 with p2 | p2
        · obtain ⟨q1, q2, q3, q4⟩ := TI_l hI sp p2
          exact ⟨fun q => by rw [q] at gp q3 q4; omega, fun q => by rw [q] at gp q3 q4; omega⟩
        · obtain ⟨q1, q2, q3, q4⟩ := TI_r hI sp p2
          exact ⟨fun q => by rw [q] at gp q3 q4; omega, fun q => by rw [q] at gp q3 q4; omega⟩
      have e2 : mup M2 4 b (some p) 2 p = M 2 p := by rw [mup_f (by decide), hM2, if_neg (fun e => by cases e.1), if_neg (fun e => by cases e.1)]
      rw [hp] at e4'
      rw [if_neg (fun e => by cases e), if_neg (fun e => by cases e), v_e4 hr ha, e4', v_e2 hr sp, e2]
      by_cases hq : M 2 p = some a
      · rw [if_pos hq, v_e4 hr ha, e4', v_p2 hr sp, v_p2 hr sb, v_p4 hr ha]
        have eM : mup (mup (mup (mup M2 4 b (some p)) 2 p (some b)) 2 b (some a)) 4 a (some b) = rotL M a b := by
          funext f q
          unfold mup rotL
          rw [hM2, hp]
          grind
        rw [eM]
        rfl
      · rw [if_neg hq, v_e4 hr ha, e4', v_p3 hr sp, v_p2 hr sb, v_p4 hr ha]
        have eM : mup (mup (mup (mup M2 4 b (some p)) 3 p (some b)) 2 b (some a)) 4 a (some b) = rotL M a b := by
          funext f q
          unfold mup rotL
          rw [hM2, hp]
          grind
        rw [eM]
        rfl
  unfold fJ6_rotateLeft
  have e2 : mup M 3 a (M 2 b) 2 b = M 2 b := mup_f (by decide)
  rw [if_neg (fun e => by cases e), v_e3 hr ha, hb, v_e2 hr sb, v_p3 hr ha, v_e2 hr sb, e2, mjn0_b]
  cases hc : M 2 b with
  | none =>
    rw [if_pos rfl]
    refine key _ (fun f q => ?_)
    unfold mup
    rw [hc]
    grind
  | some c =>
    obtain ⟨sc, -⟩ := TI_l hI sb hc
    rw [hc] at e2
    rw [if_neg (fun e => by cases e), v_e2 hr sb, e2, v_p4 hr sc]
    refine key _ (fun f q => ?_)
    unfold mup
    rw [hc]
    grind
theorem v_rotL {K : Unit → HM β} (hr : ¬ S r) (hI : TI S M rt i j pos lo hi) {a b : Nat} (ha : S a) (hb : M 3 a = some b) : mb (mon 18 (some r) (mcall0 (fJ6_rotateLeft g (some r) (some a)))) K (ov r S cmp ks h M C rt sz mc, n, w) = K () (ov r S cmp ks h (rotL M a b) C (if M 4 a = none then some b else rt) sz mc, n, w) := by
  rw [v_mon]
  exact e_call0 (u' := 0) (rotL_ev hr hI ha hb)
theorem v_rotL0 {K : Unit → HM β} : mb (mon 18 (some r) (mcall0 (fJ6_rotateLeft g (some r) none))) K (ov r S cmp ks h M C rt sz mc, n, w) = K () (ov r S cmp ks h M C rt sz mc, n, w) := by
  rw [v_mon]
  refine e_call0 (u' := 0) ?_
  unfold fJ6_rotateLeft
  rw [if_pos rfl]
  rfl
theorem rotR_ev (hr : ¬ S r) (hI : TI S M rt i j pos lo hi) {a b : Nat} (ha : S a) (hb : M 2 a = some b) : fJ6_rotateRight g (some r) (some a) (ov r S cmp ks h M C rt sz mc, n, w) = some ((), (ov r S cmp ks h (rotR M a b) C (if M 4 a = none then some b else rt) sz mc, n, w)) := by
  obtain ⟨sb, pb, lb, hb2⟩ := TI_l hI ha hb
  have ga := hI.1 a ha
  have gb := hI.1 b sb
  have hab : a ≠ b := fun e => by rw [e] at hb2 ga; omega
  have hba : b ≠ a := fun e => hab e.symm
  have key : ∀ (M2 : Nat → Nat → Option Nat), (∀ f q, M2 f q = if f = 2 ∧ q = a then M 3 b else if f = 4 ∧ M 3 b = some q then some a else M f q) →
      (mb (oR 19 4 (some a)) fun x4 => mb (pR 19 4 (some b) x4) fun _ => mb (oR 19 4 (some a)) fun x5 => mjn0 (mb (pR 19 3 (some b) (some a)) fun _ => mb (pR 19 4 (some a) (some b)) fun _ => mret ()) fun j85 => if x5 = none then (mb (pR 18 3 (some r) (some b)) fun _ => j85) else (mb (oR 19 4 (some a)) fun x6 => mb (oR 19 3 x6) fun x7 => if x7 = some a then (mb (oR 19 4 (some a)) fun x9 => mb (pR 19 3 x9 (some b)) fun _ => j85) else (mb (oR 19 4 (some a)) fun x8 => mb (pR 19 2 x8 (some b)) fun _ => j85))) (ov r S cmp ks h M2 C rt sz mc, n, w) = some ((), (ov r S cmp ks h (rotR M a b) C (if M 4 a = none then some b else rt) sz mc, n, w)) := by
    intro M2 hM2
    have hca : M 3 b ≠ some a := fun e => by
      obtain ⟨c1, c2, c3, c4⟩ := TI_r hI sb e
      omega
    have hcb : M 3 b ≠ some b := fun e => by
      obtain ⟨c1, c2, c3, c4⟩ := TI_r hI sb e
      omega
    have e4 : M2 4 a = M 4 a := by rw [hM2, if_neg (fun e => by cases e.1), if_neg (fun e => hca e.2)]
    have e4' : mup M2 4 b (M 4 a) 4 a = M 4 a := by rw [mup_o hab, e4]
    rw [v_e4 hr ha, e4, v_p4 hr sb, v_e4 hr ha, e4', mjn0_b]
    cases hp : M 4 a with
    | none =>
      rw [if_pos rfl, if_pos rfl, v_q3, v_p3 hr sb, v_p4 hr ha]
      have eM : mup (mup (mup M2 4 b none) 3 b (some a)) 4 a (some b) = rotR M a b := by
        funext f q
        unfold mup rotR msw rotL
        rw [hM2]
        grind
      rw [eM]
      rfl
    | some p =>
      obtain ⟨sp, p2⟩ := TI_p hI ha hp
      have gp := hI.1 p sp
      have pab : p ≠ a ∧ p ≠ b := by
        rcases p2 with p2 | p2
        · obtain ⟨q1, q2, q3, q4⟩ := TI_l hI sp p2
          exact ⟨fun q => by rw [q] at gp q3 q4; omega, fun q => by rw [q] at gp q3 q4; omega⟩
        · obtain ⟨q1, q2, q3, q4⟩ := TI_r hI sp p2
          exact ⟨fun q => by rw [q] at gp q3 q4; omega, fun q => by rw [q] at gp q3 q4; omega⟩
      have e2 : mup M2 4 b (some p) 3 p = M 3 p := by rw [mup_f (by decide), hM2, if_neg (fun e => by cases e.1), if_neg (fun e => by cases e.1)]
      rw [hp] at e4'
      rw [if_neg (fun e => by cases e), if_neg (fun e => by cases e), v_e4 hr ha, e4', v_e3 hr sp, e2]
      by_cases hq : M 3 p = some a
      · rw [if_pos hq, v_e4 hr ha, e4', v_p3 hr sp, v_p3 hr sb, v_p4 hr ha]
        have eM : mup (mup (mup (mup M2 4 b (some p)) 3 p (some b)) 3 b (some a)) 4 a (some b) = rotR M a b := by
          funext f q
          unfold mup rotR msw rotL
          rw [hM2]
          grind
        rw [eM]
        rfl
      · rw [if_neg hq, v_e4 hr ha, e4', v_p2 hr sp, v_p3 hr sb, v_p4 hr ha]
        have eM : mup (mup (mup (mup M2 4 b (some p)) 2 p (some b)) 3 b (some a)) 4 a (some b) = rotR M a b := by
          funext f q
          unfold mup rotR msw rotL
          rw [hM2]
          grind
        rw [eM]
        rfl
  unfold fJ6_rotateRight
  have e2 : mup M 2 a (M 3 b) 3 b = M 3 b := mup_f (by decide)
  rw [if_neg (fun e => by cases e), v_e2 hr ha, hb, v_e3 hr sb, v_p2 hr ha, v_e3 hr sb, e2, mjn0_b]
  cases hc : M 3 b with
  | none =>
    rw [if_pos rfl]
    refine key _ (fun f q => ?_)
    unfold mup
    rw [hc]
    grind
  | some c =>
    obtain ⟨sc, -⟩ := TI_r hI sb hc
    rw [hc] at e2
    rw [if_neg (fun e => by cases e), v_e3 hr sb, e2, v_p4 hr sc]
    refine key _ (fun f q => ?_)
    unfold mup
    rw [hc]
    grind
theorem v_rotR {K : Unit → HM β} (hr : ¬ S r) (hI : TI S M rt i j pos lo hi) {a b : Nat} (ha : S a) (hb : M 2 a = some b) : mb (mon 18 (some r) (mcall0 (fJ6_rotateRight g (some r) (some a)))) K (ov r S cmp ks h M C rt sz mc, n, w) = K () (ov r S cmp ks h (rotR M a b) C (if M 4 a = none then some b else rt) sz mc, n, w) := by
  rw [v_mon]
  exact e_call0 (u' := 0) (rotR_ev hr hI ha hb)
theorem v_rotR0 {K : Unit → HM β} : mb (mon 18 (some r) (mcall0 (fJ6_rotateRight g (some r) none))) K (ov r S cmp ks h M C rt sz mc, n, w) = K () (ov r S cmp ks h M C rt sz mc, n, w) := by
  rw [v_mon]
  refine e_call0 (u' := 0) ?_
  unfold fJ6_rotateRight
  rw [if_pos rfl]
  rfl
end
