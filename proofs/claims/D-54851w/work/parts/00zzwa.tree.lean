/-! ===== trees: links by address, places in order; what a rotation does ===== -/
def mup (M : Nat → Nat → Option Nat) (f a : Nat) (v : Option Nat) : Nat → Nat → Option Nat := fun f' a' => if f' = f ∧ a' = a then v else M f' a'
/-- nodes S, links M (2 left, 3 right, 4 parent), root, over the places i .. j-1; a node's own place, and the places of all below it -/
def TI (S : Nat → Prop) (M : Nat → Nat → Option Nat) (rt : Option Nat) (i j : Int) (pos lo hi : Nat → Int) : Prop :=
  (∀ a, S a → i ≤ lo a ∧ lo a ≤ pos a ∧ pos a < hi a ∧ hi a ≤ j) ∧
  (∀ a, S a → (M 2 a = none ∧ lo a = pos a) ∨ ∃ b, M 2 a = some b ∧ S b ∧ M 4 b = some a ∧ lo b = lo a ∧ hi b = pos a) ∧
  (∀ a, S a → (M 3 a = none ∧ hi a = pos a + 1) ∨ ∃ b, M 3 a = some b ∧ S b ∧ M 4 b = some a ∧ lo b = pos a + 1 ∧ hi b = hi a) ∧
  (∀ a, S a → (M 4 a = none ∧ rt = some a) ∨ ∃ b, M 4 a = some b ∧ S b ∧ (M 2 b = some a ∨ M 3 b = some a)) ∧
  ((rt = none ∧ i = j) ∨ ∃ r, rt = some r ∧ S r ∧ M 4 r = none ∧ lo r = i ∧ hi r = j)
theorem TI_rg {S : Nat → Prop} {M : Nat → Nat → Option Nat} {rt : Option Nat} {i j : Int} {pos lo hi : Nat → Int} (h : TI S M rt i j pos lo hi) {a : Nat} (ha : S a) : i ≤ lo a ∧ lo a ≤ pos a ∧ pos a < hi a ∧ hi a ≤ j := h.1 a ha
theorem TI_l {S : Nat → Prop} {M : Nat → Nat → Option Nat} {rt : Option Nat} {i j : Int} {pos lo hi : Nat → Int} (h : TI S M rt i j pos lo hi) {a b : Nat} (ha : S a) (e : M 2 a = some b) : S b ∧ M 4 b = some a ∧ lo b = lo a ∧ hi b = pos a := by
  rcases h.2.1 a ha with ⟨q, -⟩ | ⟨b', e', q⟩
  · rw [e] at q; cases q
  · rw [e] at e'; cases e'; exact q
theorem TI_r {S : Nat → Prop} {M : Nat → Nat → Option Nat} {rt : Option Nat} {i j : Int} {pos lo hi : Nat → Int} (h : TI S M rt i j pos lo hi) {a b : Nat} (ha : S a) (e : M 3 a = some b) : S b ∧ M 4 b = some a ∧ lo b = pos a + 1 ∧ hi b = hi a := by
  rcases h.2.2.1 a ha with ⟨q, -⟩ | ⟨b', e', q⟩
  · rw [e] at q; cases q
  · rw [e] at e'; cases e'; exact q
theorem TI_l0 {S : Nat → Prop} {M : Nat → Nat → Option Nat} {rt : Option Nat} {i j : Int} {pos lo hi : Nat → Int} (h : TI S M rt i j pos lo hi) {a : Nat} (ha : S a) (e : M 2 a = none) : lo a = pos a := by
  rcases h.2.1 a ha with ⟨-, q⟩ | ⟨b', e', -⟩
  · exact q
  · rw [e] at e'; cases e'
theorem TI_r0 {S : Nat → Prop} {M : Nat → Nat → Option Nat} {rt : Option Nat} {i j : Int} {pos lo hi : Nat → Int} (h : TI S M rt i j pos lo hi) {a : Nat} (ha : S a) (e : M 3 a = none) : hi a = pos a + 1 := by
  rcases h.2.2.1 a ha with ⟨-, q⟩ | ⟨b', e', -⟩
  · exact q
  · rw [e] at e'; cases e'
theorem TI_p {S : Nat → Prop} {M : Nat → Nat → Option Nat} {rt : Option Nat} {i j : Int} {pos lo hi : Nat → Int} (h : TI S M rt i j pos lo hi) {a b : Nat} (ha : S a) (e : M 4 a = some b) : S b ∧ (M 2 b = some a ∨ M 3 b = some a) := by
  rcases h.2.2.2.1 a ha with ⟨q, -⟩ | ⟨b', e', q⟩
  · rw [e] at q; cases q
  · rw [e] at e'; cases e'; exact q
theorem TI_p0 {S : Nat → Prop} {M : Nat → Nat → Option Nat} {rt : Option Nat} {i j : Int} {pos lo hi : Nat → Int} (h : TI S M rt i j pos lo hi) {a : Nat} (ha : S a) (e : M 4 a = none) : rt = some a := by
  rcases h.2.2.2.1 a ha with ⟨-, q⟩ | ⟨b', e', -⟩
  · exact q
  · rw [e] at e'; cases e'
theorem TI_rt {S : Nat → Prop} {M : Nat → Nat → Option Nat} {rt : Option Nat} {i j : Int} {pos lo hi : Nat → Int} (h : TI S M rt i j pos lo hi) {a : Nat} (e : rt = some a) : S a ∧ M 4 a = none ∧ lo a = i ∧ hi a = j := by
  rcases h.2.2.2.2 with ⟨q, -⟩ | ⟨b', e', q⟩
  · rw [e] at q; cases q
  · rw [e] at e'; cases e'; exact q
/-- both children of a node differ; a child isn't its parent -/
theorem TI_lr {S : Nat → Prop} {M : Nat → Nat → Option Nat} {rt : Option Nat} {i j : Int} {pos lo hi : Nat → Int} (h : TI S M rt i j pos lo hi) {a b : Nat} (ha : S a) (e : M 2 a = some b) : M 3 a ≠ some b := by
  intro e2
  have h1 := TI_l h ha e
  have h2 := TI_r h ha e2
  have h3 := h.1 a ha
  omega
theorem TI_pn {S : Nat → Prop} {M : Nat → Nat → Option Nat} {rt : Option Nat} {i j : Int} {pos lo hi : Nat → Int} (h : TI S M rt i j pos lo hi) {a b : Nat} (ha : S a) (e : M 4 a = some b) : a ≠ b ∧ hi a - lo a < hi b - lo b := by
  obtain ⟨h1, h2⟩ := TI_p h ha e
  have h3 := h.1 b h1
  have h4 := h.1 a ha
  rcases h2 with h2 | h2
  · have h5 := TI_l h h1 h2
    exact ⟨fun q => by rw [q] at h4 h5; omega, by omega⟩
  · have h5 := TI_r h h1 h2
    exact ⟨fun q => by rw [q] at h4 h5; omega, by omega⟩
/-- what is left of a rotation: a's right child b comes to its place -/
def rotL (M : Nat → Nat → Option Nat) (a b : Nat) : Nat → Nat → Option Nat := fun f q =>
  if f = 3 ∧ q = a then M 2 b
  else if f = 4 ∧ M 2 b = some q then some a
  else if f = 4 ∧ q = b then M 4 a
  else if f = 2 ∧ q = b then some a
  else if f = 4 ∧ q = a then some b
  else if f = 2 ∧ M 4 a = some q ∧ M 2 q = some a then some b
  else if f = 3 ∧ M 4 a = some q ∧ M 2 q ≠ some a then some b
  else M f q
theorem rotL_2 {M : Nat → Nat → Option Nat} {a b q : Nat} : rotL M a b 2 q = if q = b then some a else if M 4 a = some q ∧ M 2 q = some a then some b else M 2 q := by
  simp [rotL]
theorem rotL_3 {M : Nat → Nat → Option Nat} {a b q : Nat} : rotL M a b 3 q = if q = a then M 2 b else if M 4 a = some q ∧ M 2 q ≠ some a then some b else M 3 q := by
  simp [rotL]
theorem rotL_4 {M : Nat → Nat → Option Nat} {a b q : Nat} : rotL M a b 4 q = if M 2 b = some q then some a else if q = b then M 4 a else if q = a then some b else M 4 q := by
  simp [rotL]
theorem rotL_o {M : Nat → Nat → Option Nat} {a b f : Nat} (hf : f < 2) : rotL M a b f = M f := by
  funext q
  have h2 : f ≠ 2 := by omega
  have h3 : f ≠ 3 := by omega
  have h4 : f ≠ 4 := by omega
  simp [rotL, h2, h3, h4]
theorem TI_rotL {S : Nat → Prop} {M : Nat → Nat → Option Nat} {rt : Option Nat} {i j : Int} {pos lo hi : Nat → Int} (h : TI S M rt i j pos lo hi) {a b : Nat} (ha : S a) (hb : M 3 a = some b) :
    TI S (rotL M a b) (if M 4 a = none then some b else rt) i j pos (fun q => if q = b then lo a else lo q) (fun q => if q = a then pos b else hi q) := by
  obtain ⟨sb, pb, lb, hb2⟩ := TI_r h ha hb
  have ga := h.1 a ha
  have gb := h.1 b sb
  have hab : a ≠ b := fun e => by rw [e] at lb ga; omega
  have hca : ∀ c, M 2 b = some c → c ≠ a ∧ c ≠ b := fun c e => by
    obtain ⟨c1, c2, c3, c4⟩ := TI_l h sb e
    have gc := h.1 c c1
    exact ⟨fun q => by rw [q] at gc c3 c4; omega, fun q => by rw [q] at gc c3 c4; omega⟩
  have hpa : ∀ p, M 4 a = some p → p ≠ a ∧ p ≠ b := fun p e => by
    obtain ⟨p1, p2⟩ := TI_p h ha e
    have gp := h.1 p p1
    rcases p2 with p2 | p2
    · obtain ⟨q1, q2, q3, q4⟩ := TI_l h p1 p2
      exact ⟨fun q => by rw [q] at gp q3 q4; omega, fun q => by rw [q] at gp q3 q4; omega⟩
    · obtain ⟨q1, q2, q3, q4⟩ := TI_r h p1 p2
      exact ⟨fun q => by rw [q] at gp q3 q4; omega, fun q => by rw [q] at gp q3 q4; omega⟩
  refine ⟨fun q hq => ?_, fun q hq => ?_, fun q hq => ?_, fun q hq => ?_, ?_⟩
  · have gq := h.1 q hq
    dsimp only
    by_cases e1 : q = b
    · subst e1
      rw [if_pos rfl, if_neg (fun e => hab e.symm)]
      omega
    · rw [if_neg e1]
      by_cases e2 : q = a
      · subst e2; rw [if_pos rfl]; omega
      · rw [if_neg e2]; omega
  · rw [rotL_2]
    dsimp only
    by_cases e1 : q = b
    · subst e1
      right
      refine ⟨a, by rw [if_pos rfl], ha, ?_, ?_, ?_⟩
      · rw [rotL_4, if_neg (fun e => (hca a e).1 rfl), if_neg hab, if_pos rfl]
      · rw [if_neg hab, if_pos rfl]
      · rw [if_pos rfl]
    · rw [if_neg e1]
      by_cases e2 : M 4 a = some q ∧ M 2 q = some a
      · rw [if_pos e2]
        obtain ⟨q1, q2, q3, q4⟩ := TI_l h hq e2.2
        right
        refine ⟨b, rfl, sb, ?_, ?_, ?_⟩
        · rw [rotL_4, if_neg (fun e => (hca b e).2 rfl), if_pos rfl]; exact e2.1
        · rw [if_pos rfl, if_neg e1]; exact q3
        · rw [if_neg (fun e => hab e.symm)]; omega
      · rw [if_neg e2, if_neg e1]
        rcases h.2.1 q hq with ⟨k1, k2⟩ | ⟨d, k1, k2, k3, k4, k5⟩
        · exact Or.inl ⟨k1, k2⟩
        · right
          have da : d ≠ a := fun e => e2 ⟨by rw [← e]; exact k3, by rw [← e]; exact k1⟩
          have db : d ≠ b := fun e => by
            rw [e, pb] at k3
            have e3 : a = q := Option.some.inj k3
            rw [← e3] at k1
            rw [e] at k1
            exact TI_lr h ha k1 hb
          refine ⟨d, k1, k2, ?_, ?_, ?_⟩
          · rw [rotL_4, if_neg (fun e => by
              have := (TI_l h sb e).2.1
              rw [k3] at this
              exact e1 (Option.some.inj this)), if_neg db, if_neg da]
            exact k3
          · rw [if_neg db]; exact k4
          · rw [if_neg da]; exact k5
  · rw [rotL_3]
    dsimp only
    by_cases e1 : q = a
    · subst e1
      rw [if_pos rfl, if_pos rfl]
      rcases h.2.1 b sb with ⟨k1, k2⟩ | ⟨d, k1, k2, k3, k4, k5⟩
      · exact Or.inl ⟨k1, by omega⟩
      · right
        obtain ⟨da, db⟩ := hca d k1
        refine ⟨d, k1, k2, by rw [rotL_4, if_pos k1], ?_, ?_⟩
        · rw [if_neg db]; omega
        · rw [if_neg da]; exact k5
    · rw [if_neg e1, if_neg e1]
      by_cases e2 : M 4 a = some q ∧ M 2 q ≠ some a
      · rw [if_pos e2]
        have e3 : M 3 q = some a := (TI_p h ha e2.1).2.resolve_left e2.2
        obtain ⟨q1, q2, q3, q4⟩ := TI_r h hq e3
        right
        refine ⟨b, rfl, sb, ?_, ?_, ?_⟩
        · rw [rotL_4, if_neg (fun e => (hca b e).2 rfl), if_pos rfl]; exact e2.1
        · rw [if_pos rfl]; exact q3
        · rw [if_neg (fun e => hab e.symm)]; omega
      · rw [if_neg e2]
        rcases h.2.2.1 q hq with ⟨k1, k2⟩ | ⟨d, k1, k2, k3, k4, k5⟩
        · exact Or.inl ⟨k1, k2⟩
        · right
          have da : d ≠ a := fun e => by
            rw [e] at k1 k3
            exact e2 ⟨k3, fun w => TI_lr h hq w k1⟩
          have db : d ≠ b := fun e => by
            rw [e, pb] at k3
            exact e1 (Option.some.inj k3).symm
          refine ⟨d, k1, k2, ?_, ?_, ?_⟩
          · rw [rotL_4, if_neg (fun e => by
              have := (TI_l h sb e).2.1
              rw [k3] at this
              have e3 := Option.some.inj this
              rw [e3] at k1
              exact TI_lr h sb e k1), if_neg db, if_neg da]
            exact k3
          · rw [if_neg db]; exact k4
          · rw [if_neg da]; exact k5
  · rw [rotL_4]
    by_cases e0 : M 2 b = some q
    · rw [if_pos e0]
      exact Or.inr ⟨a, rfl, ha, Or.inr (by rw [rotL_3, if_pos rfl]; exact e0)⟩
    · rw [if_neg e0]
      by_cases e1 : q = b
      · subst e1
        rw [if_pos rfl]
        rcases h.2.2.2.1 a ha with ⟨k1, k2⟩ | ⟨p, k1, k2, k3⟩
        · exact Or.inl ⟨k1, by rw [if_pos k1]⟩
        · right
          obtain ⟨pa, pb'⟩ := hpa p k1
          refine ⟨p, k1, k2, ?_⟩
          by_cases e2 : M 2 p = some a
          · left
            rw [rotL_2, if_neg pb', if_pos ⟨k1, e2⟩]
          · right
            rw [rotL_3, if_neg pa, if_pos ⟨k1, e2⟩]
      · rw [if_neg e1]
        by_cases e2 : q = a
        · subst e2
          rw [if_pos rfl]
          exact Or.inr ⟨b, rfl, sb, Or.inl (by rw [rotL_2, if_pos rfl])⟩
        · rw [if_neg e2]
          rcases h.2.2.2.1 q hq with ⟨k1, k2⟩ | ⟨d, k1, k2, k3⟩
          · left
            refine ⟨k1, ?_⟩
            rw [if_neg (fun e => by
              have := TI_p0 h ha e
              rw [k2] at this
              exact e2 (Option.some.inj this))]
            exact k2
          · right
            refine ⟨d, k1, k2, ?_⟩
            rcases k3 with k3 | k3
            · left
              rw [rotL_2, if_neg (fun e => e0 (by rw [← e]; exact k3)), if_neg (fun e => by
                rw [k3] at e
                exact e2 (Option.some.inj e.2))]
              exact k3
            · right
              have hda : d ≠ a := fun e => by
                rw [e, hb] at k3
                exact e1 (Option.some.inj k3).symm
              rw [rotL_3, if_neg hda, if_neg (fun e => by
                have := (TI_p h ha e.1).2.resolve_left e.2
                rw [k3] at this
                exact e2 (Option.some.inj this))]
              exact k3
  · dsimp only
    rcases h.2.2.2.2 with ⟨k1, k2⟩ | ⟨r, k1, k2, k3, k4, k5⟩
    · omega
    · right
      by_cases e : M 4 a = none
      · have e2 := TI_p0 h ha e
        rw [k1] at e2
        have e3 : r = a := Option.some.inj e2
        subst e3
        refine ⟨b, by rw [if_pos e], sb, ?_, ?_, ?_⟩
        · rw [rotL_4, if_neg (fun w => (hca b w).2 rfl), if_pos rfl]; exact e
        · rw [if_pos rfl]; exact k4
        · rw [if_neg (fun w => hab w.symm)]; omega
      · have rb : r ≠ b := fun w => by rw [w, pb] at k3; cases k3
        have ra : r ≠ a := fun w => e (by rw [← w]; exact k3)
        refine ⟨r, by rw [if_neg e]; exact k1, k2, ?_, ?_, ?_⟩
        · rw [rotL_4, if_neg (fun w => by
            have := (TI_l h sb w).2.1
            rw [k3] at this; cases this), if_neg rb, if_neg ra]
          exact k3
        · rw [if_neg rb]; exact k4
        · rw [if_neg ra]; exact k5
/-! ===== the mirror ===== -/
def msw (M : Nat → Nat → Option Nat) : Nat → Nat → Option Nat := fun f q => if f = 2 then M 3 q else if f = 3 then M 2 q else M f q
theorem msw_msw {M : Nat → Nat → Option Nat} : msw (msw M) = M := by
  funext f q
  unfold msw
  by_cases e : f = 2
  · subst e; simp
  · by_cases e2 : f = 3
    · subst e2; simp
    · rw [if_neg e, if_neg e2, if_neg e, if_neg e2]
theorem msw_2 {M : Nat → Nat → Option Nat} {q : Nat} : msw M 2 q = M 3 q := rfl
theorem msw_3 {M : Nat → Nat → Option Nat} {q : Nat} : msw M 3 q = M 2 q := rfl
theorem msw_4 {M : Nat → Nat → Option Nat} {q : Nat} : msw M 4 q = M 4 q := rfl
theorem TI_msw {S : Nat → Prop} {M : Nat → Nat → Option Nat} {rt : Option Nat} {i j : Int} {pos lo hi : Nat → Int} (h : TI S M rt i j pos lo hi) : TI S (msw M) rt (1 - j) (1 - i) (fun q => - pos q) (fun q => 1 - hi q) (fun q => 1 - lo q) := by
  obtain ⟨h1, h2, h3, h4, h5⟩ := h
  refine ⟨fun q hq => ?_, fun q hq => ?_, fun q hq => ?_, fun q hq => ?_, ?_⟩
  · have := h1 q hq
    show 1 - j ≤ 1 - hi q ∧ 1 - hi q ≤ - pos q ∧ - pos q < 1 - lo q ∧ 1 - lo q ≤ 1 - i
    omega
  · rcases h3 q hq with ⟨a, b⟩ | ⟨d, a, b, c, e, f⟩
    · exact Or.inl ⟨a, by show 1 - hi q = - pos q; omega⟩
    · exact Or.inr ⟨d, a, b, c, by show 1 - hi d = 1 - hi q; omega, by show 1 - lo d = - pos q; omega⟩
  · rcases h2 q hq with ⟨a, b⟩ | ⟨d, a, b, c, e, f⟩
    · exact Or.inl ⟨a, by show 1 - lo q = - pos q + 1; omega⟩
    · exact Or.inr ⟨d, a, b, c, by show 1 - hi d = - pos q + 1; omega, by show 1 - lo d = 1 - lo q; omega⟩
  · rcases h4 q hq with ⟨a, b⟩ | ⟨d, a, b, c⟩
    · exact Or.inl ⟨a, b⟩
    · exact Or.inr ⟨d, a, b, c.symm⟩
  · rcases h5 with ⟨a, b⟩ | ⟨r, a, b, c, d, e⟩
    · exact Or.inl ⟨a, by omega⟩
    · exact Or.inr ⟨r, a, b, c, by show 1 - hi r = 1 - j; omega, by show 1 - lo r = 1 - i; omega⟩
def rotR (M : Nat → Nat → Option Nat) (a b : Nat) : Nat → Nat → Option Nat := msw (rotL (msw M) a b)
theorem rotR_3 {M : Nat → Nat → Option Nat} {a b q : Nat} : rotR M a b 3 q = if q = b then some a else if M 4 a = some q ∧ M 3 q = some a then some b else M 3 q := rotL_2
theorem rotR_2 {M : Nat → Nat → Option Nat} {a b q : Nat} : rotR M a b 2 q = if q = a then M 3 b else if M 4 a = some q ∧ M 3 q ≠ some a then some b else M 2 q := rotL_3
theorem rotR_4 {M : Nat → Nat → Option Nat} {a b q : Nat} : rotR M a b 4 q = if M 3 b = some q then some a else if q = b then M 4 a else if q = a then some b else M 4 q := rotL_4
theorem rotR_o {M : Nat → Nat → Option Nat} {a b f : Nat} (hf : f < 2) : rotR M a b f = M f := by
  have e : rotR M a b f = rotL (msw M) a b f := by
    funext q
    unfold rotR
    show (if f = 2 then _ else if f = 3 then _ else rotL (msw M) a b f q) = _
    rw [if_neg (by omega), if_neg (by omega)]
  rw [e, rotL_o hf]
  funext q
  show (if f = 2 then _ else if f = 3 then _ else M f q) = _
  rw [if_neg (by omega), if_neg (by omega)]
theorem TI_rotR {S : Nat → Prop} {M : Nat → Nat → Option Nat} {rt : Option Nat} {i j : Int} {pos lo hi : Nat → Int} (h : TI S M rt i j pos lo hi) {a b : Nat} (ha : S a) (hb : M 2 a = some b) :
    ∃ lo' hi', TI S (rotR M a b) (if M 4 a = none then some b else rt) i j pos lo' hi' := by
  have h2 := TI_msw (TI_rotL (TI_msw h) ha (show msw M 3 a = some b from hb))
  rw [show (1 : Int) - (1 - i) = i by omega, show (1 : Int) - (1 - j) = j by omega] at h2
  simp only [Int.neg_neg] at h2
  exact ⟨_, _, h2⟩
