/-! ===== a node less ===== -/
theorem TI_posc {S : Nat → Prop} {M : Nat → Nat → Option Nat} {rt : Option Nat} {i j : Int} {pos pos' lo hi : Nat → Int} (h : TI S M rt i j pos lo hi) (e : ∀ q, S q → pos' q = pos q) : TI S M rt i j pos' lo hi := by
  obtain ⟨h1, h2, h3, h4, h5⟩ := h
  refine ⟨fun q hq => by rw [e q hq]; exact h1 q hq, fun q hq => by rw [e q hq]; exact h2 q hq, fun q hq => by rw [e q hq]; exact h3 q hq, h4, h5⟩
def pdn (pos : Nat → Int) (k : Int) : Nat → Int := fun q => if pos q < k then pos q else pos q - 1
theorem TI_delL {S : Nat → Prop} {M M' : Nat → Nat → Option Nat} {rt : Option Nat} {i j : Int} {pos lo hi : Nat → Int} (h : TI S M rt i j pos lo hi) (hj : inj S pos) {p : Nat} (hp : S p) (h3 : M 3 p = none)
    (m2 : ∀ q, S q → q ≠ p → M' 2 q = if M 2 q = some p then M 2 p else M 2 q) (m3 : ∀ q, S q → q ≠ p → M' 3 q = if M 3 q = some p then M 2 p else M 3 q) (m4 : ∀ q, S q → q ≠ p → M' 4 q = if M 2 p = some q then M 4 p else M 4 q) :
    ∃ lo' hi', TI (fun q => S q ∧ q ≠ p) M' (if M 4 p = none then M 2 p else rt) i (j - 1) (pdn pos (pos p)) lo' hi' := by
  have hp1 := TI_r0 h hp h3
  have gp := h.1 p hp
  have hpp : ∀ q, S q → q ≠ p → pos q ≠ pos p := fun q hq e w => e (hj q p hq hp w)
  have hch : ∀ c, M 2 p = some c → S c ∧ c ≠ p ∧ M 4 c = some p ∧ lo c = lo p ∧ hi c = pos p := fun c hc => by
    obtain ⟨a1, a2, a3, a4⟩ := TI_l h hp hc
    have := h.1 c a1
    exact ⟨a1, fun e => by rw [e] at this a4; omega, a2, a3, a4⟩
  have hl0 : M 2 p = none → lo p = pos p := fun e => TI_l0 h hp e
  refine ⟨fun q => if lo q ≤ pos p then lo q else lo q - 1, fun q => if hi q ≤ pos p then hi q else hi q - 1, fun q hq => ?_, fun q hq => ?_, fun q hq => ?_, fun q hq => ?_, ?_⟩
  · have gq := h.1 q hq.1
    have := hpp q hq.1 hq.2
    unfold pdn
    try simp only []
    split <;> split <;> split <;> omega
  · have gq := h.1 q hq.1
    have np := hpp q hq.1 hq.2
    rw [m2 q hq.1 hq.2]
    unfold pdn
    by_cases e : M 2 q = some p
    · rw [if_pos e]
      obtain ⟨a1, a2, a3, a4⟩ := TI_l h hq.1 e
      cases hc : M 2 p with
      | none =>
        left
        have := hl0 hc
        refine ⟨rfl, ?_⟩
        try simp only []
        split <;> split <;> omega
      | some c =>
        right
        obtain ⟨c1, c2, c3, c4, c5⟩ := hch c hc
        refine ⟨c, rfl, ⟨c1, c2⟩, by rw [m4 c c1 c2, if_pos hc]; exact a2, ?_, ?_⟩
        · try simp only []
          rw [c4, a3]
        · try simp only []
          split <;> split <;> omega
    · rw [if_neg e]
      rcases h.2.1 q hq.1 with ⟨k1, k2⟩ | ⟨d, k1, k2, k3, k4, k5⟩
      · left
        refine ⟨k1, ?_⟩
        try simp only []
        split <;> split <;> omega
      · right
        have dp : d ≠ p := fun w => e (by rw [← w]; exact k1)
        refine ⟨d, k1, ⟨k2, dp⟩, ?_, ?_, ?_⟩
        · rw [m4 d k2 dp, if_neg (fun w => by
            have := (hch d w).2.2.1
            rw [k3] at this
            exact hq.2 (Option.some.inj this))]
          exact k3
        · try simp only []
          rw [k4]
        · try simp only []
          split <;> split <;> omega
  · have gq := h.1 q hq.1
    have np := hpp q hq.1 hq.2
    rw [m3 q hq.1 hq.2]
    unfold pdn
    by_cases e : M 3 q = some p
    · rw [if_pos e]
      obtain ⟨a1, a2, a3, a4⟩ := TI_r h hq.1 e
      cases hc : M 2 p with
      | none =>
        left
        have := hl0 hc
        refine ⟨rfl, ?_⟩
        try simp only []
        split <;> split <;> omega
      | some c =>
        right
        obtain ⟨c1, c2, c3, c4, c5⟩ := hch c hc
        refine ⟨c, rfl, ⟨c1, c2⟩, by rw [m4 c c1 c2, if_pos hc]; exact a2, ?_, ?_⟩
        · try simp only []
          split <;> split <;> omega
        · try simp only []
          split <;> split <;> omega
    · rw [if_neg e]
      rcases h.2.2.1 q hq.1 with ⟨k1, k2⟩ | ⟨d, k1, k2, k3, k4, k5⟩
      · left
        refine ⟨k1, ?_⟩
        try simp only []
        split <;> split <;> omega
      · right
        have dp : d ≠ p := fun w => e (by rw [← w]; exact k1)
        refine ⟨d, k1, ⟨k2, dp⟩, ?_, ?_, ?_⟩
        · rw [m4 d k2 dp, if_neg (fun w => by
            have := (hch d w).2.2.1
            rw [k3] at this
            exact hq.2 (Option.some.inj this))]
          exact k3
        · try simp only []
          split <;> split <;> omega
        · try simp only []
          rw [k5]
  · rw [m4 q hq.1 hq.2]
    by_cases e : M 2 p = some q
    · rw [if_pos e]
      rcases h.2.2.2.1 p hp with ⟨k1, k2⟩ | ⟨d, k1, k2, k3⟩
      · left
        exact ⟨k1, by rw [if_pos k1]; exact e⟩
      · right
        have dp : d ≠ p := fun w => (TI_pn h hp k1).1 w.symm
        refine ⟨d, k1, ⟨k2, dp⟩, ?_⟩
        rcases k3 with k3 | k3
        · left
          rw [m2 d k2 dp, if_pos k3]; exact e
        · right
          rw [m3 d k2 dp, if_pos k3]; exact e
    · rw [if_neg e]
      rcases h.2.2.2.1 q hq.1 with ⟨k1, k2⟩ | ⟨d, k1, k2, k3⟩
      · left
        refine ⟨k1, ?_⟩
        rw [if_neg (fun w => by
          have := TI_p0 h hp w
          rw [k2] at this
          exact hq.2 (Option.some.inj this))]
        exact k2
      · right
        have dp : d ≠ p := fun w => by
          rw [w] at k3
          rcases k3 with k3 | k3
          · exact e k3
          · rw [h3] at k3; cases k3
        refine ⟨d, k1, ⟨k2, dp⟩, ?_⟩
        rcases k3 with k3 | k3
        · left
          rw [m2 d k2 dp, if_neg (fun w => by rw [w] at k3; exact hq.2 (Option.some.inj k3).symm)]
          exact k3
        · right
          rw [m3 d k2 dp, if_neg (fun w => by rw [w] at k3; exact hq.2 (Option.some.inj k3).symm)]
          exact k3
  · rcases h.2.2.2.2 with ⟨k1, k2⟩ | ⟨r, k1, k2, k3, k4, k5⟩
    · omega
    · by_cases e : M 4 p = none
      · have e2 := TI_p0 h hp e
        rw [k1] at e2
        have e3 : r = p := Option.some.inj e2
        rw [e3] at k4 k5
        rw [if_pos e]
        cases hc : M 2 p with
        | none =>
          left
          have := hl0 hc
          exact ⟨rfl, by omega⟩
        | some c =>
          right
          obtain ⟨c1, c2, c3, c4, c5⟩ := hch c hc
          refine ⟨c, rfl, ⟨c1, c2⟩, by rw [m4 c c1 c2, if_pos hc]; exact e, ?_, ?_⟩
          · try simp only []
            split <;> omega
          · try simp only []
            split <;> omega
      · right
        have rp : r ≠ p := fun w => e (by rw [← w]; exact k3)
        have gr := h.1 r k2
        refine ⟨r, by rw [if_neg e]; exact k1, ⟨k2, rp⟩, ?_, ?_, ?_⟩
        · rw [m4 r k2 rp, if_neg (fun w => by
            have := (hch r w).2.2.1
            rw [k3] at this; cases this)]
          exact k3
        · try simp only []
          split <;> omega
        · try simp only []
          split <;> omega
theorem TI_delR {S : Nat → Prop} {M M' : Nat → Nat → Option Nat} {rt : Option Nat} {i j : Int} {pos lo hi : Nat → Int} (h : TI S M rt i j pos lo hi) (hj : inj S pos) {p : Nat} (hp : S p) (h2 : M 2 p = none)
    (m3 : ∀ q, S q → q ≠ p → M' 3 q = if M 3 q = some p then M 3 p else M 3 q) (m2 : ∀ q, S q → q ≠ p → M' 2 q = if M 2 q = some p then M 3 p else M 2 q) (m4 : ∀ q, S q → q ≠ p → M' 4 q = if M 3 p = some q then M 4 p else M 4 q) :
    ∃ lo' hi', TI (fun q => S q ∧ q ≠ p) M' (if M 4 p = none then M 3 p else rt) i (j - 1) (pdn pos (pos p)) lo' hi' := by
  obtain ⟨lo', hi', k⟩ := TI_delL (M' := msw M') (TI_msw h) (fun c d hc hd e => hj c d hc hd (by omega)) hp (show msw M 3 p = none from h2) m3 m2 m4
  have k2 := TI_shift (TI_msw k) (-1)
  rw [msw_msw, show (1 : Int) - (1 - i - 1) + (-1) = i by omega, show (1 : Int) - (1 - j) + (-1) = j - 1 by omega] at k2
  have hg := h.1
  refine ⟨_, _, TI_posc k2 (fun q hq => ?_)⟩
  have e : pos q ≠ pos p := fun w => hq.2 (hj q p hq.1 hp w)
  unfold pdn
  try simp only []
  split <;> split <;> omega
