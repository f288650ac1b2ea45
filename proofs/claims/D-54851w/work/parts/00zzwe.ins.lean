/-! ===== a leaf more ===== -/
theorem TI_shift {S : Nat → Prop} {M : Nat → Nat → Option Nat} {rt : Option Nat} {i j : Int} {pos lo hi : Nat → Int} (h : TI S M rt i j pos lo hi) (c : Int) : TI S M rt (i + c) (j + c) (fun q => pos q + c) (fun q => lo q + c) (fun q => hi q + c) := by
  obtain ⟨h1, h2, h3, h4, h5⟩ := h
  refine ⟨fun q hq => ?_, fun q hq => ?_, fun q hq => ?_, h4, ?_⟩
  · have := h1 q hq
    show i + c ≤ lo q + c ∧ lo q + c ≤ pos q + c ∧ pos q + c < hi q + c ∧ hi q + c ≤ j + c
    omega
  · rcases h2 q hq with ⟨a, b⟩ | ⟨d, a, b, x, e, f⟩
    · exact Or.inl ⟨a, by show lo q + c = pos q + c; omega⟩
    · exact Or.inr ⟨d, a, b, x, by show lo d + c = lo q + c; omega, by show hi d + c = pos q + c; omega⟩
  · rcases h3 q hq with ⟨a, b⟩ | ⟨d, a, b, x, e, f⟩
    · exact Or.inl ⟨a, by show hi q + c = pos q + c + 1; omega⟩
    · exact Or.inr ⟨d, a, b, x, by show lo d + c = pos q + c + 1; omega, by show hi d + c = hi q + c; omega⟩
  · rcases h5 with ⟨a, b⟩ | ⟨r, a, b, x, d, e⟩
    · exact Or.inl ⟨a, by omega⟩
    · exact Or.inr ⟨r, a, b, x, by show lo r + c = i + c; omega, by show hi r + c = j + c; omega⟩
def inj (S : Nat → Prop) (pos : Nat → Int) : Prop := ∀ a b, S a → S b → pos a = pos b → a = b
/-- the places behind k move up; x comes to k -/
def pup (pos : Nat → Int) (x : Nat) (k : Int) : Nat → Int := fun q => if q = x then k else if pos q < k then pos q else pos q + 1
theorem TI_insL {S : Nat → Prop} {M M' : Nat → Nat → Option Nat} {rt : Option Nat} {i j : Int} {pos lo hi : Nat → Int} (h : TI S M rt i j pos lo hi) (hj : inj S pos) {a x : Nat} (ha : S a) (hx : ¬ S x) (h0 : M 2 a = none)
    (m2 : ∀ q, S q → M' 2 q = if q = a then some x else M 2 q) (m3 : ∀ q, S q → M' 3 q = M 3 q) (m4 : ∀ q, S q → M' 4 q = M 4 q) (x2 : M' 2 x = none) (x3 : M' 3 x = none) (x4 : M' 4 x = some a) :
    ∃ lo' hi', TI (fun q => S q ∨ q = x) M' rt i (j + 1) (pup pos x (pos a)) lo' hi' := by
  have la := TI_l0 h ha h0
  have ga := h.1 a ha
  have hne : ∀ q, S q → q ≠ x := fun q hq e => hx (by rw [← e]; exact hq)
  have hpa : ∀ q, S q → q ≠ a → pos q ≠ pos a := fun q hq e w => e (hj q a hq ha w)
  obtain ⟨h1, h2, h3, h4, h5⟩ := h
  refine ⟨fun q => if q = x then pos a else if lo q ≤ pos a then lo q else lo q + 1, fun q => if q = x then pos a + 1 else if hi q ≤ pos a then hi q else hi q + 1, fun q hq => ?_, fun q hq => ?_, fun q hq => ?_, fun q hq => ?_, ?_⟩
  · unfold pup
    by_cases e : q = x
    · simp only [if_pos e]; omega
    · have sq : S q := hq.resolve_right e
      have := h1 q sq
      simp only [if_neg e]
      split <;> split <;> split <;> omega
  · by_cases e : q = x
    · left
      rw [e]
      unfold pup
      simp only [if_true]
      exact ⟨x2, trivial⟩
    · have sq : S q := hq.resolve_right e
      rw [m2 q sq]
      by_cases f : q = a
      · right
        refine ⟨x, by rw [if_pos f], Or.inr rfl, by rw [f]; exact x4, ?_, ?_⟩
        · simp only [if_true, if_neg e]
          rw [f, if_pos (by omega)]; exact la.symm
        · unfold pup
          simp only [if_true, if_neg e]
          rw [f, if_neg (by omega)]
      · rw [if_neg f]
        have gq := h1 q sq
        have np := hpa q sq f
        unfold pup
        rcases h2 q sq with ⟨k1, k2⟩ | ⟨d, k1, k2, k3, k4, k5⟩
        · left
          refine ⟨k1, ?_⟩
          simp only [if_neg e]
          split <;> split <;> omega
        · right
          refine ⟨d, k1, Or.inl k2, by rw [m4 d k2]; exact k3, ?_, ?_⟩
          · simp only [if_neg e, if_neg (hne d k2)]
            rw [k4]
          · simp only [if_neg e, if_neg (hne d k2)]
            split <;> split <;> omega
  · by_cases e : q = x
    · left
      rw [e]
      unfold pup
      simp only [if_true]
      exact ⟨x3, trivial⟩
    · have sq : S q := hq.resolve_right e
      rw [m3 q sq]
      have gq := h1 q sq
      unfold pup
      rcases h3 q sq with ⟨k1, k2⟩ | ⟨d, k1, k2, k3, k4, k5⟩
      · left
        refine ⟨k1, ?_⟩
        simp only [if_neg e]
        split <;> split <;> omega
      · right
        refine ⟨d, k1, Or.inl k2, by rw [m4 d k2]; exact k3, ?_, ?_⟩
        · simp only [if_neg e, if_neg (hne d k2)]
          split <;> split <;> omega
        · simp only [if_neg e, if_neg (hne d k2)]
          rw [k5]
  · by_cases e : q = x
    · right
      rw [e]
      exact ⟨a, x4, Or.inl ha, Or.inl (by rw [m2 a ha, if_pos rfl])⟩
    · have sq : S q := hq.resolve_right e
      rw [m4 q sq]
      rcases h4 q sq with ⟨k1, k2⟩ | ⟨d, k1, k2, k3⟩
      · exact Or.inl ⟨k1, k2⟩
      · right
        refine ⟨d, k1, Or.inl k2, ?_⟩
        rcases k3 with k3 | k3
        · left
          rw [m2 d k2, if_neg (fun w => by rw [w, h0] at k3; cases k3)]
          exact k3
        · right
          rw [m3 d k2]; exact k3
  · rcases h5 with ⟨k1, k2⟩ | ⟨r, k1, k2, k3, k4, k5⟩
    · omega
    · right
      refine ⟨r, k1, Or.inl k2, by rw [m4 r k2]; exact k3, ?_, ?_⟩
      · simp only [if_neg (hne r k2)]
        rw [if_pos (by omega)]; exact k4
      · simp only [if_neg (hne r k2)]
        rw [if_neg (by omega), k5]
theorem TI_insR {S : Nat → Prop} {M M' : Nat → Nat → Option Nat} {rt : Option Nat} {i j : Int} {pos lo hi : Nat → Int} (h : TI S M rt i j pos lo hi) (hj : inj S pos) {a x : Nat} (ha : S a) (hx : ¬ S x) (h0 : M 3 a = none)
    (m3 : ∀ q, S q → M' 3 q = if q = a then some x else M 3 q) (m2 : ∀ q, S q → M' 2 q = M 2 q) (m4 : ∀ q, S q → M' 4 q = M 4 q) (x2 : M' 2 x = none) (x3 : M' 3 x = none) (x4 : M' 4 x = some a) :
    ∃ lo' hi', TI (fun q => S q ∨ q = x) M' rt i (j + 1) (pup pos x (pos a + 1)) lo' hi' := by
  obtain ⟨lo', hi', k⟩ := TI_insL (M' := msw M') (TI_msw h) (fun c d hc hd e => hj c d hc hd (by omega)) ha hx (show msw M 2 a = none from h0) m3 m2 m4 x3 x2 x4
  have k2 := TI_shift (TI_msw k) 1
  rw [msw_msw, show (1 : Int) - (1 - i + 1) + 1 = i by omega, show (1 : Int) - (1 - j) + 1 = j + 1 by omega] at k2
  have e : (fun q => - (pup (fun q => - pos q) x (- pos a)) q + 1) = pup pos x (pos a + 1) := by
    funext q
    unfold pup
    by_cases e : q = x
    · simp only [if_pos e]; omega
    · simp only [if_neg e]
      split <;> split <;> omega
  rw [e] at k2
  exact ⟨_, _, k2⟩
