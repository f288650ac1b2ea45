/-! ===== folds over runs of ints ===== -/
def foldI {α : Type} (s : α → Int → α) (a : α) (i : Int) : Nat → α
  | 0 => a
  | k + 1 => foldI s (s a i) (i + 1) k
theorem foldI_congr {α : Type} {s s' : α → Int → α} : ∀ (k : Nat) (a : α) (i : Int), (∀ b j, i ≤ j → j < i + k → s b j = s' b j) → foldI s a i k = foldI s' a i k := by
  intro k
  induction k with
  | zero => intro a i _; rfl
  | succ k ih =>
    intro a i h
    show foldI s (s a i) (i + 1) k = foldI s' (s' a i) (i + 1) k
    rw [h a i (by omega) (by omega)]
    exact ih _ _ (fun b j h1 h2 => h b j (by omega) (by omega))
/-- an invariant of a fold -/
theorem foldI_inv {α : Type} {s : α → Int → α} (P : Int → α → Prop) : ∀ (k : Nat) (a : α) (i : Int), P i a → (∀ b j, i ≤ j → j < i + k → P j b → P (j + 1) (s b j)) → P (i + k) (foldI s a i k) := by
  intro k
  induction k with
  | zero => intro a i h _; rw [show i + ((0 : Nat) : Int) = i by omega]; exact h
  | succ k ih =>
    intro a i h hs
    have := ih (s a i) (i + 1) (hs a i (by omega) (by omega) h) (fun b j h1 h2 => hs b j (by omega) (by omega))
    rwa [show i + 1 + (k : Int) = i + ((k + 1 : Nat) : Int) by omega] at this
/-- from the end -/
theorem foldI_snoc {α : Type} {s : α → Int → α} : ∀ (k : Nat) (a : α) (i : Int), foldI s a i (k + 1) = s (foldI s a i k) (i + k) := by
  intro k
  induction k with
  | zero => intro a i; show s a i = s a (i + ((0 : Nat) : Int)); rw [show i + ((0 : Nat) : Int) = i by omega]
  | succ k ih =>
    intro a i
    show foldI s (s a i) (i + 1) (k + 1) = _
    rw [ih (s a i) (i + 1)]
    show s (foldI s (s a i) (i + 1) k) (i + 1 + k) = s (foldI s (s a i) (i + 1) k) (i + ((k + 1 : Nat) : Int))
    rw [show i + 1 + (k : Int) = i + ((k + 1 : Nat) : Int) by omega]
/-- all of a run -/
theorem foldI_and {P : Int → Prop} (k : Nat) (i : Int) (q : Prop) : foldI (fun (a : Int) j => if a = 0 then 0 else b2 (P j)) (b2 q) i k = b2 (q ∧ ∀ j, i ≤ j → j < i + k → P j) := by
  have h := foldI_inv (s := fun (a : Int) j => if a = 0 then 0 else b2 (P j)) (fun j a => a = b2 (q ∧ ∀ x, i ≤ x → x < j → P x)) k (b2 q) i (b2_c ⟨fun h => ⟨h, fun x h1 h2 => by omega⟩, fun h => h.1⟩) (fun b j h1 h2 hb => by
    by_cases hq : q ∧ ∀ x, i ≤ x → x < j → P x
    · rw [b2_t hq] at hb
      subst hb
      show b2 (P j) = _
      refine b2_c ⟨fun hp => ⟨hq.1, fun x a b => ?_⟩, fun z => z.2 j h1 (by omega)⟩
      by_cases e : x = j
      · rw [e]; exact hp
      · exact hq.2 x a (by omega)
    · rw [b2_f hq] at hb
      subst hb
      show (0 : Int) = _
      rw [b2_f (fun z => hq ⟨z.1, fun x a b => z.2 x a (by omega)⟩)])
  exact h
theorem foldI_and1 {P : Int → Prop} (k : Nat) (i : Int) : foldI (fun (a : Int) j => if a = 0 then 0 else b2 (P j)) 1 i k = b2 (∀ j, i ≤ j → j < i + k → P j) := by
  have h := foldI_and (P := P) k i True
  rw [b2_t trivial] at h
  rw [h]
  exact b2_c ⟨fun q => q.2, fun q => ⟨trivial, q⟩⟩
