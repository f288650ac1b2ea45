/-! ===== the rules are kept by every change ===== -/
theorem runL_nodup {f : Int → Int} : ∀ (k : Nat) (i : Int), (runL f i k).Nodup ↔ ∀ a b, i ≤ a → a < b → b < i + k → f a ≠ f b := by
  intro k
  induction k with
  | zero => intro i; exact ⟨fun _ a b h1 h2 h3 => by omega, fun _ => List.nodup_nil⟩
  | succ k ih =>
    intro i
    show (f i :: runL f (i + 1) k).Nodup ↔ _
    rw [List.nodup_cons, ih (i + 1), runL_mem]
    constructor
    · rintro ⟨h1, h2⟩ a b ha hab hb
      by_cases e : a = i
      · intro q
        exact h1 ⟨b, by omega, by omega, by rw [← e]; exact q⟩
      · exact h2 a b (by omega) hab (by omega)
    · intro h
      refine ⟨?_, fun a b ha hab hb => h a b (by omega) hab (by omega)⟩
      rintro ⟨j, a, b, e⟩
      exact h i j (by omega) (by omega) (by omega) e
theorem runL_add {α : Type} {f : Int → α} : ∀ (a b : Nat) (i : Int), runL f i (a + b) = runL f i a ++ runL f (i + a) b := by
  intro a
  induction a with
  | zero => intro b i; rw [Nat.zero_add, show i + ((0 : Nat) : Int) = i by omega]; rfl
  | succ a ih =>
    intro b i
    rw [show a + 1 + b = (a + b) + 1 by omega]
    show f i :: runL f (i + 1) (a + b) = f i :: runL f (i + 1) a ++ _
    rw [ih b (i + 1), show i + 1 + (a : Int) = i + ((a + 1 : Nat) : Int) by omega]
    rfl
theorem runL_shift {α : Type} {f : Int → α} : ∀ (k : Nat) (i : Int), runL (fun j => f (j + 1)) i k = runL f (i + 1) k := by
  intro k
  induction k with
  | zero => intro i; rfl
  | succ k ih => intro i; show f (i + 1) :: runL (fun j => f (j + 1)) (i + 1) k = _; rw [ih (i + 1)]; rfl
/-- the cells of the tables -/
def tcl (z : Int → Int) (t : Int) : List Int := runL (ceT z t) 0 (ceN (zk z t)).toNat ++ runL (chT z t) 0 (chN (zk z t)).toNat
def tcs (z : Int → Int) : List Int := (runL (tcl z) 0 (z 15).toNat).flatten
theorem tlay_fst {B : Int} {z : Int → Int} {t : Int} : (tlay B z t).map Prod.fst = tcl z t := by
  unfold tlay tcl
  rw [List.map_append, runL_map, runL_map]
theorem tslay_fst {B : Int} {z : Int → Int} : (tslay B z).map Prod.fst = tcs z := by
  unfold tslay tcs
  rw [List.map_flatten, runL_map]
  exact congrArg List.flatten (runL_congr _ _ (fun j _ _ => tlay_fst))
theorem laid_fst {B : Int} {z : Int → Int} : (laid B z).map Prod.fst = z 1 :: (runL (fun k => z (3 + k)) 0 (z 2).toNat ++ tcs z) := by
  unfold laid play
  rw [List.map_append, List.map_cons, runL_map, tslay_fst]
  rfl
theorem nd_iff {B : Int} {z : Int → Int} : nd (laid B z) ↔ ((∀ k, 0 ≤ k → k < z 2 → z (3 + k) ≠ z 1) ∧ z 1 ∉ tcs z) ∧ (∀ a b, 0 ≤ a → a < b → b < z 2 → z (3 + a) ≠ z (3 + b)) ∧ (tcs z).Nodup ∧ ∀ k, 0 ≤ k → k < z 2 → z (3 + k) ∉ tcs z := by
  unfold nd
  rw [laid_fst, List.nodup_cons, List.nodup_append, List.mem_append, runL_nodup, runL_mem]
  constructor
  · rintro ⟨h1, h2, h3, h4⟩
    refine ⟨⟨fun k a b e => h1 (Or.inl ⟨k, a, by omega, e.symm⟩), fun q => h1 (Or.inr q)⟩, fun a b x y w => h2 a b x y (by omega), h3, fun k a b q => h4 (z (3 + k)) ((runL_mem _ _).2 ⟨k, a, by omega, rfl⟩) _ q rfl⟩
  · rintro ⟨⟨h1, h2⟩, h3, h4, h5⟩
    refine ⟨?_, fun a b x y w => h3 a b x y (by omega), h4, fun a ha b hb e => ?_⟩
    · rintro (⟨k, a, b, e⟩ | q)
      · exact h1 k a (by omega) e.symm
      · exact h2 q
    · rw [runL_mem] at ha
      obtain ⟨k, x, y, e2⟩ := ha
      rw [← e, e2] at hb
      exact h5 k x (by omega) hb
theorem pck_mono {z z' : Int → Int} (h : pck z = 0) (hin : ∀ t, 0 ≤ t → t < z' 15 → inT z' t) (hnd : nd (laid 30 z')) (h1 : z' 1 = z 1) (hd : cin (z 1)) (ha : ∀ c, cin c → mpz z c = 0 → mpz z' c = 0) (hb : ∀ c, cin c → 30 ≤ mpz z c → mpz z' c = 0 ∨ 30 ≤ mpz z' c) (hc : ∀ c, cin c → 30 ≤ mpz z' c → 30 ≤ mpz z c) : pck z' = 0 := by
  obtain ⟨-, -, h4⟩ := pck_0i h
  refine pck_0 (fun ⟨t, a, b⟩ => b (hin t a.1 a.2)) hnd ?_
  intro c hcc h30
  obtain ⟨n, hn⟩ := h4 c hcc (hc c hcc h30)
  refine ⟨n, ?_⟩
  rw [h1]
  refine wlk_mono (fun x hx q => ?_) (fun x hx q => ?_) hd hn
  · rcases q with q | q
    · exact Or.inl (ha x hx q)
    · exact hb x hx q
  · rcases q with q | q
    · exact Or.inl q
    · exact Or.inr (ha x hx q)
/-- where nothing lies on another thing, what was laid tells the map -/
theorem mpz_mem {z : Int → Int} (hn : nd (laid 30 z)) {c w : Int} (h : (c, w) ∈ laid 30 z) : mpz z c = w := mapOf_mem hn h
theorem mpz_ex {z : Int → Int} {c : Int} (h : mpz z c ≠ 0) : (c, mpz z c) ∈ laid 30 z := mapOf_ex h
theorem mem_tslay {B : Int} {z : Int → Int} {p : Int × Int} : p ∈ tslay B z ↔ ∃ t, (0 ≤ t ∧ t < z 15) ∧ p ∈ tlay B z t := by
  unfold tslay
  rw [List.mem_flatten]
  constructor
  · rintro ⟨l, h1, h2⟩
    rw [runL_mem] at h1
    obtain ⟨t, a, b, e⟩ := h1
    exact ⟨t, ⟨a, by omega⟩, by rw [← e]; exact h2⟩
  · rintro ⟨t, ⟨a, b⟩, h⟩
    exact ⟨_, (runL_mem _ _).2 ⟨t, a, by omega, rfl⟩, h⟩
theorem mem_laid {B : Int} {z : Int → Int} {p : Int × Int} : p ∈ laid B z ↔ p = (z 1, 2) ∨ (∃ k, (0 ≤ k ∧ k < z 2) ∧ p = (z (3 + k), 1)) ∨ p ∈ tslay B z := by
  unfold laid play
  rw [List.mem_append, List.mem_cons, runL_mem]
  constructor
  · rintro ((h | ⟨j, a, b, e⟩) | h)
    · exact Or.inl h
    · exact Or.inr (Or.inl ⟨j, ⟨a, by omega⟩, e⟩)
    · exact Or.inr (Or.inr h)
  · rintro (h | ⟨j, ⟨a, b⟩, e⟩ | h)
    · exact Or.inl (Or.inl h)
    · exact Or.inl (Or.inr ⟨j, a, by omega, e⟩)
    · exact Or.inr h
theorem tslay_10 {z : Int → Int} {p : Int × Int} (h : p ∈ tslay 30 z) : 10 ≤ p.2 := by
  rw [mem_tslay] at h
  obtain ⟨t, ht, h⟩ := h
  unfold tlay at h
  rcases List.mem_append.mp h with h | h <;> rw [runL_mem] at h <;> (obtain ⟨j, -, -, e⟩ := h; rw [e]; simp only; omega)
/-- a pillar taken away -/
theorem pck_unpil {z : Int → Int} (hw : wH z) (h : pck z = 0) {k : Int} (hk : 0 ≤ k ∧ k < z 2) : pck (iu (iu z 2 (z 2 - 1)) (3 + k) (z (3 + (z 2 - 1)))) = 0 := by
  have h2 := hw.2.2.1
  have h15 := hw.2.2.2.2.1
  obtain ⟨hin, hnd, -⟩ := pck_0i h
  have q2 : (iu (iu z 2 (z 2 - 1)) (3 + k) (z (3 + (z 2 - 1)))) 2 = z 2 - 1 := by rw [iu_ne (by omega), iu_at rfl]
  have qo : ∀ i, i ≠ 2 → (i < 3 ∨ 15 ≤ i) → (iu (iu z 2 (z 2 - 1)) (3 + k) (z (3 + (z 2 - 1)))) i = z i := fun i a b => by rw [iu_ne (by omega), iu_ne a]
  have qp : ∀ j, 0 ≤ j → j < z 2 - 1 → ∃ j', (0 ≤ j' ∧ j' < z 2) ∧ j' ≠ k ∧ (iu (iu z 2 (z 2 - 1)) (3 + k) (z (3 + (z 2 - 1)))) (3 + j) = z (3 + j') ∧ (j' = j ∨ (j = k ∧ j' = z 2 - 1)) := fun j a b => by
    by_cases e : j = k
    · exact ⟨z 2 - 1, by omega, by omega, by rw [iu_at (by omega)], Or.inr ⟨e, rfl⟩⟩
    · exact ⟨j, by omega, e, by rw [iu_ne (by omega), iu_ne (by omega)], Or.inl rfl⟩
  generalize hz' : (iu (iu z 2 (z 2 - 1)) (3 + k) (z (3 + (z 2 - 1)))) = z' at *
  have qt : ∀ t, 0 ≤ t → zk z' t = zk z t ∧ zp z' t = zp z t ∧ zt z' t = zt z t := fun t a => by
    unfold zk zp zt
    exact ⟨qo _ (by omega) (by omega), qo _ (by omega) (by omega), qo _ (by omega) (by omega)⟩
  have q15 : z' 15 = z 15 := qo 15 (by omega) (by omega)
  have q1 : z' 1 = z 1 := qo 1 (by omega) (by omega)
  have qtl : ∀ t, 0 ≤ t → tlay 30 z' t = tlay 30 z t := fun t a => by
    obtain ⟨x, y, w⟩ := qt t a
    unfold tlay ceT chT
    rw [x, y, w]
  have qts : tslay 30 z' = tslay 30 z := by
    unfold tslay
    rw [q15]
    exact congrArg List.flatten (runL_congr _ _ (fun j a _ => qtl j a))
  have qtc : tcs z' = tcs z := by rw [← tslay_fst (B := 30), ← tslay_fst (B := 30), qts]
  have hnd' : nd (laid 30 z') := by
    rw [nd_iff] at hnd ⊢
    obtain ⟨⟨a1, a2⟩, a3, a4, a5⟩ := hnd
    rw [qtc, q1, q2]
    refine ⟨⟨fun j a b => ?_, a2⟩, fun i j a b c => ?_, a4, fun j a b => ?_⟩
    · obtain ⟨j', x, -, e, -⟩ := qp j a b
      rw [e]; exact a1 j' x.1 x.2
    · obtain ⟨i', x, x2, e, f⟩ := qp i a (by omega)
      obtain ⟨j', y, y2, e', f'⟩ := qp j (by omega) c
      rw [e, e']
      by_cases hlt : i' < j'
      · exact a3 i' j' x.1 hlt y.2
      · exact fun q => a3 j' i' y.1 (by omega) x.2 q.symm
    · obtain ⟨j', x, -, e, -⟩ := qp j a b
      rw [e]; exact a5 j' x.1 x.2
  have hsub : ∀ p, p ∈ laid 30 z' → p ∈ laid 30 z := fun p hp => by
    rw [mem_laid] at hp ⊢
    rw [q1, qts, q2] at hp
    rcases hp with hp | ⟨j, ⟨a, b⟩, e⟩ | hp
    · exact Or.inl hp
    · obtain ⟨j', x, -, e', -⟩ := qp j a b
      exact Or.inr (Or.inl ⟨j', x, by rw [e, e']⟩)
    · exact Or.inr (Or.inr hp)
  refine pck_mono h (fun t a b => ?_) hnd' q1 hw.2.1 (fun c hc h0 => ?_) (fun c hc h30 => ?_) (fun c hc h30 => ?_)
  · rw [q15] at b
    obtain ⟨x, y, w⟩ := qt t a
    unfold inT
    rw [x, y, w]
    exact hin t a b
  · refine Classical.byContradiction (fun q => ?_)
    have := mpz_mem hnd (hsub _ (mpz_ex q))
    omega
  · have h3 := mpz_ex (z := z) (c := c) (by omega)
    right
    have h4 : (c, mpz z c) ∈ laid 30 z' := by
      rw [mem_laid] at h3 ⊢
      rw [qts]
      rcases h3 with h3 | ⟨j, -, e⟩ | h3
      · have := congrArg Prod.snd h3; simp only at this; omega
      · have := congrArg Prod.snd e; simp only at this; omega
      · exact Or.inr (Or.inr h3)
    rw [mpz_mem hnd' h4]; exact h30
  · have := mpz_mem hnd (hsub _ (mpz_ex (z := z') (c := c) (by omega)))
    omega
