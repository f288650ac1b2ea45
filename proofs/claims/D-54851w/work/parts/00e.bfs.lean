/-! ===== the queue's road over the grid ===== -/
def cin (c : Int) : Prop := 0 ≤ c ∧ c < 192
/-- the queue's state: S the steps, Q the queue, m many in it, i of them done, of the i-th the cells of W looked at -/
def BI (ent exp : Int → Prop) (d : Int) (S Q : Int → Int) (m i : Int) (W : Int → Prop) : Prop :=
  (0 ≤ i ∧ i ≤ m) ∧ (cin d ∧ exp d) ∧ S d = 0 ∧
  (∀ c, cin c → S c = -1 ∨ 0 ≤ S c) ∧
  (∀ j, 0 ≤ j → j < m → cin (Q j) ∧ 0 ≤ S (Q j) ∧ exp (Q j)) ∧
  (∀ j k, 0 ≤ j → j < k → k < m → Q j ≠ Q k ∧ S (Q j) ≤ S (Q k)) ∧
  (∀ c, cin c → 0 ≤ S c → wlk ent exp d (S c).toNat c ∧ (exp c → ∃ j, 0 ≤ j ∧ j < m ∧ Q j = c)) ∧
  (∀ c, cin c → 0 ≤ S c → ∀ j, i ≤ j → j < m → S c ≤ S (Q j) + 1) ∧
  (∀ j c, 0 ≤ j → j < m → (j < i ∨ (j = i ∧ W c)) → adj (Q j) c → ent c → 0 ≤ S c ∧ S c ≤ S (Q j) + 1)
theorem BI_len {ent exp : Int → Prop} {d : Int} {S Q : Int → Int} {m i : Int} {W : Int → Prop} (h : BI ent exp d S Q m i W) : m ≤ 192 := by
  obtain ⟨h1, -, -, -, h5, h6, -⟩ := h
  have hp := pigeon 192 ((List.range m.toNat).map (fun j : Nat => Q j)) (by
    rw [List.nodup_iff_pairwise_ne, List.pairwise_map]
    refine List.Pairwise.imp_of_mem ?_ List.pairwise_lt_range
    intro a b ha hb hab
    have := List.mem_range.mp hb
    exact (h6 a b (by omega) (by omega) (by omega)).1) (fun x hx => by
    obtain ⟨j, hj, rfl⟩ := List.mem_map.mp hx
    have := List.mem_range.mp hj
    exact (h5 j (by omega) (by omega)).1)
  rw [List.length_map, List.length_range] at hp
  omega
/-- there is room for one more -/
theorem BI_room {ent exp : Int → Prop} {d : Int} {S Q : Int → Int} {m i x : Int} {W : Int → Prop} (h : BI ent exp d S Q m i W) (hx : cin x) (hs : S x = -1) : m < 192 := by
  obtain ⟨h1, -, -, -, h5, h6, -⟩ := h
  have hp := pigeon 192 (x :: (List.range m.toNat).map (fun j : Nat => Q j)) (by
    rw [List.nodup_cons]
    refine ⟨fun hm => ?_, ?_⟩
    · obtain ⟨j, hj, e⟩ := List.mem_map.mp hm
      have := List.mem_range.mp hj
      have h7 := (h5 j (by omega) (by omega)).2.1
      rw [e] at h7
      omega
    rw [List.nodup_iff_pairwise_ne, List.pairwise_map]
    refine List.Pairwise.imp_of_mem ?_ List.pairwise_lt_range
    intro a b ha hb hab
    have := List.mem_range.mp hb
    exact (h6 a b (by omega) (by omega) (by omega)).1) (fun y hy => by
    rcases List.mem_cons.mp hy with rfl | hy
    · exact hx
    obtain ⟨j, hj, rfl⟩ := List.mem_map.mp hy
    have := List.mem_range.mp hj
    exact (h5 j (by omega) (by omega)).1)
  rw [List.length_cons, List.length_map, List.length_range] at hp
  omega
theorem BI_init {ent exp : Int → Prop} {d : Int} {S Q : Int → Int} (hd : cin d) (he : exp d) (h0 : S d = 0) (h1 : ∀ c, cin c → c ≠ d → S c = -1) (hq : Q 0 = d) : BI ent exp d S Q 1 0 (fun _ => False) := by
  refine ⟨by omega, ⟨hd, he⟩, h0, fun c hc => ?_, fun j a b => ?_, fun j k a b c => by omega, fun c hc hs => ?_, fun c hc hs j a b => ?_, fun j c a b h => ?_⟩
  · by_cases h : c = d
    · rw [h, h0]; omega
    · rw [h1 c hc h]; omega
  · have : j = 0 := by omega
    subst this
    rw [hq, h0]
    exact ⟨hd, by omega, he⟩
  · have hcd : c = d := Classical.byContradiction (fun h => by have := h1 c hc h; omega)
    subst hcd
    rw [h0]
    exact ⟨rfl, fun _ => ⟨0, by omega, by omega, hq⟩⟩
  · have hcd : c = d := Classical.byContradiction (fun h => by have := h1 c hc h; omega)
    have : j = 0 := by omega
    subst this hcd
    rw [hq, h0]; omega
  · rcases h with h | ⟨-, h⟩
    · omega
    · exact h.elim
/-- a cell that isn't taken -/
theorem BI_skip {ent exp : Int → Prop} {d : Int} {S Q : Int → Int} {m i x : Int} {W : Int → Prop} (h : BI ent exp d S Q m i W) (hi : i < m) (hx : adj (Q i) x → ent x → 0 ≤ S x) : BI ent exp d S Q m i (fun c => W c ∨ c = x) := by
  obtain ⟨h1, h2, h3, h4, h5, h6, h7, h8, h9⟩ := h
  refine ⟨h1, h2, h3, h4, h5, h6, h7, h8, fun j c a b hw ha he => ?_⟩
  rcases hw with hw | ⟨hj, hw | hw⟩
  · exact h9 j c a b (Or.inl hw) ha he
  · exact h9 j c a b (Or.inr ⟨hj, hw⟩) ha he
  · subst hw
    rw [hj] at ha ⊢
    have h0 := hx ha he
    exact ⟨h0, h8 c ha.1 h0 i (by omega) hi⟩
/-- a cell that is taken: Q', m' the queue behind it -/
theorem BI_take {ent exp : Int → Prop} {d : Int} {S Q Q' : Int → Int} {m m' i x : Int} {W : Int → Prop} (h : BI ent exp d S Q m i W) (hi : i < m) (ha : adj (Q i) x) (he : ent x) (hs : S x = -1)
    (hQ : ∀ j, 0 ≤ j → j < m → Q' j = Q j) (hm : (exp x ∧ m' = m + 1 ∧ Q' m = x) ∨ (¬ exp x ∧ m' = m)) : BI ent exp d (iu S x (S (Q i) + 1)) Q' m' i (fun c => W c ∨ c = x) := by
  obtain ⟨h1, h2, h3, h4, h5, h6, h7, h8, h9⟩ := h
  have hxd : d ≠ x := fun e => by rw [← e] at hs; omega
  have hQx : ∀ j, 0 ≤ j → j < m → Q j ≠ x := fun j a b e => by
    have := (h5 j a b).2.1
    rw [e] at this; omega
  have hSQ : ∀ j, 0 ≤ j → j < m → iu S x (S (Q i) + 1) (Q' j) = S (Q j) := fun j a b => by
    rw [hQ j a b, iu_ne (hQx j a b)]
  have hSx : iu S x (S (Q i) + 1) x = S (Q i) + 1 := iu_at rfl
  have hi5 := h5 i (by omega) hi
  have hmm : m ≤ m' := by omega
  have hcase : ∀ j, 0 ≤ j → j < m' → j < m ∨ (j = m ∧ exp x ∧ Q' j = x) := fun j a b => by
    rcases hm with ⟨q1, q2, q3⟩ | ⟨q1, q2⟩
    · by_cases hj : j < m
      · exact Or.inl hj
      · have : j = m := by omega
        subst this
        exact Or.inr ⟨rfl, q1, q3⟩
    · exact Or.inl (by omega)
  refine ⟨by omega, h2, by rw [iu_ne hxd]; exact h3, fun c hc => ?_, fun j a b => ?_, fun j k a b c => ?_, fun c hc hs' => ?_, fun c hc hs' j a b => ?_, fun j c a b hw ha' he' => ?_⟩
  · by_cases h : c = x
    · rw [h, hSx]; omega
    · rw [iu_ne h]; exact h4 c hc
  · rcases hcase j a b with hj | ⟨-, hj, e⟩
    · rw [hSQ j a hj, hQ j a hj]; exact h5 j a hj
    · rw [e, hSx]; exact ⟨ha.1, by omega, hj⟩
  · have hj : j < m := by
      rcases hcase k (by omega) c with h | ⟨h, -⟩ <;> omega
    rcases hcase k (by omega) c with hk | ⟨hk, -, e⟩
    · rw [hSQ j a hj, hSQ k (by omega) hk, hQ j a hj, hQ k (by omega) hk]
      exact h6 j k a b hk
    · rw [hSQ j a hj, e, hSx, hQ j a hj]
      have q := h5 j a hj
      exact ⟨hQx j a hj, h8 _ q.1 q.2.1 i (by omega) hi⟩
  · by_cases h : c = x
    · subst h
      rw [hSx]
      have e : (S (Q i) + 1).toNat = (S (Q i)).toNat + 1 := by omega
      rw [e]
      refine ⟨⟨he, Q i, (h7 _ hi5.1 hi5.2.1).1, hi5.2.2, ha⟩, fun hx => ?_⟩
      rcases hm with ⟨q1, q2, q3⟩ | ⟨q1, q2⟩
      · exact ⟨m, by omega, by omega, q3⟩
      · exact absurd hx q1
    · rw [iu_ne h] at hs' ⊢
      obtain ⟨q1, q2⟩ := h7 c hc hs'
      refine ⟨q1, fun hx => ?_⟩
      obtain ⟨j, a, b, e⟩ := q2 hx
      exact ⟨j, a, by omega, by rw [hQ j a b]; exact e⟩
  · have hmono : ∀ j, i ≤ j → j < m → S (Q i) ≤ S (Q j) := fun j a b => by
      by_cases hj : i = j
      · rw [hj]; omega
      · exact (h6 i j (by omega) (by omega) b).2
    rcases hcase j (by omega) b with hj | ⟨hj, -, e⟩
    · rw [hSQ j (by omega) hj]
      by_cases h : c = x
      · rw [h, hSx]
        have := hmono j a hj
        omega
      · rw [iu_ne h] at hs' ⊢
        exact h8 c hc hs' j a hj
    · rw [e, hSx]
      by_cases h : c = x
      · rw [h, hSx]; omega
      · rw [iu_ne h] at hs' ⊢
        have := h8 c hc hs' i (by omega) hi
        omega
  · have hji : j ≤ i := by rcases hw with h | h <;> omega
    have hj : j < m := by omega
    rw [hQ j a hj] at ha'
    rw [hSQ j a hj]
    by_cases h : c = x
    · subst h
      rw [hSx]
      rcases hw with hw | ⟨hw, -⟩
      · have := h9 j c a hj (Or.inl hw) ha' he'
        omega
      · rw [hw]; omega
    · rw [iu_ne h]
      refine h9 j c a hj ?_ ha' he'
      rcases hw with hw | ⟨hw1, hw | hw⟩
      · exact Or.inl hw
      · exact Or.inr ⟨hw1, hw⟩
      · exact absurd hw h
theorem BI_next {ent exp : Int → Prop} {d : Int} {S Q : Int → Int} {m i : Int} {W : Int → Prop} (h : BI ent exp d S Q m i W) (hi : i < m) (hw : ∀ c, adj (Q i) c → W c) : BI ent exp d S Q m (i + 1) (fun _ => False) := by
  obtain ⟨h1, h2, h3, h4, h5, h6, h7, h8, h9⟩ := h
  refine ⟨by omega, h2, h3, h4, h5, h6, h7, fun c hc hs j a b => h8 c hc hs j (by omega) b, fun j c a b hj ha he => ?_⟩
  rcases hj with hj | ⟨-, hj⟩
  · by_cases e : j = i
    · subst e
      exact h9 j c a b (Or.inr ⟨rfl, hw c ha⟩) ha he
    · exact h9 j c a b (Or.inl (by omega)) ha he
  · exact hj.elim
theorem wlk_cin {ent exp : Int → Prop} {d : Int} (hd : cin d) : ∀ {n : Nat} {c : Int}, wlk ent exp d n c → cin c := by
  intro n c h
  cases n with
  | zero => rw [show c = d from h]; exact hd
  | succ n => obtain ⟨-, b, -, -, ha⟩ := h; exact ha.1
/-- no walk to a cell that was reached is shorter -/
theorem BI_min {ent exp : Int → Prop} {d : Int} {S Q : Int → Int} {m i : Int} {W : Int → Prop} (h : BI ent exp d S Q m i W) {c : Int} (hs : 0 ≤ S c) {k : Nat} (hk : wlk ent exp d k c) : S c ≤ k := by
  obtain ⟨h1, h2, h3, h4, h5, h6, h7, h8, h9⟩ := h
  have key : ∀ (n : Nat) (c : Int), wlk ent exp d n c → (i < m → (n : Int) ≤ S (Q i)) → 0 ≤ S c ∧ S c ≤ n := by
    intro n
    induction n with
    | zero => intro c h _; rw [show c = d from h, h3]; omega
    | succ n ih =>
      intro c h hn
      obtain ⟨he, b, hb, hx, ha⟩ := h
      obtain ⟨g1, g2⟩ := ih b hb (fun q => by have := hn q; omega)
      obtain ⟨-, g3⟩ := h7 b (wlk_cin h2.1 hb) g1
      obtain ⟨j, a1, a2, a3⟩ := g3 hx
      subst a3
      have hji : j < i := by
        by_cases hq : i < m
        · have q1 := hn hq
          refine Classical.byContradiction (fun hj => ?_)
          by_cases e : i = j
          · subst e; omega
          · have := (h6 i j (by omega) (by omega) a2).2
            omega
        · omega
      have := h9 j c a1 a2 (Or.inl hji) ha he
      omega
  by_cases hq : i < m
  · by_cases hc : (k : Int) ≤ S (Q i)
    · exact (key k c hk (fun _ => hc)).2
    · have := h8 c (wlk_cin h2.1 hk) hs i (by omega) hq
      omega
  · exact (key k c hk (fun q => absurd q hq)).2
theorem BI_all {ent exp : Int → Prop} {d : Int} {S Q : Int → Int} {m i : Int} {W : Int → Prop} (h : BI ent exp d S Q m i W) (hi : ¬ i < m) {c : Int} (hc : cin c) : dst ent exp d (S c) c := by
  have h' := h
  obtain ⟨h1, h2, h3, h4, h5, h6, h7, h8, h9⟩ := h
  have key : ∀ (n : Nat) (c : Int), wlk ent exp d n c → 0 ≤ S c := by
    intro n
    induction n with
    | zero => intro c h; rw [show c = d from h, h3]; omega
    | succ n ih =>
      intro c h
      obtain ⟨he, b, hb, hx, ha⟩ := h
      have g1 := ih b hb
      obtain ⟨-, g3⟩ := h7 b (wlk_cin h2.1 hb) g1
      obtain ⟨j, a1, a2, a3⟩ := g3 hx
      subst a3
      exact (h9 j c a1 a2 (Or.inl (by omega)) ha he).1
  rcases h4 c hc with hs | hs
  · exact Or.inl ⟨hs, fun n hn => by have := key n c hn; omega⟩
  · refine Or.inr ⟨(S c).toNat, by omega, (h7 c hc hs).1, fun k hk => ?_⟩
    have := BI_min h' hs hk
    omega
/-- reached, though the queue is not at its end -/
theorem BI_dst {ent exp : Int → Prop} {d : Int} {S Q : Int → Int} {m i : Int} {W : Int → Prop} (h : BI ent exp d S Q m i W) {c : Int} (hc : cin c) (hs : 0 ≤ S c) : dst ent exp d (S c) c := by
  refine Or.inr ⟨(S c).toNat, by omega, ?_, fun k hk => ?_⟩
  · obtain ⟨-, -, -, -, -, -, h7, -⟩ := h
    exact (h7 c hc hs).1
  · have := BI_min h hs hk
    omega
/-! ===== the way there and the way back ===== -/
def entD (f : Int → Int) (B : Int) : Int → Prop := fun c => f c = 0 ∨ B ≤ f c
def expD (f : Int → Int) (d : Int) : Int → Prop := fun c => c = d ∨ f c = 0
def entC (f : Int → Int) : Int → Prop := fun c => f c = 0 ∨ f c = 2
theorem wlk_back {f : Int → Int} {B d s : Int} (hd : cin d) (hfd : f d = 2) : ∀ (n m : Nat) (c : Int), wlk (entD f B) (expD f d) d n c → wlk (entC f) (fun _ => True) s m c → wlk (entC f) (fun _ => True) s (m + n) d := by
  intro n
  induction n with
  | zero => intro m c h1 h2; rw [show c = d from h1] at h2; exact h2
  | succ n ih =>
    intro m c h1 h2
    obtain ⟨he, b, hb, hx, ha⟩ := h1
    have hbc := wlk_cin hd hb
    have h3 : wlk (entC f) (fun _ => True) s (m + 1) b := by
      refine ⟨?_, c, h2, trivial, adj_symm hbc ha⟩
      rcases hx with hx | hx
      · right; rw [hx]; exact hfd
      · exact Or.inl hx
    have := ih (m + 1) b hb h3
    rwa [show m + 1 + n = m + (n + 1) by omega] at this
theorem wlk_fwd {f : Int → Int} {B d s : Int} (hs : cin s) (hfs : B ≤ f s) : ∀ (k m : Nat) (b : Int), wlk (fun c => f c = 0) (fun _ => True) s k b → wlk (entD f B) (expD f d) d m b → wlk (entD f B) (expD f d) d (m + k) s := by
  intro k
  induction k with
  | zero => intro m b h1 h2; rw [show b = s from h1] at h2; exact h2
  | succ k ih =>
    intro m b h1 h2
    obtain ⟨he, a, ha, -, hab⟩ := h1
    have hac := wlk_cin hs ha
    have h3 : wlk (entD f B) (expD f d) d (m + 1) a := by
      refine ⟨?_, b, h2, Or.inr he, adj_symm hac hab⟩
      cases k with
      | zero => right; rw [show a = s from ha]; exact hfs
      | succ k => exact Or.inl ha.1
    have := ih (m + 1) a ha h3
    rwa [show m + 1 + k = m + (k + 1) by omega] at this
theorem wlk_hit {f : Int → Int} {d s : Int} (hf2 : ∀ c, cin c → f c = 2 → c = d) : ∀ (n : Nat) (c : Int), cin s → wlk (entC f) (fun _ => True) s n c → wlk (fun c => f c = 0) (fun _ => True) s n c ∨ ∃ (k : Nat) (b : Int), k + 1 ≤ n ∧ wlk (fun c => f c = 0) (fun _ => True) s k b ∧ adj b d := by
  intro n
  induction n with
  | zero => intro c _ h; exact Or.inl h
  | succ n ih =>
    intro c hs h
    obtain ⟨he, b, hb, -, ha⟩ := h
    rcases ih b hs hb with h1 | ⟨k, b', h1, h2, h3⟩
    · rcases he with he | he
      · exact Or.inl ⟨he, b, h1, trivial, ha⟩
      · have hcd := hf2 c ha.1 he
        subst hcd
        exact Or.inr ⟨n, b, Nat.le_refl _, h1, ha⟩
    · exact Or.inr ⟨k, b', by omega, h2, h3⟩
theorem dst_back {f : Int → Int} {B d s x y : Int} (hB : 2 < B) (hd : cin d) (hs : cin s) (hfd : f d = 2) (hfs : B ≤ f s) (hf2 : ∀ c, cin c → f c = 2 → c = d) (h1 : dst (entD f B) (expD f d) d x s) (h2 : dst (entC f) (fun _ => True) s y d) : x = y := by
  have hback : ∀ n, wlk (entD f B) (expD f d) d n s → wlk (entC f) (fun _ => True) s n d := fun n h => by
    have := wlk_back hd hfd n 0 s h rfl
    rwa [Nat.zero_add] at this
  have hfwd : ∀ n, wlk (entC f) (fun _ => True) s n d → ∃ k, k ≤ n ∧ wlk (entD f B) (expD f d) d k s := fun n h => by
    rcases wlk_hit hf2 n d hs h with h | ⟨k, b, a1, a2, a3⟩
    · cases n with
      | zero => rw [show d = s from h] at hfd; omega
      | succ n => have := h.1; omega
    · have hb := wlk_cin hs a2
      have h3 : wlk (entD f B) (expD f d) d 1 b := by
        refine ⟨?_, d, rfl, Or.inl rfl, adj_symm hb a3⟩
        cases k with
        | zero => right; rw [show b = s from a2]; exact hfs
        | succ k => exact Or.inl a2.1
      exact ⟨1 + k, by omega, wlk_fwd hs hfs k 1 b a2 h3⟩
  rcases h1 with ⟨a, b⟩ | ⟨n, a, b, e⟩ <;> rcases h2 with ⟨a', b'⟩ | ⟨n', a', b', e'⟩
  · omega
  · obtain ⟨k, -, hk⟩ := hfwd n' b'
    exact absurd hk (b k)
  · exact absurd (hback n b) (b' n)
  · have q1 := e' n (hback n b)
    obtain ⟨k, q2, hk⟩ := hfwd n' b'
    have q3 := e k hk
    omega
/-- more free cells: all that was reached is reached -/
theorem wlk_mono {ent exp ent' exp' : Int → Prop} {d : Int} (he : ∀ c, cin c → ent c → ent' c) (hx : ∀ c, cin c → exp c → exp' c) (hd : cin d) : ∀ {n : Nat} {c : Int}, wlk ent exp d n c → wlk ent' exp' d n c := by
  intro n
  induction n with
  | zero => intro c h; exact h
  | succ n ih =>
    intro c h
    obtain ⟨h1, b, h2, h3, h4⟩ := h
    exact ⟨he c h4.1 h1, b, ih h2, hx b (wlk_cin hd h2) h3, h4⟩
theorem BI_W {ent exp : Int → Prop} {d : Int} {S Q : Int → Int} {m i : Int} {W W' : Int → Prop} (h : BI ent exp d S Q m i W) (hw : ∀ c, W' c → W c) : BI ent exp d S Q m i W' := by
  obtain ⟨h1, h2, h3, h4, h5, h6, h7, h8, h9⟩ := h
  refine ⟨h1, h2, h3, h4, h5, h6, h7, h8, fun j c a b hj ha he => ?_⟩
  rcases hj with hj | ⟨hj, hc⟩
  · exact h9 j c a b (Or.inl hj) ha he
  · exact h9 j c a b (Or.inr ⟨hj, hw c hc⟩) ha he
/-- bounds of the steps -/
def BB (S Q : Int → Int) (m i : Int) : Prop := (∀ c, cin c → S c ≤ i + 1) ∧ ∀ j, 0 ≤ j → j < m → S (Q j) ≤ j
theorem BB_take {S Q Q' : Int → Int} {m m' i x : Int} (h : BB S Q m i) (hi : 0 ≤ i ∧ i < m) (hQ : ∀ j, 0 ≤ j → j < m → Q' j = Q j) (hne : ∀ j, 0 ≤ j → j < m → Q j ≠ x) (hm : (m' = m + 1 ∧ Q' m = x) ∨ m' = m) : BB (iu S x (S (Q i) + 1)) Q' m' i := by
  obtain ⟨h1, h2⟩ := h
  have hq := h2 i hi.1 hi.2
  refine ⟨fun c hc => ?_, fun j a b => ?_⟩
  · by_cases h : c = x
    · rw [iu_at h]; omega
    · rw [iu_ne h]; exact h1 c hc
  · by_cases hj : j < m
    · rw [hQ j a hj, iu_ne (hne j a hj)]; exact h2 j a hj
    · rcases hm with ⟨e, q⟩ | e
      · have : j = m := by omega
        subst this
        rw [q, iu_at rfl]; omega
      · omega
theorem BB_next {S Q : Int → Int} {m i : Int} (h : BB S Q m i) : BB S Q m (i + 1) := ⟨fun c hc => by have := h.1 c hc; omega, h.2⟩
theorem BB_init {S Q : Int → Int} {d : Int} (h0 : S d = 0) (h1 : ∀ c, cin c → c ≠ d → S c = -1) (hq : Q 0 = d) : BB S Q 1 0 := by
  refine ⟨fun c hc => ?_, fun j a b => ?_⟩
  · by_cases h : c = d
    · rw [h, h0]; omega
    · rw [h1 c hc h]; omega
  · have : j = 0 := by omega
    subst this
    rw [hq, h0]; omega
theorem BI_ne {ent exp : Int → Prop} {d : Int} {S Q : Int → Int} {m i x : Int} {W : Int → Prop} (h : BI ent exp d S Q m i W) (hs : S x = -1) : ∀ j, 0 ≤ j → j < m → Q j ≠ x := by
  intro j a b e
  have := (h.2.2.2.2.1 j a b).2.1
  rw [e] at this; omega
/-- both at once -/
def BJ (ent exp : Int → Prop) (d : Int) (S Q : Int → Int) (m i : Int) (W : Int → Prop) : Prop := BI ent exp d S Q m i W ∧ BB S Q m i
theorem BJ_skip {ent exp : Int → Prop} {d : Int} {S Q : Int → Int} {m i x : Int} {W W' : Int → Prop} (h : BJ ent exp d S Q m i W) (hi : i < m) (hx : adj (Q i) x → ent x → 0 ≤ S x) (hw : ∀ c, W' c → W c ∨ c = x) : BJ ent exp d S Q m i W' := ⟨BI_W (BI_skip h.1 hi hx) hw, h.2⟩
theorem BJ_take {ent exp : Int → Prop} {d : Int} {S Q Q' : Int → Int} {m m' i x : Int} {W W' : Int → Prop} (h : BJ ent exp d S Q m i W) (hi : i < m) (ha : adj (Q i) x) (he : ent x) (hs : S x = -1)
    (hQ : ∀ j, 0 ≤ j → j < m → Q' j = Q j) (hm : (exp x ∧ m' = m + 1 ∧ Q' m = x) ∨ (¬ exp x ∧ m' = m)) (hw : ∀ c, W' c → W c ∨ c = x) : BJ ent exp d (iu S x (S (Q i) + 1)) Q' m' i W' :=
  ⟨BI_W (BI_take h.1 hi ha he hs hQ hm) hw, BB_take h.2 ⟨h.1.1.1, hi⟩ hQ (BI_ne h.1 hs) (hm.elim (fun q => Or.inl q.2) (fun q => Or.inr q.2))⟩
theorem BJ_next {ent exp : Int → Prop} {d : Int} {S Q : Int → Int} {m i : Int} {W : Int → Prop} (h : BJ ent exp d S Q m i W) (hi : i < m) (hw : ∀ c, adj (Q i) c → W c) : BJ ent exp d S Q m (i + 1) (fun _ => False) := ⟨BI_next h.1 hi hw, BB_next h.2⟩
theorem BJ_rg {ent exp : Int → Prop} {d : Int} {S Q : Int → Int} {m i : Int} {W : Int → Prop} (h : BJ ent exp d S Q m i W) {c : Int} (hc : cin c) : -1 ≤ S c ∧ S c ≤ 193 := by
  have h1 := h.1.2.2.2.1 c hc
  have h2 := h.2.1 c hc
  have h3 := BI_len h.1
  have h4 := h.1.1
  omega
theorem wlk_congr {ent exp ent' exp' : Int → Prop} {d : Int} (hd : cin d) (he : ∀ c, cin c → (ent c ↔ ent' c)) (hx : ∀ c, cin c → (exp c ↔ exp' c)) {n : Nat} {c : Int} : wlk ent exp d n c ↔ wlk ent' exp' d n c :=
  ⟨wlk_mono (fun c h => (he c h).1) (fun c h => (hx c h).1) hd, wlk_mono (fun c h => (he c h).2) (fun c h => (hx c h).2) hd⟩
theorem dst_congr {ent exp ent' exp' : Int → Prop} {d x c : Int} (hd : cin d) (he : ∀ c, cin c → (ent c ↔ ent' c)) (hx : ∀ c, cin c → (exp c ↔ exp' c)) (h : dst ent exp d x c) : dst ent' exp' d x c := by
  rcases h with ⟨a, b⟩ | ⟨n, a, b, e⟩
  · exact Or.inl ⟨a, fun n hn => b n ((wlk_congr hd he hx).2 hn)⟩
  · exact Or.inr ⟨n, a, (wlk_congr hd he hx).1 b, fun k hk => e k ((wlk_congr hd he hx).2 hk)⟩
