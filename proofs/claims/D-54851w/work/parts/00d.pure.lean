/-! ===== the hall, in plain ints: shapes of tables ===== -/
def iu (F : Int → Int) (i x : Int) : Int → Int := fun j => if j = i then x else F j
theorem iu_at {F : Int → Int} {i j x : Int} (h : j = i) : iu F i x j = x := if_pos h
theorem iu_ne {F : Int → Int} {i j x : Int} (h : j ≠ i) : iu F i x j = F j := if_neg h
def ceN (k : Int) : Int := if k = 2 then 3 else 4
def chN (k : Int) : Int := if k = 0 then 4 else if k = 1 then 8 else 3
def caN (k : Int) : Int := if k = 0 then 34 else if k = 1 then 28 else 40
def ceR (k u j : Int) : Int := if k = 0 then j % 2 else if u % 2 = 0 then j else 0
def ceD (k u j : Int) : Int := if k = 0 then j / 2 else if u % 2 = 0 then 0 else j
def chR (k u c : Int) : Int := if k = 0 then (if c = 0 then (if u % 2 = 0 then 0 else 1) else if c = 1 then 2 else if c = 2 then (if u % 2 = 0 then 1 else 0) else -1)
  else if k = 1 then (if u % 2 = 0 then c % 4 else if c < 4 then -1 else 1) else if u % 2 = 0 then c else if u = 1 then -1 else 1
def chD (k u c : Int) : Int := if k = 0 then (if c = 0 then -1 else if c = 1 then (if u % 2 = 0 then 0 else 1) else if c = 2 then 2 else if u % 2 = 0 then 1 else 0)
  else if k = 1 then (if u % 2 = 0 then (if c < 4 then -1 else 1) else c % 4) else if u % 2 = 0 then (if u = 0 then 1 else -1) else c
theorem chN_rg (k : Int) : 3 ≤ chN k ∧ chN k ≤ 8 := by unfold chN; split <;> (try split) <;> omega
theorem ceN_rg (k : Int) : 3 ≤ ceN k ∧ ceN k ≤ 4 := by unfold ceN; split <;> omega
theorem caN_rg (k : Int) : 28 ≤ caN k ∧ caN k ≤ 40 := by unfold caN; split <;> (try split) <;> omega
theorem ceR_rg {k u j : Int} (hj : 0 ≤ j ∧ j < 4) : 0 ≤ ceR k u j ∧ ceR k u j ≤ 3 := by unfold ceR; split <;> (try split) <;> omega
theorem ceD_rg {k u j : Int} (hj : 0 ≤ j ∧ j < 4) : 0 ≤ ceD k u j ∧ ceD k u j ≤ 3 := by unfold ceD; split <;> (try split) <;> omega
theorem chR_rg {k u c : Int} (hc : 0 ≤ c ∧ c < 8) : -1 ≤ chR k u c ∧ chR k u c ≤ 7 := by unfold chR; split <;> (try split) <;> (try split) <;> (try split) <;> omega
theorem chD_rg {k u c : Int} (hc : 0 ≤ c ∧ c < 8) : -1 ≤ chD k u c ∧ chD k u c ≤ 7 := by unfold chD; split <;> (try split) <;> (try split) <;> (try split) <;> omega
def inR (x y : Int) : Prop := (0 ≤ x ∧ x ≤ 15) ∧ 0 ≤ y ∧ y ≤ 11
/-! ===== the row of numbers ===== -/
def zk (z : Int → Int) (t : Int) : Int := z (16 + 4 * t + 0)
def zp (z : Int → Int) (t : Int) : Int := z (16 + 4 * t + 1)
def zt (z : Int → Int) (t : Int) : Int := z (16 + 4 * t + 2)
def zf (z : Int → Int) (t : Int) : Int := z (16 + 4 * t + 3)
def gh (z : Int → Int) (g : Int) : Int := z (61 + 18 * g + 0)
def ga (z : Int → Int) (g : Int) : Int := z (61 + 18 * g + 1)
def gc (z : Int → Int) (g : Int) : Int := z (61 + 18 * g + 2)
def gl (z : Int → Int) (g : Int) : Int := z (61 + 18 * g + 3)
def gn (z : Int → Int) (g k : Int) : Int := z (61 + 18 * g + (4 + k))
/-- a table's cell, a table's chair -/
def ceT (z : Int → Int) (t j : Int) : Int := zp z t + ceR (zk z t) (zt z t) j + 16 * ceD (zk z t) (zt z t) j
def chT (z : Int → Int) (t c : Int) : Int := zp z t + chR (zk z t) (zt z t) c + 16 * chD (zk z t) (zt z t) c
def ceIn (k u x y j : Int) : Prop := inR (x + ceR k u j) (y + ceD k u j)
def chIn (k u x y c : Int) : Prop := inR (x + chR k u c) (y + chD k u c)
/-- all of a table lies in the hall -/
def inH (k u x y : Int) : Prop := (∀ j, 0 ≤ j → j < ceN k → ceIn k u x y j) ∧ ∀ c, 0 ≤ c → c < chN k → chIn k u x y c
def inT (z : Int → Int) (t : Int) : Prop := inH (zk z t) (zt z t) (zp z t % 16) (zp z t / 16)
/-- ranges of what the hall is made of -/
def wT (z : Int → Int) (t : Int) : Prop := (0 ≤ zk z t ∧ zk z t ≤ 2) ∧ (0 ≤ zp z t ∧ zp z t < 192) ∧ (0 ≤ zt z t ∧ zt z t ≤ 3) ∧ 0 ≤ zf z t ∧ zf z t ≤ 9
def wH (z : Int → Int) : Prop := (0 ≤ z 0 ∧ z 0 ≤ 15) ∧ (0 ≤ z 1 ∧ z 1 < 192) ∧ (0 ≤ z 2 ∧ z 2 ≤ 12) ∧ (∀ k, 0 ≤ k → k < z 2 → 0 ≤ z (3 + k) ∧ z (3 + k) < 192) ∧ (0 ≤ z 15 ∧ z 15 ≤ 11) ∧ ∀ t, 0 ≤ t → t < z 15 → wT z t
/-! ===== laying things on cells ===== -/
def mapOf (P : List (Int × Int)) : Int → Int := P.foldl (fun f p => iu f p.1 p.2) (fun _ => 0)
theorem mapOf_nil : mapOf [] = fun _ => 0 := rfl
theorem mapOf_snoc (P : List (Int × Int)) (p : Int × Int) : mapOf (P ++ [p]) = iu (mapOf P) p.1 p.2 := by
  unfold mapOf
  rw [List.foldl_append]
  rfl
/-- induction from the end -/
theorem snoc_ind {α : Type} {C : List α → Prop} (h0 : C []) (hs : ∀ l a, C l → C (l ++ [a])) (l : List α) : C l := by
  have h : ∀ r : List α, C r.reverse := by
    intro r
    induction r with
    | nil => exact h0
    | cons a r ih => rw [List.reverse_cons]; exact hs _ _ ih
  have := h l.reverse
  rwa [List.reverse_reverse] at this
theorem mapOf_0 {P : List (Int × Int)} (hw : ∀ p ∈ P, p.2 ≠ 0) {c : Int} : mapOf P c = 0 ↔ c ∉ P.map Prod.fst := by
  revert hw
  refine snoc_ind (C := fun P => (∀ p ∈ P, p.2 ≠ 0) → (mapOf P c = 0 ↔ c ∉ P.map Prod.fst)) ?_ ?_ P
  · intro _
    simp [mapOf_nil]
  · intro l a ih hw
    rw [mapOf_snoc]
    have hl := ih (fun p hp => hw p (List.mem_append_left _ hp))
    have ha := hw a (List.mem_append_right _ (List.mem_singleton.mpr rfl))
    unfold iu
    by_cases h : c = a.1
    · rw [if_pos h]
      simp [h, ha]
    · rw [if_neg h, hl]
      simp [h]
/-- what lies on a cell, where nothing lies on another thing -/
theorem mapOf_mem {P : List (Int × Int)} (hn : (P.map Prod.fst).Nodup) {c w : Int} (h : (c, w) ∈ P) : mapOf P c = w := by
  revert hn h
  refine snoc_ind (C := fun P => (P.map Prod.fst).Nodup → (c, w) ∈ P → mapOf P c = w) ?_ ?_ P
  · intro _ h
    cases h
  · intro l a ih hn h
    rw [mapOf_snoc]
    rw [List.map_append, List.nodup_append] at hn
    obtain ⟨h1, -, h3⟩ := hn
    unfold iu
    rcases List.mem_append.mp h with h | h
    · have hne : c ≠ a.1 := h3 c (List.mem_map.mpr ⟨_, h, rfl⟩) a.1 (List.mem_map.mpr ⟨_, List.mem_singleton.mpr rfl, rfl⟩)
      rw [if_neg hne]
      exact ih h1 h
    · rw [List.mem_singleton] at h
      subst h
      rw [if_pos rfl]
theorem nodup_snoc {P : List (Int × Int)} {p : Int × Int} : ((P ++ [p]).map Prod.fst).Nodup ↔ (P.map Prod.fst).Nodup ∧ p.1 ∉ P.map Prod.fst := by
  rw [List.map_append, List.nodup_append]
  constructor
  · rintro ⟨h1, -, h3⟩
    exact ⟨h1, fun h => h3 p.1 h p.1 (List.mem_singleton.mpr rfl) rfl⟩
  · rintro ⟨h1, h2⟩
    refine ⟨h1, by simp, fun a ha b hb => ?_⟩
    rw [List.map_cons, List.map_nil, List.mem_singleton] at hb
    intro e
    exact h2 (by rw [← hb, ← e]; exact ha)
/-- a run of things -/
def runL {α : Type} (f : Int → α) (i : Int) : Nat → List α
  | 0 => []
  | k + 1 => f i :: runL f (i + 1) k
theorem runL_mem {α : Type} {f : Int → α} {x : α} : ∀ (k : Nat) (i : Int), x ∈ runL f i k ↔ ∃ j, i ≤ j ∧ j < i + k ∧ x = f j := by
  intro k
  induction k with
  | zero =>
    intro i
    show x ∈ [] ↔ _
    refine ⟨fun h => absurd h List.not_mem_nil, ?_⟩
    rintro ⟨j, a, b, -⟩
    omega
  | succ k ih =>
    intro i
    show x ∈ f i :: runL f (i + 1) k ↔ _
    rw [List.mem_cons, ih (i + 1)]
    constructor
    · rintro (h | ⟨j, a, b, c⟩)
      · exact ⟨i, by omega, by omega, h⟩
      · exact ⟨j, by omega, by omega, c⟩
    · rintro ⟨j, a, b, c⟩
      by_cases h : j = i
      · left; rw [c, h]
      · right; exact ⟨j, by omega, by omega, c⟩
theorem runL_snoc {α : Type} {f : Int → α} : ∀ (k : Nat) (i : Int), runL f i (k + 1) = runL f i k ++ [f (i + k)] := by
  intro k
  induction k with
  | zero => intro i; show [f i] = [] ++ [f (i + ((0 : Nat) : Int))]; rw [show i + ((0 : Nat) : Int) = i by omega]; rfl
  | succ k ih =>
    intro i
    show f i :: runL f (i + 1) (k + 1) = f i :: runL f (i + 1) k ++ [f (i + ((k + 1 : Nat) : Int))]
    rw [ih (i + 1), show i + 1 + (k : Int) = i + ((k + 1 : Nat) : Int) by omega]
    rfl
theorem runL_map {α β : Type} {f : Int → α} {g : α → β} : ∀ (k : Nat) (i : Int), (runL f i k).map g = runL (fun j => g (f j)) i k := by
  intro k
  induction k with
  | zero => intro i; rfl
  | succ k ih => intro i; show g (f i) :: (runL f (i + 1) k).map g = _; rw [ih (i + 1)]; rfl
theorem runL_congr {α : Type} {f g : Int → α} : ∀ (k : Nat) (i : Int), (∀ j, i ≤ j → j < i + k → f j = g j) → runL f i k = runL g i k := by
  intro k
  induction k with
  | zero => intro i _; rfl
  | succ k ih =>
    intro i h
    show f i :: runL f (i + 1) k = g i :: runL g (i + 1) k
    rw [h i (by omega) (by omega), ih (i + 1) (fun j a b => h j (by omega) (by omega))]
theorem runL_len {α : Type} {f : Int → α} : ∀ (k : Nat) (i : Int), (runL f i k).length = k := by
  intro k
  induction k with
  | zero => intro i; rfl
  | succ k ih => intro i; show (runL f (i + 1) k).length + 1 = _; rw [ih]
theorem runL_get {α : Type} {f : Int → α} : ∀ (k : Nat) (i : Int) (m : Nat), m < k → (runL f i k)[m]? = some (f (i + m)) := by
  intro k
  induction k with
  | zero => intro i m h; omega
  | succ k ih =>
    intro i m h
    cases m with
    | zero => show some (f i) = _; rw [show i + ((0 : Nat) : Int) = i by omega]
    | succ m =>
      show (runL f (i + 1) k)[m]? = _
      rw [ih (i + 1) m (by omega), show i + 1 + (m : Int) = i + ((m + 1 : Nat) : Int) by omega]
def tlay (B : Int) (z : Int → Int) (t : Int) : List (Int × Int) :=
  runL (fun j => (ceT z t j, 10 + t)) 0 (ceN (zk z t)).toNat ++ runL (fun c => (chT z t c, B + t)) 0 (chN (zk z t)).toNat
def play (z : Int → Int) : List (Int × Int) := runL (fun k => (z (3 + k), 1)) 0 (z 2).toNat
def tslay (B : Int) (z : Int → Int) : List (Int × Int) := (runL (tlay B z) 0 (z 15).toNat).flatten
/-- the model's order -/
def laid (B : Int) (z : Int → Int) : List (Int × Int) := (z 1, 2) :: play z ++ tslay B z
/-- nothing lies on another thing -/
def nd (P : List (Int × Int)) : Prop := (P.map Prod.fst).Nodup
/-- the map f shows what was laid -/
def lp_is (f : Int → Int) (P : List (Int × Int)) : Prop := (∀ c, 0 ≤ c → c < 192 → f c = mapOf P c) ∧ ∀ p ∈ P, 1 ≤ p.2 ∧ p.2 ≤ 60
theorem lp_snoc {f : Int → Int} {P : List (Int × Int)} {c w : Int} (h : lp_is f P) (hw : 1 ≤ w ∧ w ≤ 60) : lp_is (iu f c w) (P ++ [(c, w)]) := by
  refine ⟨fun x a b => ?_, fun p hp => ?_⟩
  · rw [mapOf_snoc]
    unfold iu
    split
    · rfl
    · exact h.1 x a b
  · rcases List.mem_append.mp hp with hp | hp
    · exact h.2 p hp
    · rw [List.mem_singleton] at hp
      subst hp; exact hw
theorem lp_nd {f : Int → Int} {P : List (Int × Int)} {c w : Int} (h : lp_is f P) (hc : 0 ≤ c ∧ c < 192) : nd (P ++ [(c, w)]) ↔ nd P ∧ f c = 0 := by
  unfold nd
  rw [nodup_snoc, h.1 c hc.1 hc.2, mapOf_0 (fun p hp => by have := h.2 p hp; omega)]
theorem lp_rg {f : Int → Int} {P : List (Int × Int)} (h : lp_is f P) {c : Int} (hc : 0 ≤ c ∧ c < 192) : 0 ≤ f c ∧ f c ≤ 60 := by
  rw [h.1 c hc.1 hc.2]
  have h2 := h.2
  revert h2
  refine snoc_ind (C := fun P => (∀ p ∈ P, 1 ≤ p.2 ∧ p.2 ≤ 60) → 0 ≤ mapOf P c ∧ mapOf P c ≤ 60) ?_ ?_ P
  · intro _; show 0 ≤ (0 : Int) ∧ (0 : Int) ≤ 60; omega
  · intro l a ih hl
    rw [mapOf_snoc]
    have := hl a (List.mem_append_right _ (List.mem_singleton.mpr rfl))
    have := ih (fun p hp => hl p (List.mem_append_left _ hp))
    unfold iu
    split <;> omega
theorem ceT_cin {z : Int → Int} {t j : Int} (h : inT z t) (hj : 0 ≤ j ∧ j < ceN (zk z t)) : 0 ≤ ceT z t j ∧ ceT z t j < 192 := by
  have := h.1 j hj.1 hj.2
  unfold ceIn inR at this
  unfold ceT
  omega
theorem chT_cin {z : Int → Int} {t c : Int} (h : inT z t) (hc : 0 ≤ c ∧ c < chN (zk z t)) : 0 ≤ chT z t c ∧ chT z t c < 192 := by
  have := h.2 c hc.1 hc.2
  unfold chIn inR at this
  unfold chT
  omega
/-! ===== walks over the grid ===== -/
def adj (b c : Int) : Prop := (0 ≤ c ∧ c < 192) ∧ (c = b - 16 ∨ c = b + 16 ∨ (b % 16 ≠ 15 ∧ c = b + 1) ∨ (b % 16 ≠ 0 ∧ c = b - 1))
theorem adj_symm {b c : Int} (hb : 0 ≤ b ∧ b < 192) (h : adj b c) : adj c b := by
  unfold adj at *
  omega
/-- a walk of n steps from d to c over cells that may be entered and left -/
def wlk (ent exp : Int → Prop) (d : Int) : Nat → Int → Prop
  | 0, c => c = d
  | n + 1, c => ent c ∧ ∃ b, wlk ent exp d n b ∧ exp b ∧ adj b c
/-- x is the distance from d to c, or -1 -/
def dst (ent exp : Int → Prop) (d : Int) (x c : Int) : Prop := (x = -1 ∧ ∀ n, ¬ wlk ent exp d n c) ∨ ∃ n : Nat, x = n ∧ wlk ent exp d n c ∧ ∀ k, wlk ent exp d k c → n ≤ k
theorem dst_one {ent exp : Int → Prop} {d x y c : Int} (h1 : dst ent exp d x c) (h2 : dst ent exp d y c) : x = y := by
  rcases h1 with ⟨a, b⟩ | ⟨n, a, b, e⟩ <;> rcases h2 with ⟨a', b'⟩ | ⟨n', a', b', e'⟩
  · omega
  · exact absurd b' (b n')
  · exact absurd b (b' n)
  · have := e _ b'; have := e' _ b; omega
/-- distinct cells below N: not more than N -/
theorem pigeon : ∀ (N : Nat) (l : List Int), l.Nodup → (∀ x ∈ l, 0 ≤ x ∧ x < N) → l.length ≤ N := by
  intro N
  induction N with
  | zero =>
    intro l _ h
    cases l with
    | nil => exact Nat.le_refl _
    | cons a l => have := h a (List.mem_cons_self ..); omega
  | succ N ih =>
    intro l hn h
    have h1 := ih (l.erase (N : Int)) (hn.erase _) (fun x hx => by
      have h2 := h x (List.mem_of_mem_erase hx)
      have h3 : x ≠ (N : Int) := fun e => by
        rw [e] at hx
        exact (List.Nodup.not_mem_erase hn) hx
      omega)
    by_cases hm : (N : Int) ∈ l
    · rw [List.length_erase_of_mem hm] at h1; omega
    · rw [List.erase_of_not_mem hm] at h1; omega
