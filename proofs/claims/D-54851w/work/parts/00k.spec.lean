/-! ===== what is told of the hall, in plain ints ===== -/
def sits (z : Int → Int) (g : Int) : Prop := ga z g ≠ -1
def cgl (z : Int → Int) (g : Int) : Int := chT z (ga z g) (gc z g)
def wG (z : Int → Int) (g : Int) : Prop := (1 ≤ gh z g ∧ gh z g ≤ 9) ∧ ((ga z g = -1 ∧ gc z g = -1) ∨ ((0 ≤ ga z g ∧ ga z g < z 15) ∧ 0 ≤ gc z g ∧ gc z g < chN (zk z (ga z g)))) ∧ (1 ≤ gl z g ∧ gl z g ≤ 14) ∧
  (∀ k, 0 ≤ k → k < gl z g → gn z g k = 32 ∨ (97 ≤ gn z g k ∧ gn z g k ≤ 122)) ∧ ∀ k, gl z g ≤ k → k < 14 → gn z g k = 0
/-- the bit h of n -/
def bit (n h : Int) : Prop := n / 2 ^ h.toNat % 2 = 1
/-- the hall, its guests and pairs are as the rules want them -/
def wZ (z : Int → Int) : Prop := wH z ∧ z 15 ≤ 10 ∧ (0 ≤ z 60 ∧ z 60 ≤ 30) ∧ (∀ g, 0 ≤ g → g < z 60 → wG z g) ∧
  (∀ g h, 0 ≤ g → g < h → h < z 60 → sits z g → ga z g = ga z h → gc z g ≠ gc z h) ∧
  (∀ g, 0 ≤ g → g < z 60 → (0 ≤ z (601 + g) ∧ z (601 + g) < 1073741824) ∧ ∀ h, 0 ≤ h → h < 30 → bit (z (601 + g)) h → h < z 60 ∧ h ≠ g ∧ bit (z (601 + h)) g) ∧ pck z = 0
theorem wG_raw {z : Int → Int} {g : Int} (h : wG z g) (h15 : z 15 ≤ 10) : (1 ≤ z (61 + 18 * g + 0) ∧ z (61 + 18 * g + 0) ≤ 9) ∧ (-1 ≤ z (61 + 18 * g + 1) ∧ z (61 + 18 * g + 1) ≤ 9) ∧ (-1 ≤ z (61 + 18 * g + 2) ∧ z (61 + 18 * g + 2) ≤ 7) ∧ (1 ≤ z (61 + 18 * g + 3) ∧ z (61 + 18 * g + 3) ≤ 14) := by
  obtain ⟨h1, h2, h3, -⟩ := h
  have h4 := chN_rg (zk z (ga z g))
  unfold gh at h1
  unfold gl at h3
  unfold ga gc at h2
  unfold ga at h4
  omega
theorem wG_chr {z : Int → Int} {g k : Int} (h : wG z g) (hk : 0 ≤ k ∧ k < 14) : 0 ≤ gn z g k ∧ gn z g k ≤ 122 := by
  obtain ⟨-, -, h3, h4, h5⟩ := h
  by_cases hg : k < gl z g
  · have := h4 k hk.1 hg; omega
  · have := h5 k (by omega) hk.2; omega
theorem wT_raw {z : Int → Int} {t : Int} (h : wT z t) : (0 ≤ z (16 + 4 * t + 0) ∧ z (16 + 4 * t + 0) ≤ 2) ∧ (0 ≤ z (16 + 4 * t + 1) ∧ z (16 + 4 * t + 1) < 192) ∧ (0 ≤ z (16 + 4 * t + 2) ∧ z (16 + 4 * t + 2) ≤ 3) ∧ (0 ≤ z (16 + 4 * t + 3) ∧ z (16 + 4 * t + 3) ≤ 9) := h
/-- widths of letters -/
def wd (c : Int) : Int := if c = 105 ∨ c = 106 ∨ c = 108 ∨ c = 32 then 2 else if c = 102 ∨ c = 114 ∨ c = 116 then 3 else if c = 109 ∨ c = 119 then 6 else 4
def wid (z : Int → Int) (g : Int) : Int := foldI (fun a k => a + wd (gn z g k)) 0 0 (gl z g).toNat
theorem wd_rg (c : Int) : 2 ≤ wd c ∧ wd c ≤ 6 := by
  unfold wd
  split
  · omega
  · split
    · omega
    · split <;> omega
theorem wid_rg {z : Int → Int} {g : Int} (h : 1 ≤ gl z g ∧ gl z g ≤ 14) : 0 ≤ wid z g ∧ wid z g ≤ 84 := by
  have := foldI_inv (s := fun a k => a + wd (gn z g k)) (fun j a => 0 ≤ a ∧ a ≤ 6 * j) (gl z g).toNat 0 0 (by omega) (fun b j h1 h2 h3 => by
    have := wd_rg (gn z g j)
    omega)
  unfold wid
  omega
/-- who sits on a chair -/
noncomputable def sitr (z : Int → Int) (t c : Int) : Int := foldI (fun a j => @ite Int (ga z j = t ∧ gc z j = c) (Classical.propDecidable _) j a) (-1) 0 (z 60).toNat
def sttr (z : Int → Int) (t : Int) : Int := foldI (fun a j => if ga z j = t then a + 1 else a) 0 0 (z 60).toNat
def plat (z : Int → Int) (c : Int) : Int := foldI (fun a k => if z (3 + k) = c then k else a) (-1) 0 (z 2).toNat
noncomputable def sitg (z : Int → Int) : Int := foldI (fun a j => a + b2 (sits z j)) 0 0 (z 60).toNat
/-- the column of the line from a cell in a row ahead of it -/
def lcol (z : Int → Int) (c r : Int) : Int := c % 16 + (2 * (c / 16 - r) * (z 0 - c % 16) + c / 16 + 1) / (2 * (c / 16 + 1))
noncomputable def mpz (z : Int → Int) : Int → Int := mapOf (laid 30 z)
/-- something at a cell stands in the way of a guest -/
noncomputable def stn (z : Int → Int) (g c : Int) : Prop := mpz z c = 1 ∨ ((10 ≤ mpz z c ∧ mpz z c ≤ 29) ∧ gh z g ≤ zf z (mpz z c - 10)) ∨ ∃ h, (0 ≤ h ∧ h < z 60) ∧ h ≠ g ∧ sits z h ∧ cgl z h = c ∧ gh z g < gh z h
noncomputable def blk (z : Int → Int) (g c : Int) : Nat → Int
  | 0 => -1
  | k + 1 => @ite Int (stn z g (16 * (k : Int) + lcol z c k)) (Classical.propDecidable _) (16 * (k : Int) + lcol z c k) (blk z g c k)
noncomputable def blkd (z : Int → Int) (g c : Int) : Int := blk z g c (c / 16).toNat
noncomputable def sees (z : Int → Int) (g : Int) : Prop := sits z g ∧ blkd z g (cgl z g) = -1
noncomputable def seez (z : Int → Int) : Int := foldI (fun a g => a + b2 (sees z g)) 0 0 (z 60).toNat
/-- the steps from the door -/
theorem dst_ex (ent exp : Int → Prop) (d c : Int) : ∃ x, dst ent exp d x c := by
  by_cases h : ∃ n, wlk ent exp d n c
  · have key : ∀ n, wlk ent exp d n c → ∃ m, wlk ent exp d m c ∧ ∀ k, wlk ent exp d k c → m ≤ k := by
      intro n
      induction n using Nat.strongRecOn with
      | ind n ih =>
        intro hn
        by_cases hm : ∃ k, k < n ∧ wlk ent exp d k c
        · obtain ⟨k, hk, hk2⟩ := hm
          exact ih k hk hk2
        · exact ⟨n, hn, fun k hk => Classical.byContradiction (fun q => hm ⟨k, by omega, hk⟩)⟩
    obtain ⟨n, hn⟩ := h
    obtain ⟨m, h1, h2⟩ := key n hn
    exact ⟨m, Or.inr ⟨m, rfl, h1, h2⟩⟩
  · exact ⟨-1, Or.inl ⟨rfl, fun n hn => h ⟨n, hn⟩⟩⟩
noncomputable def stz (z : Int → Int) (c : Int) : Int := Classical.choose (dst_ex (entD (mpz z) 30) (expD (mpz z) (z 1)) (z 1) c)
theorem stz_dst (z : Int → Int) (c : Int) : dst (entD (mpz z) 30) (expD (mpz z) (z 1)) (z 1) (stz z c) c := Classical.choose_spec (dst_ex (entD (mpz z) 30) (expD (mpz z) (z 1)) (z 1) c)
theorem stz_of {z : Int → Int} {x c : Int} (h : dst (entD (mpz z) 30) (expD (mpz z) (z 1)) (z 1) x c) : x = stz z c := dst_one h (stz_dst z c)
/-- what was laid out -/
def lay8 (M : Mm) : Prop := (∀ c, cin c → M 8 c = mpz (M 1) c) ∧ ∀ c, cin c → M 9 c = stz (M 1) c ∧ -1 ≤ M 9 c ∧ M 9 c ≤ 193
theorem X7_check0 {g : Nat → Nat} {h : Nat → Option hC} {n w m : Nat} {M : Mm} (hw : wH (M 1)) :
    ∃ (M' : Mm), fX7_check g (some m) (md m M h, n, w) = some (iv (pck (M 1)), (md m M' h, n, w)) ∧ (∀ b, b ≠ 8 → b ≠ 9 → b ≠ 10 → M' b = M b) ∧ (pck (M 1) = 0 → lay8 M') := by
  obtain ⟨M', e1, e2, e3⟩ := X7_check_ev (g := g) (h := h) (n := n) (w := w) (m := m) hw
  have h1 : M' 1 = M 1 := e2 1 (by decide) (by decide) (by decide)
  refine ⟨M', e1, e2, fun h0 => ?_⟩
  obtain ⟨a, b⟩ := e3 h0
  unfold lay8
  rw [h1]
  exact ⟨a, fun c hc => ⟨stz_of (b c hc).1, (b c hc).2⟩⟩
theorem mpz_rg {M : Mm} (hl : lay8 M) (hz : wH (M 1)) {c : Int} (hc : cin c) : 0 ≤ mpz (M 1) c ∧ mpz (M 1) c ≤ 60 := by
  unfold mpz
  refine lp_rg (P := laid 30 (M 1)) ⟨fun _ _ _ => rfl, fun p hp => ?_⟩ hc
  have h15 := hz.2.2.2.2.1
  unfold laid at hp
  rcases List.mem_append.mp hp with hp | hp
  · rcases List.mem_cons.mp hp with hp | hp
    · rw [hp]; omega
    · unfold play at hp
      rw [runL_mem] at hp
      obtain ⟨j, -, -, e⟩ := hp
      rw [e]; show (1 : Int) ≤ 1 ∧ (1 : Int) ≤ 60; omega
  · unfold tslay at hp
    rw [List.mem_flatten] at hp
    obtain ⟨l, h1, h2⟩ := hp
    rw [runL_mem] at h1
    obtain ⟨t, a, b, e⟩ := h1
    rw [e] at h2
    unfold tlay at h2
    rcases List.mem_append.mp h2 with h2 | h2 <;> rw [runL_mem] at h2 <;> (obtain ⟨j, -, -, e2⟩ := h2; rw [e2]; simp only; omega)
