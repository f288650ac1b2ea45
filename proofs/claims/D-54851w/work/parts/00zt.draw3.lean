/-! ===== the component's map and the model's ===== -/
/-- in the component's order, chairs told from 40 on -/
def lyC (z : Int → Int) : List (Int × Int) := play z ++ [(z 1, 2)] ++ tslay 40 z
def cv (w : Int) : Int := if 30 ≤ w then w + 10 else w
theorem tlay_cv {z : Int → Int} {t : Int} (ht : 0 ≤ t ∧ t ≤ 10) : tlay 40 z t = (tlay 30 z t).map (fun p => (p.1, cv p.2)) := by
  unfold tlay
  rw [List.map_append, runL_map, runL_map]
  have h1 : runL (fun j => (ceT z t j, 10 + t)) 0 (ceN (zk z t)).toNat = runL (fun j => ((ceT z t j, 10 + t).1, cv (ceT z t j, 10 + t).2)) 0 (ceN (zk z t)).toNat := runL_congr _ _ (fun j _ _ => by
    dsimp only
    unfold cv
    rw [if_neg (by omega)])
  have h2 : runL (fun c => (chT z t c, 40 + t)) 0 (chN (zk z t)).toNat = runL (fun c => ((chT z t c, 30 + t).1, cv (chT z t c, 30 + t).2)) 0 (chN (zk z t)).toNat := runL_congr _ _ (fun j _ _ => by
    dsimp only
    unfold cv
    rw [if_pos (by omega)]
    exact congrArg (fun q => (chT z t j, q)) (by omega))
  rw [h1, h2]
theorem fl_map {α β : Type} {f : α → β} : ∀ (l : List (List α)), (l.map (List.map f)).flatten = l.flatten.map f := by
  intro l
  induction l with
  | nil => rfl
  | cons a l ih => rw [List.map_cons, List.flatten_cons, List.flatten_cons, List.map_append, ih]
theorem tslay_cv {z : Int → Int} (h15 : z 15 ≤ 11) : tslay 40 z = (tslay 30 z).map (fun p => (p.1, cv p.2)) := by
  unfold tslay
  rw [← fl_map, runL_map]
  exact congrArg List.flatten (runL_congr _ _ (fun t a b => tlay_cv ⟨a, by omega⟩))
theorem play_cv {z : Int → Int} : play z = (play z).map (fun p => (p.1, cv p.2)) := by
  unfold play
  rw [runL_map]
  exact runL_congr _ _ (fun j _ _ => by dsimp only; unfold cv; rw [if_neg (by decide)])
theorem lyC_perm {z : Int → Int} (h15 : z 15 ≤ 11) : (lyC z).Perm ((laid 30 z).map (fun p => (p.1, cv p.2))) := by
  unfold lyC laid
  rw [List.map_append, List.map_cons, ← play_cv, ← tslay_cv h15]
  have e : ((z 1, 2) : Int × Int).1 = z 1 ∧ cv ((z 1, 2) : Int × Int).2 = 2 := ⟨rfl, (if_neg (by decide : ¬ (30 : Int) ≤ 2))⟩
  rw [e.1, e.2, List.append_assoc]
  exact List.perm_middle
theorem map_fst {P : List (Int × Int)} {f : Int → Int} : (P.map (fun p => (p.1, f p.2))).map Prod.fst = P.map Prod.fst := by
  rw [List.map_map]; rfl
theorem lyC_nd {z : Int → Int} (h15 : z 15 ≤ 11) : nd (lyC z) ↔ nd (laid 30 z) := by
  unfold nd
  rw [((lyC_perm h15).map Prod.fst).nodup_iff, map_fst]
theorem laid_nz {z : Int → Int} (h15 : 0 ≤ z 15 ∧ z 15 ≤ 11) : ∀ p ∈ laid 30 z, 1 ≤ p.2 ∧ p.2 ≤ 60 := by
  intro p hp
  unfold laid at hp
  rcases List.mem_append.mp hp with hp | hp
  · rcases List.mem_cons.mp hp with rfl | hp
    · exact ⟨(by decide : (1 : Int) ≤ 2), (by decide : (2 : Int) ≤ 60)⟩
    · unfold play at hp
      obtain ⟨j, a, b, rfl⟩ := (runL_mem _ _).1 hp
      exact ⟨(by decide : (1 : Int) ≤ 1), (by decide : (1 : Int) ≤ 60)⟩
  · unfold tslay at hp
    obtain ⟨l, hl, hp⟩ := List.mem_flatten.mp hp
    obtain ⟨t, a, b, rfl⟩ := (runL_mem _ _).1 hl
    unfold tlay at hp
    rcases List.mem_append.mp hp with hp | hp
    · obtain ⟨j, _, _, rfl⟩ := (runL_mem _ _).1 hp
      dsimp only; omega
    · obtain ⟨j, _, _, rfl⟩ := (runL_mem _ _).1 hp
      dsimp only; omega
theorem mapOf_perm {P Q : List (Int × Int)} (hn : nd P) (hw : ∀ p ∈ P, p.2 ≠ 0) (h : P.Perm Q) (c : Int) : mapOf P c = mapOf Q c := by
  have hq : nd Q := by unfold nd at *; exact ((h.map Prod.fst).nodup_iff).1 hn
  have hw2 : ∀ p ∈ Q, p.2 ≠ 0 := fun p hp => hw p (h.mem_iff.2 hp)
  by_cases hc : c ∈ P.map Prod.fst
  · obtain ⟨p, hp, rfl⟩ := List.mem_map.mp hc
    rw [mapOf_mem hn (w := p.2) hp, mapOf_mem hq (w := p.2) (h.mem_iff.1 hp)]
  · rw [(mapOf_0 hw).2 hc, (mapOf_0 hw2).2 (fun q => hc ((h.map Prod.fst).mem_iff.2 q))]
theorem mapOf_cv {P : List (Int × Int)} {c : Int} : mapOf (P.map (fun p => (p.1, cv p.2))) c = cv (mapOf P c) := by
  refine snoc_ind (C := fun P => mapOf (P.map (fun p => (p.1, cv p.2))) c = cv (mapOf P c)) ?_ ?_ P
  · show (0 : Int) = cv 0
    unfold cv; rw [if_neg (by decide)]
  · intro l a ih
    rw [List.map_append, List.map_cons, List.map_nil, mapOf_snoc, mapOf_snoc]
    unfold iu
    split
    · rfl
    · exact ih
theorem cv_inj {a b : Int} (h : cv a = cv b) : a = b := by
  unfold cv at h
  split at h <;> split at h <;> omega
theorem cv_nz {P : List (Int × Int)} (h : ∀ p ∈ P, 1 ≤ p.2 ∧ p.2 ≤ 60) : ∀ p ∈ P.map (fun p : Int × Int => (p.1, cv p.2)), p.2 ≠ 0 := by
  intro p hp
  obtain ⟨q, hq, rfl⟩ := List.mem_map.mp hp
  have := h q hq
  dsimp only
  unfold cv
  split <;> omega
theorem lyC_map {z : Int → Int} (h15 : 0 ≤ z 15 ∧ z 15 ≤ 11) (hn : nd (laid 30 z)) (c : Int) : mapOf (lyC z) c = cv (mpz z c) := by
  have hp := lyC_perm h15.2
  have hl := laid_nz h15
  have h1 : nd ((laid 30 z).map (fun p => (p.1, cv p.2))) := by unfold nd at *; rw [map_fst]; exact hn
  rw [← mapOf_perm h1 (cv_nz hl) hp.symm c, mapOf_cv]
  rfl
theorem mpz_rg2 {z : Int → Int} (h15 : 0 ≤ z 15 ∧ z 15 ≤ 11) (c : Int) : 0 ≤ mpz z c ∧ mpz z c ≤ 60 := by
  have hl := laid_nz h15
  unfold mpz
  revert hl
  refine snoc_ind (C := fun P => (∀ p ∈ P, 1 ≤ p.2 ∧ p.2 ≤ 60) → 0 ≤ mapOf P c ∧ mapOf P c ≤ 60) ?_ ?_ (laid 30 z)
  · intro _; show 0 ≤ (0 : Int) ∧ (0 : Int) ≤ 60; omega
  · intro l a ih hl
    rw [mapOf_snoc]
    have := hl a (List.mem_append_right _ (List.mem_singleton.mpr rfl))
    have := ih (fun p hp => hl p (List.mem_append_left _ hp))
    unfold iu
    split <;> omega
theorem cv_ent {F f : Int → Int} (h : ∀ c, cin c → F c = cv (f c)) (hf : ∀ c, 0 ≤ f c) {c : Int} (hc : cin c) : (entD F 40 c ↔ entD f 30 c) ∧ (40 ≤ F c ↔ 30 ≤ f c) ∧ (F c = 0 ↔ f c = 0) := by
  have := hf c
  have e := h c hc
  unfold cv at e
  unfold entD
  split at e <;> omega
theorem cv_exp {F f : Int → Int} (h : ∀ c, cin c → F c = cv (f c)) (hf : ∀ c, 0 ≤ f c) {d c : Int} (hc : cin c) : expD F d c ↔ expD f d c := by
  unfold expD
  rw [(cv_ent h hf hc).2.2]
theorem cv_dst {F f : Int → Int} (h : ∀ c, cin c → F c = cv (f c)) (hf : ∀ c, 0 ≤ f c) {d x c : Int} (hd : cin d) (k : dst (entD F 40) (expD F d) d x c) : dst (entD f 30) (expD f d) d x c := dst_congr hd (fun _ a => (cv_ent h hf a).1) (fun _ a => cv_exp h hf a) k
theorem cv_wk {F f : Int → Int} (h : ∀ c, cin c → F c = cv (f c)) (hf : ∀ c, 0 ≤ f c) {d : Int} (hd : cin d) : wk_all 40 F d ↔ wk_all 30 f d := by
  unfold wk_all
  constructor
  · intro q c hc h30
    obtain ⟨n, hn⟩ := q c hc ((cv_ent h hf hc).2.1.2 h30)
    exact ⟨n, (wlk_congr hd (fun _ a => (cv_ent h hf a).1) (fun _ a => cv_exp h hf a)).1 hn⟩
  · intro q c hc h40
    obtain ⟨n, hn⟩ := q c hc ((cv_ent h hf hc).2.1.1 h40)
    exact ⟨n, (wlk_congr hd (fun _ a => (cv_ent h hf a).1) (fun _ a => cv_exp h hf a)).2 hn⟩
/-- pillars alone -/
theorem play_map {z : Int → Int} {c : Int} : mapOf (play z) c = pilz z c := by
  have h : ∀ P : List (Int × Int), (∀ p ∈ P, p.2 = 1) → mapOf P c = b2 (c ∈ P.map Prod.fst) := fun P => by
    refine snoc_ind (C := fun P => (∀ p ∈ P, p.2 = 1) → mapOf P c = b2 (c ∈ P.map Prod.fst)) ?_ ?_ P
    · intro _
      rw [b2_f (by simp)]; rfl
    · intro l a ih hl
      have ha := hl a (List.mem_append_right _ (List.mem_singleton.mpr rfl))
      have := ih (fun p hp => hl p (List.mem_append_left _ hp))
      rw [mapOf_snoc]
      unfold iu
      by_cases e : c = a.1
      · rw [if_pos e, ha, b2_t (by simp [e])]
      · rw [if_neg e, this]
        exact b2_c (by simp [e])
  rw [h (play z) (fun p hp => by
    unfold play at hp
    obtain ⟨j, a, b, rfl⟩ := (runL_mem _ _).1 hp
    rfl)]
  unfold pilz
  refine b2_c ⟨fun q => ?_, fun q => ?_⟩
  · obtain ⟨p, hp, rfl⟩ := List.mem_map.mp q
    unfold play at hp
    obtain ⟨j, a, b, rfl⟩ := (runL_mem _ _).1 hp
    exact ⟨j, ⟨a, by omega⟩, rfl⟩
  · obtain ⟨k, ⟨a, b⟩, e⟩ := q
    exact List.mem_map.mpr ⟨(z (3 + k), 1), by unfold play; exact (runL_mem _ _).2 ⟨k, a, by omega, rfl⟩, e⟩
theorem nd_play {z : Int → Int} (h : nd (laid 30 z)) : nd (play z) := by
  unfold nd laid at *
  rw [List.map_append, List.map_cons] at h
  exact (List.nodup_cons.mp (List.nodup_append.mp h).1).2
