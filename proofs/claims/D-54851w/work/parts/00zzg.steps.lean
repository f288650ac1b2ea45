/-! ===== the steps from a chair: all of it ===== -/
theorem cv_2 {w : Int} (h : 0 ≤ w) : cv w = 2 ↔ w = 2 := by
  unfold cv
  split <;> omega
theorem cv_0 {w : Int} (h : 0 ≤ w) : cv w = 0 ↔ w = 0 := by
  unfold cv
  split <;> omega
theorem X2_stepsFromChair_ev {g : Nat → Nat} {h : Nat → Option hC} {n a : Nat} {D : Nat → Nat} {tb gb : Int → Nat} {z : Int → Int} {t k : Int} (hz : wZ z) (hs : ST g h a D tb gb z) (hn : h n = none) (hn1 : h (n + 1) = none) (hc : isCh z t k) :
    ∃ (S' Q' : Int → Int), fX2_stepsFromChair g (some a) (iv (chT z t k)) (h, n, 0) = some (iv (stz z (chT z t k)), (yl h n S' Q', n + 2, 386)) := by
  have h15 := wZ_15 hz
  obtain ⟨F, hF, hF2⟩ := hs.2.2.2.1
  have hci := chT_cin ((pck_0i hz.2.2.2.2.2.2).1 t hc.1.1 hc.1.2) hc.2
  have hm := chair_mpz hz hc
  have hd : cin (z 1) := hz.1.2.1
  generalize chT z t k = c at hci hm
  have hb : YB h a D n z F := ⟨hs.1.1, hF, hn, hn1⟩
  have hmr := fun c => mpz_rg2 (z := z) (by omega) c
  have hf : mrg F := fun c hc => by
    have h1 := hmr c
    have h2 := hF2 c hc
    unfold cv at h2
    have h3 : mpz z c ≤ 40 := by
      by_cases q : mpz z c = 0
      · omega
      · have h4 := mpz_ex (z := z) (c := c) q
        generalize mpz z c = w at h4 q
        unfold laid at h4
        rcases List.mem_append.mp h4 with h4 | h4
        · rcases List.mem_cons.mp h4 with h4 | h4
          · have e2 : w = 2 := congrArg Prod.snd h4
            omega
          · unfold play at h4
            obtain ⟨k, a, b, e⟩ := (runL_mem _ _).1 h4
            have e2 : w = 1 := congrArg Prod.snd e
            omega
        · unfold tslay at h4
          obtain ⟨l, hl, h4⟩ := List.mem_flatten.mp h4
          obtain ⟨t, a, b, rfl⟩ := (runL_mem _ _).1 hl
          unfold tlay at h4
          rcases List.mem_append.mp h4 with h4 | h4
          · obtain ⟨j, _, _, e⟩ := (runL_mem _ _).1 h4
            have e2 : w = 10 + t := congrArg Prod.snd e
            omega
          · obtain ⟨j, _, _, e⟩ := (runL_mem _ _).1 h4
            have e2 : w = 30 + t := congrArg Prod.snd e
            omega
    split at h2 <;> omega
  have hent : ∀ c, cin c → (entC F c ↔ entC (mpz z) c) := fun c hc => by
    unfold entC
    rw [hF2 c hc, cv_0 (hmr c).1, cv_2 (hmr c).1]
  have hex0 : ∃ m, wlk (entC (mpz z)) (fun _ => True) c m (z 1) := by
    obtain ⟨m, hmw⟩ := (pck_0i hz.2.2.2.2.2.2).2.2 c hci (by
      show 30 ≤ mpz z c
      have := hc.1
      omega)
    have := wlk_back (s := c) hd (door_mpz hz) m 0 c hmw rfl
    exact ⟨_, this⟩
  have hex : ∃ m, wlk (entC F) (fun _ => True) c m (z 1) := by
    obtain ⟨m, hmw⟩ := hex0
    exact ⟨m, (wlk_congr hci hent (fun _ _ => Iff.rfl)).2 hmw⟩
  have e0 : hset (hset h n (ari 0 192 (fun _ => 0))) (n + 1) (ari 0 192 (fun _ => 0)) = yl h n (fun _ => -1) (fun _ => 0) := Eq.trans rfl rfl
  have en1 := fun (K : Option Nat → HM Int32) => c_nA (K := K) (h := h) (n := n) (w := 0) (L := 386) (t := 0) (k := 192) (by decide) (by omega) (by decide)
  have en2 := fun (K : Option Nat → HM Int32) => c_nA (K := K) (h := hset h n (ari 0 192 (fun _ => 0))) (n := n + 1) (w := 193) (L := 386) (t := 0) (k := 192) (by decide) (by omega) (by decide)
  have e192 : (192 : Int).toNat = 192 := rfl
  rw [e192] at en1 en2
  rw [e0] at en2
  have hci2 := hci
  unfold cin at hci2
  have s9 := fun (K : Unit → HM Int32) => c_sI (K := K) (n := n + 1 + 1) (w := 193 + (1 + 192)) (i := c) (x := 0 + 1) (yl_S (h := h) (p := n) (S := fun _ => -1) (Q := fun _ => 0)) (by decide) hci2
  rw [yl_wS] at s9
  have s10 := fun (K : Unit → HM Int32) => c_sI (K := K) (n := n + 1 + 1) (w := 193 + (1 + 192)) (i := 0) (x := c) (yl_Q (h := h) (p := n) (S := iu (fun _ => -1) c 0) (Q := fun _ => 0)) (by decide) (by omega)
  rw [yl_wQ] at s10
  have i0 : (iu (fun _ => (-1 : Int)) c 0) c = 0 := iu_at rfl
  have i1 : ∀ x, cin x → x ≠ c → (iu (fun _ => (-1 : Int)) c 0) x = -1 := fun x _ hne => iu_ne hne
  have i2 : (iu (fun _ => (0 : Int)) 0 c) 0 = c := iu_at rfl
  have hB : BJ (entC F) (fun _ => True) c (iu (fun _ => -1) c 0) (iu (fun _ => (0 : Int)) 0 c) 1 0 (fun _ => False) := ⟨BI_init hci trivial i0 i1 i2, BB_init i0 i1 i2⟩
  obtain ⟨S', Q', k1, k2, k3, k4⟩ := X2_sfc_L30_ev (g := g) (n := n + 1 + 1) (w := 193 + (1 + 192)) (K := mb (oI 1 1 (some a)) fun x15 => mb (aI 0 (some n) x15) fun x16 => mret (x16 - iv 1)) hb hf hd hex 192 5000 _ _ 1 0 (by omega) (by omega) hB
  have hst : stz z c = S' (z 1) := dst_back (B := 30) (by decide) hd hci (door_mpz hz) (by have := hc.1; omega) (fun x _ hx => mpz_door hz hx) (stz_dst z c) (dst_congr hci hent (fun _ _ => Iff.rfl) k2)
  have ho := yl_ne (S := S') (Q := Q') hn hn1 hs.1.1
  have g9 := fun (K : Int32 → HM Int32) => c_aI (K := K) (n := n + 1 + 1) (w := 193 + (1 + 192)) (i := z 1) (yl_S (h := h) (p := n) (S := S') (Q := Q')) (by decide) hd
  refine ⟨S', Q', ?_⟩
  unfold fX2_stepsFromChair
  simp only [iv_lit, iv_add, Int.reduceAdd]
  rw [en1, Nat.zero_add]
  show mb (nA 386 0 (iv 192)) _ (hset h n (ari 0 192 (fun _ => 0)), n + 1, 193) = _
  rw [en2]
  show mb (sI (some n) (iv c) (iv (0 + 1))) _ (yl h n (fun _ => -1) (fun _ => 0), n + 1 + 1, 193 + (1 + 192)) = _
  rw [s9, s10, k1, s_o1 ho, g9, iv_sub, hst, Int.add_sub_cancel]
  rfl
