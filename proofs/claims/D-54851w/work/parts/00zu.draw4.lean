/-! ===== drawing a hall: all of it ===== -/
theorem c_nA {β : Type} {K : Option Nat → HM β} {h : Nat → Option hC} {n w L t : Nat} {k : Int} (ht : t ≤ 2) (hk : 0 ≤ k ∧ k < 100000) (hL : w + (1 + k.toNat) ≤ L) : mb (nA L t (iv k)) K (h, n, w) = K (some n) (hset h n (ari t k.toNat (fun _ => 0)), n + 1, w + (1 + k.toNat)) := by
  obtain ⟨j, rfl⟩ : ∃ j : Nat, k = j := ⟨k.toNat, by omega⟩
  have h1 : (iv (j : Int)).toNatClampNeg = j := iv_clamp (by omega)
  have h2 : ¬ iv (j : Int) < 0 := iv_nneg (by omega)
  have hz : zAr t = .inl (fun _ => 0) := if_pos ht
  rw [Int.toNat_natCast] at *
  unfold mb nA
  simp only [h1]
  rw [if_pos ⟨h2, hL⟩, hz]
  exact congrArg (fun q => K (some n) (hset h n q, n + 1, w + (1 + j))) (Eq.trans rfl rfl)
theorem X2_walk_ev {g : Nat → Nat} {h : Nat → Option hC} {n a : Nat} {D : Nat → Nat} {z F : Int → Int} (hb : WB h a D n z F) (hf : mrg F) (hd : cin (z 1)) :
    ∃ (S' Q' : Int → Int), fX2_walk g (some a) (h, n, 0) = some (iv (b2 (wk_all 40 F (z 1))), (wl h D n S' Q', n + 1, 193)) ∧ ∀ c, cin c → dst (entD F 40) (expD F (z 1)) (z 1) (S' c) c ∧ -1 ≤ S' c ∧ S' c ≤ 193 := by
  obtain ⟨G0, hG0⟩ := hb.2.2.1
  have e0 : hset h n (ari 0 192 (fun _ => 0)) = wl h D n G0 (fun _ => 0) := by
    unfold wl
    rw [hset_id hG0]
  have en := fun (K : Option Nat → HM Int32) => c_nA (K := K) (h := h) (n := n) (w := 0) (L := 193) (t := 0) (k := 192) (by decide) (by omega) (by decide)
  have e192 : (192 : Int).toNat = 192 := rfl
  rw [e192, e0] at en
  have hd2 := hd
  unfold cin at hd2
  have e13 := fun (K : HM Int32) => X2_walk_L13_ev (g := g) (n := n + 1) (w := 193) (K := K) (v2 := iv 0) (v3 := iv 0) hb 192 5000 G0 (fun _ => 0) 0 (by omega) (by omega) (by omega) (fun c u v => by omega)
  obtain ⟨S1, f1, f2⟩ := e13 (mb (oR 1 8 (some a)) fun x23 => mb (oI 1 1 (some a)) fun x24 => mb (sI x23 x24 (iv 0)) fun _ => mb (oI 1 1 (some a)) fun x25 => mb (sI (some n) (iv 0) x25) fun _ => fX2_walk_L55 g 5000 (some a) (some n) (iv 0) (iv 1) (fX2_walk_L173 g 5000 (some a) (iv 1) (iv 0)))
  have ho1 := wl_O (S := S1) (Q := fun _ => 0) hb
  have ho2 := wl_O (S := iu S1 (z 1) 0) (Q := fun _ => 0) hb
  unfold SO at ho1 ho2
  have s9 := fun (K : Unit → HM Int32) => c_sI (K := K) (n := n + 1) (w := 193) (i := z 1) (x := 0) (wl_S (S := S1) (Q := fun _ => 0) hb) (by decide) hd2
  rw [wl_wS hb] at s9
  have s10 := fun (K : Unit → HM Int32) => c_sI (K := K) (n := n + 1) (w := 193) (i := 0) (x := z 1) (wl_Q (h := h) (D := D) (p := n) (S := iu S1 (z 1) 0) (Q := fun _ => 0)) (by decide) (by omega)
  rw [wl_wQ] at s10
  have i0 : (iu S1 (z 1) 0) (z 1) = 0 := iu_at rfl
  have i1 : ∀ c, cin c → c ≠ z 1 → (iu S1 (z 1) 0) c = -1 := fun c hc hne => by rw [iu_ne hne]; exact f2 c hc
  have i2 : (iu (fun _ => (0 : Int)) 0 (z 1)) 0 = z 1 := iu_at rfl
  have hB : BJ (entD F 40) (expD F (z 1)) (z 1) (iu S1 (z 1) 0) (iu (fun _ => (0 : Int)) 0 (z 1)) 1 0 (fun _ => False) := ⟨BI_init hd (Or.inl rfl) i0 i1 i2, BB_init i0 i1 i2⟩
  obtain ⟨S', Q', k1, k2⟩ := X2_walk_L55_ev (g := g) (n := n + 1) (w := 193) (K := fX2_walk_L173 g 5000 (some a) (iv 1) (iv 0)) hb hf 192 5000 _ _ 1 0 (by omega) (by omega) hB
  refine ⟨S', Q', ?_, k2⟩
  have k3 := X2_walk_L173_ev (g := g) (n := n + 1) (w := 193) (S := S') (Q := Q') hb hf (fun c hc => (k2 c hc).2) 192 5000 True 0 (by omega) (by omega) (by omega)
  rw [b2_T] at k3
  have hwk : b2 (True ∧ ∀ c, (0 : Int) ≤ c → c < 192 → (F c < 40 ∨ S' c ≠ -1)) = b2 (wk_all 40 F (z 1)) := b2_c ⟨fun q c hc h40 => by
    rcases q.2 c hc.1 hc.2 with w | w
    · omega
    · rcases (k2 c hc).1 with ⟨u, _⟩ | ⟨m, _, v, _⟩
      · exact absurd u w
      · exact ⟨m, v⟩, fun q => ⟨trivial, fun c u v => by
    by_cases h40 : F c < 40
    · exact Or.inl h40
    · refine Or.inr (fun e => ?_)
      obtain ⟨m, hm⟩ := q c ⟨u, v⟩ (by omega)
      rcases (k2 c ⟨u, v⟩).1 with ⟨_, u'⟩ | ⟨m', v', _⟩
      · exact u' m hm
      · omega⟩⟩
  rw [hwk] at k3
  unfold fX2_walk
  simp only [iv_lit, iv_add, Int.reduceAdd]
  rw [en, Nat.zero_add]
  show fX2_walk_L13 g 5000 (some a) (some n) (iv 0) (iv 0) (iv 0) _ (wl h D n G0 (fun _ => 0), n + 1, 193) = _
  rw [f1, s_o8 ho1, s_o1 ho1, s9, s_o1 ho2, s10, k1, k3]
/-- where a drawing leaves the heap -/
def dr_ok (h h' : Nat → Option hC) (D : Nat → Nat) (n n' : Nat) (z : Int → Int) : Prop := n ≤ n' ∧ n' ≤ n + 1 ∧ (∀ q, q ≠ D 4 → q ≠ D 5 → q ≠ n → h' q = h q) ∧ (n' = n → h' n = h n) ∧ PA h' (D 4) ∧ PA h' (D 5) ∧ ((n' = n + 1 → PA h' n)) ∧
  (pck z = 0 → ∃ F T, h' (D 4) = some (ari 0 192 F) ∧ h' (D 5) = some (ari 0 192 T) ∧ (∀ c, cin c → F c = cv (mpz z c)) ∧ ∀ c, cin c → T c = stz z c)
theorem X2_draw_ev {g : Nat → Nat} {h : Nat → Option hC} {n a : Nat} {D : Nat → Nat} {tb : Int → Nat} {z : Int → Int} (hg : gD g) (hd : HD g h a D tb z) (hp : PA h (D 4)) (hs : PA h (D 5)) (hne : D 4 ≠ D 5) (hn : h n = none) (hw : wH z) (hnp : nd (play z)) :
    ∃ (h' : Nat → Option hC) (n' w' : Nat), fX2_draw g (some a) (h, n, 0) = some (iv (pck z), (h', n', w')) ∧ dr_ok h h' D n n' z := by
  have h15 := hw.2.2.2.2.1
  have ho := hd.1
  unfold SO at ho
  obtain ⟨F0, hF0⟩ := id hp
  have hpl0 : h = pl h D F0 := by unfold pl; rw [hset_id hF0]
  have hn4 : n ≠ D 4 := fun e => by rw [e, hF0] at hn; cases hn
  have hn5 : n ≠ D 5 := fun e => by obtain ⟨G, hG⟩ := hs; rw [e, hG] at hn; cases hn
  have e12 := fun (K : HM Int32) => X2_draw_L12_ev (n := n) (w := 0) (K := K) hg hd hw (z 15).toNat 5000 0 (by omega) (by omega) (by omega)
  unfold fX2_draw
  simp only [iv_lit]
  rw [s_o4 ho, J2_size_c hd.2.2.1, e12]
  by_cases hin : ∀ j, 0 ≤ j → j < z 15 → inT z j
  · rw [if_pos hin]
    have hin2 : ¬ ∃ t, (0 ≤ t ∧ t < z 15) ∧ ¬ inT z t := fun q => by
      obtain ⟨t, u, v⟩ := q
      exact v (hin t u.1 u.2)
    obtain ⟨F1, f1, f2⟩ := X2_draw_L48_ev (g := g) (n := n) (w := 0) (K := mb (oI 1 1 (some a)) fun x22 => mb (mon 1 (some a) (mcall0 (fX2_put g (some a) x22 (iv 2)))) fun x23 => fX2_draw_L95 g 5000 (some a) (iv (z 15)) (iv 1 &&& x23) (iv 0) (fun (x24 : Int32) => if x24 = iv 0 then mret (iv 2) else mb (mon 1 (some a) (mcall 193 193 (fX2_walk g (some a)))) fun x25 => if x25 = iv 0 then mret (iv 3) else mret (iv 0))) (v1 := iv (z 15)) (v2 := iv 1) hd hp 192 5000 F0 0 (by omega) (by omega) (by omega) (fun c u v => by omega)
    rw [← hpl0] at f1
    have hlp : lp_is F1 (play z) := ⟨fun c u v => by rw [f2 c ⟨u, v⟩, play_map], fun p hp => by
      unfold play at hp
      obtain ⟨j, u, v, rfl⟩ := (runL_mem _ _).1 hp
      exact ⟨(by decide : (1 : Int) ≤ 1), (by decide : (1 : Int) ≤ 60)⟩⟩
    have hdc : cin (z 1) := hw.2.1
    have ho1 := (HD_kp (KPa_pl (F := F1) hp) hd).1
    unfold SO at ho1
    have ep := fun (K : Int32 → HM Int32) => X2_put_c (K := K) (n := n) (w := 0) (F := F1) (v := 2) hd hp hdc (lp_rg hlp hdc)
    have hnd1 : b2 (F1 (z 1) = 0) = b2 (nd (play z ++ [(z 1, 2)])) := b2_c (by rw [lp_nd hlp hdc]; exact ⟨fun q => ⟨hnp, q⟩, fun q => q.2⟩)
    have e1a : iv 1 &&& iv (b2 (F1 (z 1) = 0)) = iv (b2 (nd (play z ++ [(z 1, 2)]))) := by
      rw [hnd1]
      have := iv_and2 (p := True) (q := nd (play z ++ [(z 1, 2)]))
      rw [b2_T] at this
      rw [this]
      exact congrArg iv (b2_c ⟨fun q => q.2, fun q => ⟨trivial, q⟩⟩)
    have e95 := fun (K : Int32 → HM Int32) => X2_draw_L95_ev (n := n) (w := 0) (K := K) hg hd hp hw hin (z 15).toNat 5000 (iu F1 (z 1) 2) (play z ++ [(z 1, 2)]) 0 (by omega) (by omega) (by omega) (lp_snoc hlp (by omega))
    have elc : play z ++ [(z 1, 2)] ++ (runL (tlay 40 z) 0 (z 15).toNat).flatten = lyC z := rfl
    have hlp2 := lp_lay (L := (runL (tlay 40 z) 0 (z 15).toNat).flatten) (lp_snoc (c := z 1) (w := 2) hlp (by omega)) (fun p hp => by
      obtain ⟨l, hl, hp⟩ := List.mem_flatten.mp hp
      obtain ⟨t, u, v, rfl⟩ := (runL_mem _ _).1 hl
      exact tlay_rg (by omega) p hp)
    rw [elc] at hlp2 e95
    generalize layF (iu F1 (z 1) 2) (runL (tlay 40 z) 0 (z 15).toNat).flatten = F at hlp2 e95
    rw [f1, s_o1 ho1, ep, e1a, e95]
    by_cases hnd : nd (lyC z)
    · have hnd2 := (lyC_nd h15.2).1 hnd
      rw [b2_t hnd, if_neg (by decide)]
      have hFc : ∀ c, cin c → F c = cv (mpz z c) := fun c hc => by rw [hlp2.1 c hc.1 hc.2, lyC_map h15 hnd2]
      have hf0 := fun c => (mpz_rg2 h15 c).1
      have hb : WB (pl h D F) a D n z F := ⟨(HD_kp (KPa_pl (F := F) hp) hd).1, pl_at, by
        obtain ⟨G, hG⟩ := hs
        exact ⟨G, by unfold pl; rw [hset_ne (fun e => hne e.symm)]; exact hG⟩, by unfold pl; rw [hset_ne hn4]; exact hn, hne⟩
      obtain ⟨S', Q', k1, k2⟩ := X2_walk_ev (g := g) hb (fun c hc => lp_rg hlp2 hc) hdc
      have ho2 := hb.1
      unfold SO at ho2
      have hwk := cv_wk hFc hf0 hdc
      have e25 : ∀ K : Int32 → HM Int32, mb (mon 1 (some a) (mcall 193 193 (fX2_walk g (some a)))) K (pl h D F, n, 0) = K (iv (b2 (wk_all 40 F (z 1)))) (wl (pl h D F) D n S' Q', n + 1, 193) := fun K => by
        rw [c_mon ho2]
        unfold mb mcall
        simp only [Nat.zero_add, Nat.le_refl, if_true, k1]
      have hpk : iv (pck z) = if iv (b2 (wk_all 40 F (z 1))) = iv 0 then iv 3 else iv 0 := by
        by_cases hk : wk_all 40 F (z 1)
        · rw [b2_t hk, if_neg (by decide), pck_0 hin2 hnd2 (hwk.1 hk)]
        · rw [b2_f hk, if_pos rfl, pck_3 hin2 hnd2 (fun q => hk (hwk.2 q))]
      refine ⟨wl (pl h D F) D n S' Q', n + 1, 193, ?_, by omega, by omega, fun q q4 q5 qn => ?_, fun q => by omega, ⟨F, wl_F hb⟩, ⟨S', wl_S hb⟩, fun _ => ⟨Q', wl_Q⟩, fun _ => ⟨F, S', wl_F hb, wl_S hb, hFc, fun c hc => stz_of (cv_dst hFc hf0 hdc (k2 c hc).1)⟩⟩
      · rw [e25, hpk]
        by_cases hk : iv (b2 (wk_all 40 F (z 1))) = iv 0
        · rw [if_pos hk, if_pos hk]; rfl
        · rw [if_neg hk, if_neg hk]; rfl
      · rw [wl_ne q5 qn]
        unfold pl
        rw [hset_ne q4]
    · rw [b2_f hnd, if_pos rfl, pck_2 hin2 (fun q => hnd ((lyC_nd h15.2).2 q))]
      refine ⟨pl h D F, n, 0, rfl, by omega, by omega, fun q q4 _ _ => by unfold pl; rw [hset_ne q4], fun _ => by unfold pl; rw [hset_ne hn4], ⟨F, pl_at⟩, ?_, fun q => by omega, fun q => ?_⟩
      · obtain ⟨G, hG⟩ := hs
        exact ⟨G, by unfold pl; rw [hset_ne (fun e => hne e.symm)]; exact hG⟩
      · have := pck_2 hin2 (fun q => hnd ((lyC_nd h15.2).2 q))
        omega
  · rw [if_neg hin]
    have hex : ∃ t, (0 ≤ t ∧ t < z 15) ∧ ¬ inT z t := by
      refine Classical.byContradiction (fun q => hin (fun t u v => Classical.byContradiction (fun w => q ⟨t, ⟨u, v⟩, w⟩)))
    rw [pck_1 hex]
    refine ⟨h, n, 0, rfl, by omega, by omega, fun q _ _ _ => rfl, fun _ => rfl, hp, hs, fun q => by omega, fun q => ?_⟩
    have := pck_1 hex
    omega
