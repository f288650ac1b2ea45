/-! ===== sight by obstacles is sight by rows ===== -/
theorem blk_none {z : Int → Int} (h0 : 0 ≤ z 0 ∧ z 0 ≤ 15) {x f : Int} (hf : cin f) : ∀ (K : Nat), (K : Int) ≤ f / 16 → (blk z x f K = -1 ↔ ∀ k : Int, 0 ≤ k → k < K → ¬ stn z x (16 * k + lcol z f k)) := by
  intro K
  induction K with
  | zero => intro _; exact ⟨fun _ k a b => by omega, fun _ => rfl⟩
  | succ K ih =>
    intro hK
    have hr := lcol_rg h0 hf (r := K) (by omega)
    have ih2 := ih (by omega)
    rw [show blk z x f (K + 1) = @ite Int (stn z x (16 * (K : Int) + lcol z f K)) (Classical.propDecidable _) (16 * (K : Int) + lcol z f K) (blk z x f K) from rfl]
    by_cases e : stn z x (16 * (K : Int) + lcol z f K)
    · rw [if_pos e]
      exact ⟨fun q => by omega, fun q => absurd e (q K (by omega) (by omega))⟩
    · rw [if_neg e, ih2]
      exact ⟨fun q k a b => by
        by_cases w : k = K
        · rw [w]; exact e
        · exact q k a (by omega), fun q k a b => q k a (by omega)⟩
theorem pil_mpz {z : Int → Int} (hz : wZ z) {c : Int} : pilz z c = 1 ↔ mpz z c = 1 := by
  have h15 := wZ_15 hz
  unfold pilz
  constructor
  · intro q
    have q2 : ∃ k, (0 ≤ k ∧ k < z 2) ∧ z (3 + k) = c := by
      refine Classical.byContradiction (fun w => ?_)
      rw [b2_f w] at q; omega
    obtain ⟨k, a, b⟩ := q2
    refine mpz_mem (wZ_nd hz) ?_
    unfold laid
    refine List.mem_append_left _ (List.mem_cons_of_mem _ ?_)
    unfold play
    exact (runL_mem _ _).2 ⟨k, a.1, by omega, by rw [b]⟩
  · intro q
    have hm := mpz_ex (z := z) (c := c) (by omega)
    rw [q] at hm
    refine b2_t ?_
    unfold laid at hm
    rcases List.mem_append.mp hm with hm | hm
    · rcases List.mem_cons.mp hm with hm | hm
      · have := congrArg Prod.snd hm
        exact absurd this (by decide : (1 : Int) ≠ 2)
      · unfold play at hm
        obtain ⟨k, a, b, e⟩ := (runL_mem _ _).1 hm
        exact ⟨k, ⟨a, by omega⟩, (congrArg Prod.fst e).symm⟩
    · exfalso
      unfold tslay at hm
      obtain ⟨l, hl, hm⟩ := List.mem_flatten.mp hm
      obtain ⟨t, a, b, rfl⟩ := (runL_mem _ _).1 hl
      unfold tlay at hm
      rcases List.mem_append.mp hm with hm | hm
      · obtain ⟨j, _, _, e⟩ := (runL_mem _ _).1 hm
        have e2 : (1 : Int) = 10 + t := congrArg Prod.snd e
        omega
      · obtain ⟨j, _, _, e⟩ := (runL_mem _ _).1 hm
        have e2 : (1 : Int) = 30 + t := congrArg Prod.snd e
        omega
theorem tab_mpz {z : Int → Int} (hz : wZ z) {c : Int} (h : 10 ≤ mpz z c ∧ mpz z c ≤ 29) : ∃ j, (0 ≤ j ∧ j < ceN (zk z (mpz z c - 10))) ∧ ceT z (mpz z c - 10) j = c := by
  have h15 := wZ_15 hz
  have hm := mpz_ex (z := z) (c := c) (by omega)
  generalize mpz z c = w at hm h
  unfold laid at hm
  rcases List.mem_append.mp hm with hm | hm
  · exfalso
    rcases List.mem_cons.mp hm with hm | hm
    · have e2 : w = 2 := congrArg Prod.snd hm
      omega
    · unfold play at hm
      obtain ⟨k, a, b, e⟩ := (runL_mem _ _).1 hm
      have e2 : w = 1 := congrArg Prod.snd e
      omega
  · unfold tslay at hm
    obtain ⟨l, hl, hm⟩ := List.mem_flatten.mp hm
    obtain ⟨t, a, b, rfl⟩ := (runL_mem _ _).1 hl
    unfold tlay at hm
    rcases List.mem_append.mp hm with hm | hm
    · obtain ⟨j, u, v, e⟩ := (runL_mem _ _).1 hm
      have e2 : w = 10 + t := congrArg Prod.snd e
      have e1 : c = ceT z t j := congrArg Prod.fst e
      have et : w - 10 = t := by omega
      rw [et]
      exact ⟨j, ⟨u, by have := ceN_rg (zk z t); omega⟩, e1.symm⟩
    · exfalso
      obtain ⟨j, u, v, e⟩ := (runL_mem _ _).1 hm
      have e2 : w = 30 + t := congrArg Prod.snd e
      omega
theorem sbo_eq {z : Int → Int} (hz : wZ z) {x f : Int} (hx : 0 ≤ x ∧ x < z 60) (hf : cin f) :
    (blkd z x f = -1) ↔ ((((True ∧ ∀ c, (0 : Int) ≤ c → c < 192 → ¬ (pilz z c = 1 ∧ onl z f c)) ∧ ∀ s, (0 : Int) ≤ s → s < z 15 → ∀ j, 0 ≤ j → j < ceN (zk z s) → ¬ (gh z x ≤ zf z s ∧ onl z f (ceT z s j)))) ∧ ∀ j, (0 : Int) ≤ j → j < z 60 → ¬ (sits z j ∧ gh z x < gh z j ∧ onl z f (cgl z j))) := by
  have h0 := hz.1.1
  have hf2 := hf
  unfold cin at hf2
  have h15 := wZ_15 hz
  unfold blkd
  rw [blk_none h0 hf _ (by omega)]
  have key : ∀ c, cin c → onl z f c → stn z x c → ¬ ∀ k : Int, 0 ≤ k → k < ((f / 16).toNat : Int) → ¬ stn z x (16 * k + lcol z f k) := fun c hc ho hs q => by
    unfold cin at hc
    refine q (c / 16) (by omega) (by have := ho.1; omega) ?_
    rw [ho.2, show 16 * (c / 16) + c % 16 = c by omega]
    exact hs
  constructor
  · intro q
    refine ⟨⟨⟨trivial, fun c u v w => ?_⟩, fun s u v j u2 v2 w => ?_⟩, fun j u v w => ?_⟩
    · exact key c ⟨u, v⟩ w.2 (Or.inl ((pil_mpz hz).1 w.1)) q
    · have hin := (pck_0i hz.2.2.2.2.2.2).1 s u v
      have hm := mpz_mem (wZ_nd hz) (cell_mem ⟨u, v⟩ ⟨u2, v2⟩)
      refine key _ (ceT_cin hin ⟨u2, v2⟩) w.2 (Or.inr (Or.inl ⟨by omega, ?_⟩)) q
      rw [hm, show 10 + s - 10 = s by omega]
      exact w.1
    · refine key _ (cgl_cin hz ⟨u, v⟩ w.1) w.2.2 (Or.inr (Or.inr ⟨j, ⟨u, v⟩, fun e => ?_, w.1, rfl, w.2.1⟩)) q
      have := w.2.1
      rw [e] at this
      omega
  · rintro ⟨⟨⟨-, q1⟩, q2⟩, q3⟩ k u v hs
    have hr := lcol_rg h0 hf2 (r := k) (by omega)
    have hc : cin (16 * k + lcol z f k) := by unfold cin; omega
    have e1 : (16 * k + lcol z f k) / 16 = k := by omega
    have e2 : (16 * k + lcol z f k) % 16 = lcol z f k := by omega
    have ho : onl z f (16 * k + lcol z f k) := ⟨by rw [e1]; omega, by rw [e1, e2]⟩
    generalize 16 * k + lcol z f k = c at hs hc ho
    rcases hs with w | w | ⟨j, w1, w2, w3, w4, w5⟩
    · exact q1 c hc.1 hc.2 ⟨(pil_mpz hz).2 w, ho⟩
    · obtain ⟨j, a, b⟩ := tab_mpz hz w.1
      have ht := mpz_tab w.1
      exact q2 _ ht.1 ht.2 j a.1 a.2 ⟨w.2, by rw [b]; exact ho⟩
    · exact q3 j w1.1 w1.2 ⟨w3, w5, by rw [w4]; exact ho⟩
theorem X2_seesByObstacles_c {β : Type} {K : Int32 → HM β} {g : Nat → Nat} {h : Nat → Option hC} {n w a : Nat} {D : Nat → Nat} {tb gb : Int → Nat} {z : Int → Int} {x : Int} (hg : gD g) (hz : wZ z) (hs : ST g h a D tb gb z) (hx : 0 ≤ x ∧ x < z 60) : mb (mon 1 (some a) (mcall0 (fX2_seesByObstacles g (some a) (iv x)))) K (h, n, w) = K (iv (b2 (sees z x))) (h, n, w) := by
  have ho := hs.1.1
  unfold SO at ho
  have hx_gu := hs.2.1.2 x hx.1 hx.2
  obtain ⟨nm_x, hg_x, -⟩ := id hx_gu
  have eg_x := fun (K : Option Nat → HM Int32) => J2_get_c (K := K) (n := n) (w := 0) (i := x) hs.2.1.1 hx
  have ec_x := fun (K : Unit → HM Int32) => c_mcst (K := K) (n := n) (w := 0) (cs := [3]) hg_x (List.mem_cons_self ..)
  have es_x := fun (K : Int32 → HM Int32) => X8_sits_c (K := K) (g := g) (n := n) (w := 0) hz hx hx_gu
  have h60 := wZ_60 hz
  have h15 := wZ_15 hz
  rw [c_mon ho]
  refine e_call0 (u' := 0) ?_
  unfold fX2_seesByObstacles
  by_cases e : sits z x
  · rw [b2_t e] at es_x
    have hcc := cgl_cin hz hx e
    have ec := fun (K : Int32 → HM Int32) => X2_cellOf_c (K := K) (n := n) (w := 0) hg hz hs.1 hs.2.1 hx e
    have ez := fun (K : Int32 → HM Int32) => J2_size_c (K := K) (n := n) (w := 0) hs.1.2.2.1
    have ez2 := fun (K : Int32 → HM Int32) => J2_size_c (K := K) (n := n) (w := 0) hs.2.1.1
    have e1 := fun (K : Int32 → HM Int32) => X2_sbo_L35_ev (n := n) (w := 0) (K := K) (x := x) hz hs hcc 192 5000 True 0 (by omega) (by omega) (by omega)
    have e2 := fun (K : Int32 → HM Int32) (r : Prop) => X2_sbo_L93_ev (n := n) (w := 0) (K := K) hg hz hs hx hcc (z 15).toNat 5000 r 0 (by omega) (by omega) (by omega)
    have e3 := fun (r : Prop) => X2_sbo_L201_ev (n := n) (w := 0) hg hz hs hx hcc (z 60).toNat 5000 r 0 (by omega) (by omega) (by omega)
    rw [b2_T] at e1
    simp only [iv_lit]
    rw [s_o5 ho, eg_x, ec_x, es_x, if_neg (by decide), ec, e1, s_o4 ho, ez, e2, s_o5 ho, ez2, e3]
    rw [show b2 (sees z x) = _ from b2_c ⟨fun q => (sbo_eq hz hx hcc).1 q.2, fun q => ⟨e, (sbo_eq hz hx hcc).2 q⟩⟩]
  · rw [b2_f e] at es_x
    rw [b2_f (fun q => e q.1)]
    simp (disch := omega) only [↓reduceIte, Int.reduceEq, Int.reduceNe, Int.reduceLT, Int.reduceLE, Int.reduceNeg, Int.reduceMod, Int.reduceDiv, Int.reduceAdd, Int.reduceSub, Int.reduceMul, not_true_eq_false, not_false_eq_true, Int.lt_irrefl, true_or, or_true, false_or, or_false, true_and, and_true, false_and, and_false, b2_T, b2_F, if_true, if_false, ↓mjn_b, ↓mjn0_b, ↓mjn2_b, iv_lit, iv_add, iv_sub, iv_mul, iv_neg, iv_le_t, iv_le_f, iv_lt_t, iv_lt_f, iv_eq_t, iv_eq_f, iv_div, iv_mod, mretT_p, mretT_b, e_mret, ↓e_bret, ↓m_mon, ↓m_oI0, m_pI0, ↓m_oI3, m_pI3, ↓m_oI5, m_pI5, ↓m_oI7, m_pI7, ↓m_oI11, m_pI11, ↓m_oI12, m_pI12, ↓m_oI13, m_pI13, ↓m_oI14, m_pI14, ↓m_oI15, m_pI15, ↓m_oI16, m_pI16, ↓m_oI17, m_pI17, m_pZ5, m_pZ12, ↓m_oR1, m_aI1, m_sI1, ↓m_oR2, m_aI2, m_sI2, ↓m_oR4, m_aI4, m_sI4, ↓m_oR6, m_aI6, m_sI6, ↓m_oR8, m_aI8, m_sI8, ↓m_oR9, m_aI9, m_sI9, ↓m_oR10, m_aI10, m_sI10, ↓s_o5 ho, ↓eg_x, ↓ec_x, ↓es_x]
