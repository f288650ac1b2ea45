/-! ===== a hall: its cells in the heap; drawing ===== -/
/-- no array of ints -/
def nIa (c : hC) : Prop := ∀ (L : Nat) (q : hAr), c ≠ .inl (0, L, q)
/-- all but arrays of ints is kept -/
def KPa (g : Nat → Nat) (h h' : Nat → Option hC) : Prop := (∀ q c, h q = some c → nIa c → h' q = some c) ∧ (h (g 0) = none → h' (g 0) = none)
theorem KPa_rf {g : Nat → Nat} {h : Nat → Option hC} : KPa g h h := ⟨fun _ _ a _ => a, fun a => a⟩
theorem KPa_tr {g : Nat → Nat} {h h' h'' : Nat → Option hC} (a : KPa g h h') (b : KPa g h' h'') : KPa g h h'' := ⟨fun q c u v => b.1 q c (a.1 q c u v) v, fun u => b.2 (a.2 u)⟩
theorem KPa_set {g : Nat → Nat} {h : Nat → Option hC} {p L : Nat} {q x : hAr} {t M : Nat} (hp : h p = some (.inl (0, L, q))) : KPa g h (hset h p (.inl (t, M, x))) := by
  refine ⟨fun r c u v => ?_, fun u => ?_⟩
  · rw [hset_ne (fun e => ?_)]
    · exact u
    · rw [e, hp] at u
      exact v L q (Option.some.inj u).symm
  · rw [hset_ne (fun e => ?_)]
    · exact u
    · rw [e, hp] at u; cases u
theorem KPa_new {g : Nat → Nat} {h : Nat → Option hC} {n : Nat} {x : hC} (hn : h n = none) (hg : g 0 ≠ n) : KPa g h (hset h n x) := by
  refine ⟨fun r c u v => ?_, fun u => ?_⟩
  · rw [hset_ne (fun e => by rw [e, hn] at u; cases u)]; exact u
  · rw [hset_ne hg]; exact u
theorem nIa_o {o : Nat × List Value} : nIa (.inr o) := fun _ _ e => by cases e
theorem nIa_t {t n : Nat} {q : hAr} (ht : t ≠ 0) : nIa (.inl (t, n, q)) := fun L r e => by cases e; exact ht rfl
theorem AL_kp {g : Nat → Nat} {h h' : Nat → Option hC} {r : Nat} {len : Int} {f : Int → Nat} (k : KPa g h h') (a : AL g h r len f) : AL g h' r len f := by
  obtain ⟨mc, arr, h1, h2, h3⟩ := a
  refine ⟨mc, arr, k.1 _ _ h1 nIa_o, h2, ?_⟩
  rcases h3 with ⟨u, v, w⟩ | ⟨cap, q, u, v⟩
  · left
    subst v
    exact ⟨u, rfl, k.2 w⟩
  · right
    exact ⟨cap, q, k.1 _ _ u (nIa_t (by decide)), v⟩
theorem SH_kp {g : Nat → Nat} {h h' : Nat → Option hC} {s : Nat} {kd : Int} (k : KPa g h h') (a : SH h s kd) : SH h' s kd := by
  rcases a with ⟨u, v⟩ | ⟨u, v⟩ | ⟨u, v⟩
  · exact Or.inl ⟨u, k.1 _ _ v nIa_o⟩
  · exact Or.inr (Or.inl ⟨u, k.1 _ _ v nIa_o⟩)
  · exact Or.inr (Or.inr ⟨u, k.1 _ _ v nIa_o⟩)
theorem TB_kp {g : Nat → Nat} {h h' : Nat → Option hC} {a : Nat} {kd x y u fl : Int} (k : KPa g h h') (b : TB h a kd x y u fl) : TB h' a kd x y u fl := by
  obtain ⟨s, h1, h2⟩ := b
  exact ⟨s, k.1 _ _ h1 nIa_o, SH_kp k h2⟩
/-- a state's own cell; D: 0 pillars, 1 tables, 2 guests, 3 pairs, 4 plan, 5 steps, 6 sitting -/
def SO (h : Nat → Option hC) (a : Nat) (D : Nat → Nat) (z : Int → Int) : Prop := h a = some (.inr (1, [.int (iv (z 0)), .int (iv (z 1)), .ref (D 0), .int (iv (z 2)), .ref (D 1), .ref (D 2), .ref (D 3), .ref (D 4), .ref (D 5), .ref (D 6)]))
noncomputable def pilz (z : Int → Int) : Int → Int := fun c => b2 (∃ k, (0 ≤ k ∧ k < z 2) ∧ z (3 + k) = c)
/-- a hall: the cell, the pillars, the tables -/
def HD (g : Nat → Nat) (h : Nat → Option hC) (a : Nat) (D : Nat → Nat) (tb : Int → Nat) (z : Int → Int) : Prop := SO h a D z ∧ (∃ P, h (D 0) = some (ari 1 192 P) ∧ ∀ c, cin c → P c = pilz z c) ∧ AL g h (D 1) (z 15) tb ∧ ∀ t, 0 ≤ t → t < z 15 → TB h (tb t) (zk z t) (zp z t % 16) (zp z t / 16) (zt z t) (zf z t)
theorem HD_kp {g : Nat → Nat} {h h' : Nat → Option hC} {a : Nat} {D : Nat → Nat} {tb : Int → Nat} {z : Int → Int} (k : KPa g h h') (b : HD g h a D tb z) : HD g h' a D tb z := by
  obtain ⟨h1, ⟨P, h2, h3⟩, h4, h5⟩ := b
  exact ⟨k.1 _ _ h1 nIa_o, ⟨P, k.1 _ _ h2 (nIa_t (by decide)), h3⟩, AL_kp k h4, fun t u v => TB_kp k (h5 t u v)⟩
theorem s_o0 {β : Type} {K : Int32 → HM β} {h : Nat → Option hC} {n w a d0 d1 d2 d3 d4 d5 d6 : Nat} {i0 i1 i2 : Int32} (ha : h a = some (.inr (1, [.int i0, .int i1, .ref d0, .int i2, .ref d1, .ref d2, .ref d3, .ref d4, .ref d5, .ref d6]))) : mb (oI 1 0 (some a)) K (h, n, w) = K i0 (h, n, w) := c_oI ha rfl
theorem s_o1 {β : Type} {K : Int32 → HM β} {h : Nat → Option hC} {n w a d0 d1 d2 d3 d4 d5 d6 : Nat} {i0 i1 i2 : Int32} (ha : h a = some (.inr (1, [.int i0, .int i1, .ref d0, .int i2, .ref d1, .ref d2, .ref d3, .ref d4, .ref d5, .ref d6]))) : mb (oI 1 1 (some a)) K (h, n, w) = K i1 (h, n, w) := c_oI ha rfl
theorem s_o2 {β : Type} {K : Option Nat → HM β} {h : Nat → Option hC} {n w a d0 d1 d2 d3 d4 d5 d6 : Nat} {i0 i1 i2 : Int32} (ha : h a = some (.inr (1, [.int i0, .int i1, .ref d0, .int i2, .ref d1, .ref d2, .ref d3, .ref d4, .ref d5, .ref d6]))) : mb (oR 1 2 (some a)) K (h, n, w) = K (some d0) (h, n, w) := c_oR ha rfl
theorem s_o3 {β : Type} {K : Int32 → HM β} {h : Nat → Option hC} {n w a d0 d1 d2 d3 d4 d5 d6 : Nat} {i0 i1 i2 : Int32} (ha : h a = some (.inr (1, [.int i0, .int i1, .ref d0, .int i2, .ref d1, .ref d2, .ref d3, .ref d4, .ref d5, .ref d6]))) : mb (oI 1 3 (some a)) K (h, n, w) = K i2 (h, n, w) := c_oI ha rfl
theorem s_o4 {β : Type} {K : Option Nat → HM β} {h : Nat → Option hC} {n w a d0 d1 d2 d3 d4 d5 d6 : Nat} {i0 i1 i2 : Int32} (ha : h a = some (.inr (1, [.int i0, .int i1, .ref d0, .int i2, .ref d1, .ref d2, .ref d3, .ref d4, .ref d5, .ref d6]))) : mb (oR 1 4 (some a)) K (h, n, w) = K (some d1) (h, n, w) := c_oR ha rfl
theorem s_o5 {β : Type} {K : Option Nat → HM β} {h : Nat → Option hC} {n w a d0 d1 d2 d3 d4 d5 d6 : Nat} {i0 i1 i2 : Int32} (ha : h a = some (.inr (1, [.int i0, .int i1, .ref d0, .int i2, .ref d1, .ref d2, .ref d3, .ref d4, .ref d5, .ref d6]))) : mb (oR 1 5 (some a)) K (h, n, w) = K (some d2) (h, n, w) := c_oR ha rfl
theorem s_o6 {β : Type} {K : Option Nat → HM β} {h : Nat → Option hC} {n w a d0 d1 d2 d3 d4 d5 d6 : Nat} {i0 i1 i2 : Int32} (ha : h a = some (.inr (1, [.int i0, .int i1, .ref d0, .int i2, .ref d1, .ref d2, .ref d3, .ref d4, .ref d5, .ref d6]))) : mb (oR 1 6 (some a)) K (h, n, w) = K (some d3) (h, n, w) := c_oR ha rfl
theorem s_o7 {β : Type} {K : Option Nat → HM β} {h : Nat → Option hC} {n w a d0 d1 d2 d3 d4 d5 d6 : Nat} {i0 i1 i2 : Int32} (ha : h a = some (.inr (1, [.int i0, .int i1, .ref d0, .int i2, .ref d1, .ref d2, .ref d3, .ref d4, .ref d5, .ref d6]))) : mb (oR 1 7 (some a)) K (h, n, w) = K (some d4) (h, n, w) := c_oR ha rfl
theorem s_o8 {β : Type} {K : Option Nat → HM β} {h : Nat → Option hC} {n w a d0 d1 d2 d3 d4 d5 d6 : Nat} {i0 i1 i2 : Int32} (ha : h a = some (.inr (1, [.int i0, .int i1, .ref d0, .int i2, .ref d1, .ref d2, .ref d3, .ref d4, .ref d5, .ref d6]))) : mb (oR 1 8 (some a)) K (h, n, w) = K (some d5) (h, n, w) := c_oR ha rfl
theorem s_o9 {β : Type} {K : Option Nat → HM β} {h : Nat → Option hC} {n w a d0 d1 d2 d3 d4 d5 d6 : Nat} {i0 i1 i2 : Int32} (ha : h a = some (.inr (1, [.int i0, .int i1, .ref d0, .int i2, .ref d1, .ref d2, .ref d3, .ref d4, .ref d5, .ref d6]))) : mb (oR 1 9 (some a)) K (h, n, w) = K (some d6) (h, n, w) := c_oR ha rfl
/-- the plan as F says -/
def pl (h : Nat → Option hC) (D : Nat → Nat) (F : Int → Int) : Nat → Option hC := hset h (D 4) (ari 0 192 F)
theorem pl_at {h : Nat → Option hC} {D : Nat → Nat} {F : Int → Int} : pl h D F (D 4) = some (ari 0 192 F) := hset_at
theorem pl_pl {h : Nat → Option hC} {D : Nat → Nat} {F G : Int → Int} : hset (pl h D F) (D 4) (ari 0 192 G) = pl h D G := hset_hset
def PA (h : Nat → Option hC) (p : Nat) : Prop := ∃ F, h p = some (ari 0 192 F)
theorem KPa_pl {g : Nat → Nat} {h : Nat → Option hC} {D : Nat → Nat} {F : Int → Int} (hp : PA h (D 4)) : KPa g h (pl h D F) := by
  obtain ⟨G, hG⟩ := hp
  exact KPa_set hG
theorem X2_put_c {β : Type} {K : Int32 → HM β} {g : Nat → Nat} {h : Nat → Option hC} {n w a : Nat} {D : Nat → Nat} {tb : Int → Nat} {z : Int → Int} {F : Int → Int} {c v : Int} (hd : HD g h a D tb z) (hp : PA h (D 4)) (hc : cin c) (hF : 0 ≤ F c ∧ F c ≤ 60) : mb (mon 1 (some a) (mcall0 (fX2_put g (some a) (iv c) (iv v)))) K (pl h D F, n, w) = K (iv (b2 (F c = 0))) (pl h D (iu F c v), n, w) := by
  have ho := (HD_kp (KPa_pl (F := F) hp) hd).1
  unfold SO at ho
  have hc2 := hc
  unfold cin at hc2
  rw [c_mon ho]
  refine e_call0 (u' := 0) ?_
  have e1 := fun (K : Int32 → HM Int32) => c_aI (K := K) (n := n) (w := 0) (i := c) (pl_at (h := h) (D := D) (F := F)) (by decide) hc2
  have e2 := fun (K : Unit → HM Int32) => c_sI (K := K) (n := n) (w := 0) (i := c) (x := v) (pl_at (h := h) (D := D) (F := F)) (by decide) hc2
  unfold fX2_put
  rw [s_o7 ho, e1]
  by_cases e : F c = 0
  · rw [b2_t e, e]
    simp (disch := omega) only [↓reduceIte, Int.reduceEq, Int.reduceNe, Int.reduceLT, Int.reduceLE, Int.reduceNeg, Int.reduceMod, Int.reduceDiv, Int.reduceAdd, Int.reduceSub, Int.reduceMul, not_true_eq_false, not_false_eq_true, Int.lt_irrefl, true_or, or_true, false_or, or_false, true_and, and_true, false_and, and_false, b2_T, b2_F, if_true, if_false, ↓mjn_b, ↓mjn0_b, ↓mjn2_b, iv_lit, iv_add, iv_sub, iv_mul, iv_neg, iv_le_t, iv_le_f, iv_lt_t, iv_lt_f, iv_eq_t, iv_eq_f, iv_div, iv_mod, mretT_p, mretT_b, e_mret, ↓e_bret, ↓m_mon, ↓m_oI0, m_pI0, ↓m_oI3, m_pI3, ↓m_oI5, m_pI5, ↓m_oI7, m_pI7, ↓m_oI11, m_pI11, ↓m_oI12, m_pI12, ↓m_oI13, m_pI13, ↓m_oI14, m_pI14, ↓m_oI15, m_pI15, ↓m_oI16, m_pI16, ↓m_oI17, m_pI17, m_pZ5, m_pZ12, ↓m_oR1, m_aI1, m_sI1, ↓m_oR2, m_aI2, m_sI2, ↓m_oR4, m_aI4, m_sI4, ↓m_oR6, m_aI6, m_sI6, ↓m_oR8, m_aI8, m_sI8, ↓m_oR9, m_aI9, m_sI9, ↓m_oR10, m_aI10, m_sI10, s_o7 ho, ↓e2, pl_pl]
  · rw [b2_f e]
    simp (disch := omega) only [↓reduceIte, Int.reduceEq, Int.reduceNe, Int.reduceLT, Int.reduceLE, Int.reduceNeg, Int.reduceMod, Int.reduceDiv, Int.reduceAdd, Int.reduceSub, Int.reduceMul, not_true_eq_false, not_false_eq_true, Int.lt_irrefl, true_or, or_true, false_or, or_false, true_and, and_true, false_and, and_false, b2_T, b2_F, if_true, if_false, ↓mjn_b, ↓mjn0_b, ↓mjn2_b, iv_lit, iv_add, iv_sub, iv_mul, iv_neg, iv_le_t, iv_le_f, iv_lt_t, iv_lt_f, iv_eq_t, iv_eq_f, iv_div, iv_mod, mretT_p, mretT_b, e_mret, ↓e_bret, ↓m_mon, ↓m_oI0, m_pI0, ↓m_oI3, m_pI3, ↓m_oI5, m_pI5, ↓m_oI7, m_pI7, ↓m_oI11, m_pI11, ↓m_oI12, m_pI12, ↓m_oI13, m_pI13, ↓m_oI14, m_pI14, ↓m_oI15, m_pI15, ↓m_oI16, m_pI16, ↓m_oI17, m_pI17, m_pZ5, m_pZ12, ↓m_oR1, m_aI1, m_sI1, ↓m_oR2, m_aI2, m_sI2, ↓m_oR4, m_aI4, m_sI4, ↓m_oR6, m_aI6, m_sI6, ↓m_oR8, m_aI8, m_sI8, ↓m_oR9, m_aI9, m_sI9, ↓m_oR10, m_aI10, m_sI10, s_o7 ho, ↓e2, pl_pl]
theorem iv_and2 {p q : Prop} : iv (b2 p) &&& iv (b2 q) = iv (b2 (p ∧ q)) := by
  by_cases h1 : p <;> by_cases h2 : q
  · rw [b2_t h1, b2_t h2, b2_t ⟨h1, h2⟩]; decide +kernel
  · rw [b2_t h1, b2_f h2, b2_f (fun w => h2 w.2)]; decide +kernel
  · rw [b2_f h1, b2_t h2, b2_f (fun w => h1 w.1)]; decide +kernel
  · rw [b2_f h1, b2_f h2, b2_f (fun w => h1 w.1)]; decide +kernel
def layF (F : Int → Int) (L : List (Int × Int)) : Int → Int := L.foldl (fun f p => iu f p.1 p.2) F
theorem lp_lay {F : Int → Int} {L : List (Int × Int)} : ∀ {P : List (Int × Int)}, lp_is F P → (∀ p ∈ L, 1 ≤ p.2 ∧ p.2 ≤ 60) → lp_is (layF F L) (P ++ L) := by
  induction L generalizing F with
  | nil => intro P h _; rw [List.append_nil]; exact h
  | cons p L ih =>
    intro P h hl
    rw [List.append_cons]
    exact ih (lp_snoc h (hl p (List.mem_cons_self ..))) (fun q hq => hl q (List.mem_cons_of_mem _ hq))
theorem X2_draw_L176_ev {g : Nat → Nat} {h : Nat → Option hC} {n w a : Nat} {D : Nat → Nat} {tb : Int → Nat} {z : Int → Int} {K : Int32 → HM Int32} {v1 : Int32} {t : Int} (hg : gD g) (hd : HD g h a D tb z) (hp : PA h (D 4)) (ht : 0 ≤ t ∧ t < z 15) (h11 : z 15 ≤ 11) (hw : wT z t) (hin : inT z t) : ∀ (k nn : Nat) (F : Int → Int) (P : List (Int × Int)) (c : Int), k < nn → 0 ≤ c → c + k = chN (zk z t) → lp_is F P →
    fX2_draw_L176 g nn (some a) v1 (iv (b2 (nd P))) (iv t) (some (tb t)) (iv (chN (zk z t))) (iv c) K (pl h D F, n, w) = K (iv (b2 (nd (P ++ runL (fun j => (chT z t j, 40 + t)) c k)))) (pl h D (layF F (runL (fun j => (chT z t j, 40 + t)) c k)), n, w) := by
  have hN := chN_rg (zk z t)
  intro k
  induction k with
  | zero =>
    intro nn F P c hn hc he hl
    obtain ⟨q, rfl⟩ : ∃ q, nn = q + 1 := ⟨nn - 1, by omega⟩
    have e : runL (fun j => (chT z t j, 40 + t)) c 0 = [] := rfl
    rw [e, List.append_nil]
    show _ = K (iv (b2 (nd P))) (pl h D F, n, w)
    simp (disch := omega) only [↓reduceIte, Int.reduceEq, Int.reduceNe, Int.reduceLT, Int.reduceLE, Int.reduceNeg, Int.reduceMod, Int.reduceDiv, Int.reduceAdd, Int.reduceSub, Int.reduceMul, not_true_eq_false, not_false_eq_true, Int.lt_irrefl, true_or, or_true, false_or, or_false, true_and, and_true, false_and, and_false, b2_T, b2_F, if_true, if_false, ↓mjn_b, ↓mjn0_b, ↓mjn2_b, iv_lit, iv_add, iv_sub, iv_mul, iv_neg, iv_le_t, iv_le_f, iv_lt_t, iv_lt_f, iv_eq_t, iv_eq_f, iv_div, iv_mod, mretT_p, mretT_b, e_mret, ↓e_bret, ↓m_mon, ↓m_oI0, m_pI0, ↓m_oI3, m_pI3, ↓m_oI5, m_pI5, ↓m_oI7, m_pI7, ↓m_oI11, m_pI11, ↓m_oI12, m_pI12, ↓m_oI13, m_pI13, ↓m_oI14, m_pI14, ↓m_oI15, m_pI15, ↓m_oI16, m_pI16, ↓m_oI17, m_pI17, m_pZ5, m_pZ12, ↓m_oR1, m_aI1, m_sI1, ↓m_oR2, m_aI2, m_sI2, ↓m_oR4, m_aI4, m_sI4, ↓m_oR6, m_aI6, m_sI6, ↓m_oR8, m_aI8, m_sI8, ↓m_oR9, m_aI9, m_sI9, ↓m_oR10, m_aI10, m_sI10, fX2_draw_L176]
  | succ k ih =>
    intro nn F P c hn hc he hl
    obtain ⟨q, rfl⟩ : ∃ q, nn = q + 1 := ⟨nn - 1, by omega⟩
    have hci := chT_cin hin (c := c) (by omega)
    have hlr := lp_rg hl hci
    have ht2 := TB_kp (g := g) (KPa_pl (F := F) hp) (hd.2.2.2 t ht.1 ht.2)
    have ec := fun (K : Int32 → HM Int32) => X3_chair_c (K := K) (n := n) (w := w) hg ht2 hw.2.2.1 (j := c) ⟨hc, by omega⟩
    have ev : 16 * (zp z t / 16 + chD (zk z t) (zt z t) c) + zp z t % 16 + chR (zk z t) (zt z t) c = chT z t c := by unfold chT; omega
    rw [ev] at ec
    have ep := fun (K : Int32 → HM Int32) => X2_put_c (K := K) (n := n) (w := w) (F := F) (v := 40 + t) hd hp hci hlr
    have hnd := lp_nd (w := 40 + t) hl hci
    have ih2 := ih q (iu F (chT z t c) (40 + t)) (P ++ [(chT z t c, 40 + t)]) (c + 1) (by omega) (by omega) (by omega) (lp_snoc hl (by omega))
    rw [b2_c hnd] at ih2
    rw [show runL (fun j => (chT z t j, 40 + t)) c (k + 1) = (chT z t c, 40 + t) :: runL (fun j => (chT z t j, 40 + t)) (c + 1) k from rfl, List.append_cons]
    show _ = K (iv (b2 (nd (P ++ [(chT z t c, 40 + t)] ++ runL (fun j => (chT z t j, 40 + t)) (c + 1) k)))) (pl h D (layF (iu F (chT z t c) (40 + t)) (runL (fun j => (chT z t j, 40 + t)) (c + 1) k)), n, w)
    rw [← ih2]
    simp (disch := omega) only [↓reduceIte, Int.reduceEq, Int.reduceNe, Int.reduceLT, Int.reduceLE, Int.reduceNeg, Int.reduceMod, Int.reduceDiv, Int.reduceAdd, Int.reduceSub, Int.reduceMul, not_true_eq_false, not_false_eq_true, Int.lt_irrefl, true_or, or_true, false_or, or_false, true_and, and_true, false_and, and_false, b2_T, b2_F, if_true, if_false, ↓mjn_b, ↓mjn0_b, ↓mjn2_b, iv_lit, iv_add, iv_sub, iv_mul, iv_neg, iv_le_t, iv_le_f, iv_lt_t, iv_lt_f, iv_eq_t, iv_eq_f, iv_div, iv_mod, mretT_p, mretT_b, e_mret, ↓e_bret, ↓m_mon, ↓m_oI0, m_pI0, ↓m_oI3, m_pI3, ↓m_oI5, m_pI5, ↓m_oI7, m_pI7, ↓m_oI11, m_pI11, ↓m_oI12, m_pI12, ↓m_oI13, m_pI13, ↓m_oI14, m_pI14, ↓m_oI15, m_pI15, ↓m_oI16, m_pI16, ↓m_oI17, m_pI17, m_pZ5, m_pZ12, ↓m_oR1, m_aI1, m_sI1, ↓m_oR2, m_aI2, m_sI2, ↓m_oR4, m_aI4, m_sI4, ↓m_oR6, m_aI6, m_sI6, ↓m_oR8, m_aI8, m_sI8, ↓m_oR9, m_aI9, m_sI9, ↓m_oR10, m_aI10, m_sI10, fX2_draw_L176, ↓ec, ↓ep, iv_and2]
theorem X2_draw_L130_ev {g : Nat → Nat} {h : Nat → Option hC} {n w a : Nat} {D : Nat → Nat} {tb : Int → Nat} {z : Int → Int} {K : Int32 → HM Int32} {v1 : Int32} {t : Int} (hg : gD g) (hd : HD g h a D tb z) (hp : PA h (D 4)) (ht : 0 ≤ t ∧ t < z 15) (h11 : z 15 ≤ 11) (hw : wT z t) (hin : inT z t) : ∀ (k nn : Nat) (F : Int → Int) (P : List (Int × Int)) (c : Int), k < nn → 0 ≤ c → c + k = ceN (zk z t) → lp_is F P →
    fX2_draw_L130 g nn (some a) v1 (iv (b2 (nd P))) (iv t) (some (tb t)) (iv (ceN (zk z t))) (iv c) K (pl h D F, n, w) = K (iv (b2 (nd (P ++ runL (fun j => (ceT z t j, 10 + t)) c k)))) (pl h D (layF F (runL (fun j => (ceT z t j, 10 + t)) c k)), n, w) := by
  have hN := ceN_rg (zk z t)
  intro k
  induction k with
  | zero =>
    intro nn F P c hn hc he hl
    obtain ⟨q, rfl⟩ : ∃ q, nn = q + 1 := ⟨nn - 1, by omega⟩
    have e : runL (fun j => (ceT z t j, 10 + t)) c 0 = [] := rfl
    rw [e, List.append_nil]
    show _ = K (iv (b2 (nd P))) (pl h D F, n, w)
    simp (disch := omega) only [↓reduceIte, Int.reduceEq, Int.reduceNe, Int.reduceLT, Int.reduceLE, Int.reduceNeg, Int.reduceMod, Int.reduceDiv, Int.reduceAdd, Int.reduceSub, Int.reduceMul, not_true_eq_false, not_false_eq_true, Int.lt_irrefl, true_or, or_true, false_or, or_false, true_and, and_true, false_and, and_false, b2_T, b2_F, if_true, if_false, ↓mjn_b, ↓mjn0_b, ↓mjn2_b, iv_lit, iv_add, iv_sub, iv_mul, iv_neg, iv_le_t, iv_le_f, iv_lt_t, iv_lt_f, iv_eq_t, iv_eq_f, iv_div, iv_mod, mretT_p, mretT_b, e_mret, ↓e_bret, ↓m_mon, ↓m_oI0, m_pI0, ↓m_oI3, m_pI3, ↓m_oI5, m_pI5, ↓m_oI7, m_pI7, ↓m_oI11, m_pI11, ↓m_oI12, m_pI12, ↓m_oI13, m_pI13, ↓m_oI14, m_pI14, ↓m_oI15, m_pI15, ↓m_oI16, m_pI16, ↓m_oI17, m_pI17, m_pZ5, m_pZ12, ↓m_oR1, m_aI1, m_sI1, ↓m_oR2, m_aI2, m_sI2, ↓m_oR4, m_aI4, m_sI4, ↓m_oR6, m_aI6, m_sI6, ↓m_oR8, m_aI8, m_sI8, ↓m_oR9, m_aI9, m_sI9, ↓m_oR10, m_aI10, m_sI10, fX2_draw_L130]
  | succ k ih =>
    intro nn F P c hn hc he hl
    obtain ⟨q, rfl⟩ : ∃ q, nn = q + 1 := ⟨nn - 1, by omega⟩
    have hci := ceT_cin hin (j := c) (by omega)
    have hlr := lp_rg hl hci
    have ht2 := TB_kp (g := g) (KPa_pl (F := F) hp) (hd.2.2.2 t ht.1 ht.2)
    have ec := fun (K : Int32 → HM Int32) => X3_cell_c (K := K) (n := n) (w := w) hg ht2 hw.2.2.1 (j := c) ⟨hc, by omega⟩
    have ev : 16 * (zp z t / 16 + ceD (zk z t) (zt z t) c) + zp z t % 16 + ceR (zk z t) (zt z t) c = ceT z t c := by unfold ceT; omega
    rw [ev] at ec
    have ep := fun (K : Int32 → HM Int32) => X2_put_c (K := K) (n := n) (w := w) (F := F) (v := 10 + t) hd hp hci hlr
    have hnd := lp_nd (w := 10 + t) hl hci
    have ih2 := ih q (iu F (ceT z t c) (10 + t)) (P ++ [(ceT z t c, 10 + t)]) (c + 1) (by omega) (by omega) (by omega) (lp_snoc hl (by omega))
    rw [b2_c hnd] at ih2
    rw [show runL (fun j => (ceT z t j, 10 + t)) c (k + 1) = (ceT z t c, 10 + t) :: runL (fun j => (ceT z t j, 10 + t)) (c + 1) k from rfl, List.append_cons]
    show _ = K (iv (b2 (nd (P ++ [(ceT z t c, 10 + t)] ++ runL (fun j => (ceT z t j, 10 + t)) (c + 1) k)))) (pl h D (layF (iu F (ceT z t c) (10 + t)) (runL (fun j => (ceT z t j, 10 + t)) (c + 1) k)), n, w)
    rw [← ih2]
    simp (disch := omega) only [↓reduceIte, Int.reduceEq, Int.reduceNe, Int.reduceLT, Int.reduceLE, Int.reduceNeg, Int.reduceMod, Int.reduceDiv, Int.reduceAdd, Int.reduceSub, Int.reduceMul, not_true_eq_false, not_false_eq_true, Int.lt_irrefl, true_or, or_true, false_or, or_false, true_and, and_true, false_and, and_false, b2_T, b2_F, if_true, if_false, ↓mjn_b, ↓mjn0_b, ↓mjn2_b, iv_lit, iv_add, iv_sub, iv_mul, iv_neg, iv_le_t, iv_le_f, iv_lt_t, iv_lt_f, iv_eq_t, iv_eq_f, iv_div, iv_mod, mretT_p, mretT_b, e_mret, ↓e_bret, ↓m_mon, ↓m_oI0, m_pI0, ↓m_oI3, m_pI3, ↓m_oI5, m_pI5, ↓m_oI7, m_pI7, ↓m_oI11, m_pI11, ↓m_oI12, m_pI12, ↓m_oI13, m_pI13, ↓m_oI14, m_pI14, ↓m_oI15, m_pI15, ↓m_oI16, m_pI16, ↓m_oI17, m_pI17, m_pZ5, m_pZ12, ↓m_oR1, m_aI1, m_sI1, ↓m_oR2, m_aI2, m_sI2, ↓m_oR4, m_aI4, m_sI4, ↓m_oR6, m_aI6, m_sI6, ↓m_oR8, m_aI8, m_sI8, ↓m_oR9, m_aI9, m_sI9, ↓m_oR10, m_aI10, m_sI10, fX2_draw_L130, ↓ec, ↓ep, iv_and2]
