/-! ===== strings and guests ===== -/
def STR (h : Nat → Option hC) (nm : Nat) (len : Int) (F : Int → Int) : Prop := ∃ (val : Nat) (hs hz : Int32) (G : Int → Int), h nm = some (.inr (16, [.ref val, .int 0, .int hs, .int hz])) ∧ h val = some (ari 2 len.toNat G) ∧ (0 ≤ len ∧ len ≤ 1000) ∧ ∀ k, 0 ≤ k → k < len → G k = F k
theorem STR_kp {g : Nat → Nat} {h h' : Nat → Option hC} {nm : Nat} {len : Int} {F : Int → Int} (k : KPa g h h') (a : STR h nm len F) : STR h' nm len F := by
  obtain ⟨val, hs, hz, G, h1, h2, h3⟩ := a
  exact ⟨val, hs, hz, G, k.1 _ _ h1 nIa_o, k.1 _ _ h2 (nIa_t (by decide)), h3⟩
def GU (h : Nat → Option hC) (a : Nat) (z : Int → Int) (i : Int) : Prop := ∃ nm, h a = some (.inr (3, [.int (iv i), .ref nm, .int (iv (gh z i)), .int (iv (ga z i)), .int (iv (gc z i))])) ∧ STR h nm (gl z i) (gn z i)
theorem GU_kp {g : Nat → Nat} {h h' : Nat → Option hC} {a : Nat} {z : Int → Int} {i : Int} (k : KPa g h h') (b : GU h a z i) : GU h' a z i := by
  obtain ⟨nm, h1, h2⟩ := b
  exact ⟨nm, k.1 _ _ h1 nIa_o, STR_kp k h2⟩
/-- the guests -/
def GS (g : Nat → Nat) (h : Nat → Option hC) (D : Nat → Nat) (gb : Int → Nat) (z : Int → Int) : Prop := AL g h (D 2) (z 60) gb ∧ ∀ i, 0 ≤ i → i < z 60 → GU h (gb i) z i
theorem GS_kp {g : Nat → Nat} {h h' : Nat → Option hC} {D : Nat → Nat} {gb : Int → Nat} {z : Int → Int} (k : KPa g h h') (b : GS g h D gb z) : GS g h' D gb z := ⟨AL_kp k b.1, fun i u v => GU_kp k (b.2 i u v)⟩
theorem g_o0 {β : Type} {K : Int32 → HM β} {h : Nat → Option hC} {n w a s : Nat} {x y u f : Int32} (ha : h a = some (.inr (3, [.int x, .ref s, .int y, .int u, .int f]))) : mb (oI 3 0 (some a)) K (h, n, w) = K x (h, n, w) := c_oI ha rfl
theorem g_o1 {β : Type} {K : Option Nat → HM β} {h : Nat → Option hC} {n w a s : Nat} {x y u f : Int32} (ha : h a = some (.inr (3, [.int x, .ref s, .int y, .int u, .int f]))) : mb (oR 3 1 (some a)) K (h, n, w) = K (some s) (h, n, w) := c_oR ha rfl
theorem g_o2 {β : Type} {K : Int32 → HM β} {h : Nat → Option hC} {n w a s : Nat} {x y u f : Int32} (ha : h a = some (.inr (3, [.int x, .ref s, .int y, .int u, .int f]))) : mb (oI 3 2 (some a)) K (h, n, w) = K y (h, n, w) := c_oI ha rfl
theorem g_o3 {β : Type} {K : Int32 → HM β} {h : Nat → Option hC} {n w a s : Nat} {x y u f : Int32} (ha : h a = some (.inr (3, [.int x, .ref s, .int y, .int u, .int f]))) : mb (oI 3 3 (some a)) K (h, n, w) = K u (h, n, w) := c_oI ha rfl
theorem g_o4 {β : Type} {K : Int32 → HM β} {h : Nat → Option hC} {n w a s : Nat} {x y u f : Int32} (ha : h a = some (.inr (3, [.int x, .ref s, .int y, .int u, .int f]))) : mb (oI 3 4 (some a)) K (h, n, w) = K f (h, n, w) := c_oI ha rfl
theorem X8_sits_c {β : Type} {K : Int32 → HM β} {g : Nat → Nat} {h : Nat → Option hC} {n w a : Nat} {z : Int → Int} {i : Int} (hz : wZ z) (hi : 0 ≤ i ∧ i < z 60) (hu : GU h a z i) : mb (mon 3 (some a) (mcall0 (fX8_sits g (some a)))) K (h, n, w) = K (iv (b2 (sits z i))) (h, n, w) := by
  obtain ⟨nm, ha, -⟩ := hu
  have hg := wZ_graw hz hi
  rw [c_mon ha]
  refine e_call0 (u' := 0) ?_
  unfold fX8_sits
  rw [g_o3 ha]
  unfold sits ga
  by_cases e : z (61 + 18 * i + 1) = -1
  · rw [b2_f (fun q => q e)]
    simp (disch := omega) only [↓reduceIte, Int.reduceEq, Int.reduceNe, Int.reduceLT, Int.reduceLE, Int.reduceNeg, Int.reduceMod, Int.reduceDiv, Int.reduceAdd, Int.reduceSub, Int.reduceMul, not_true_eq_false, not_false_eq_true, Int.lt_irrefl, true_or, or_true, false_or, or_false, true_and, and_true, false_and, and_false, b2_T, b2_F, if_true, if_false, ↓mjn_b, ↓mjn0_b, ↓mjn2_b, iv_lit, iv_add, iv_sub, iv_mul, iv_neg, iv_le_t, iv_le_f, iv_lt_t, iv_lt_f, iv_eq_t, iv_eq_f, iv_div, iv_mod, mretT_p, mretT_b, e_mret, ↓e_bret, ↓m_mon, ↓m_oI0, m_pI0, ↓m_oI3, m_pI3, ↓m_oI5, m_pI5, ↓m_oI7, m_pI7, ↓m_oI11, m_pI11, ↓m_oI12, m_pI12, ↓m_oI13, m_pI13, ↓m_oI14, m_pI14, ↓m_oI15, m_pI15, ↓m_oI16, m_pI16, ↓m_oI17, m_pI17, m_pZ5, m_pZ12, ↓m_oR1, m_aI1, m_sI1, ↓m_oR2, m_aI2, m_sI2, ↓m_oR4, m_aI4, m_sI4, ↓m_oR6, m_aI6, m_sI6, ↓m_oR8, m_aI8, m_sI8, ↓m_oR9, m_aI9, m_sI9, ↓m_oR10, m_aI10, m_sI10, e]
  · rw [b2_t e]
    simp (disch := omega) only [↓reduceIte, Int.reduceEq, Int.reduceNe, Int.reduceLT, Int.reduceLE, Int.reduceNeg, Int.reduceMod, Int.reduceDiv, Int.reduceAdd, Int.reduceSub, Int.reduceMul, not_true_eq_false, not_false_eq_true, Int.lt_irrefl, true_or, or_true, false_or, or_false, true_and, and_true, false_and, and_false, b2_T, b2_F, if_true, if_false, ↓mjn_b, ↓mjn0_b, ↓mjn2_b, iv_lit, iv_add, iv_sub, iv_mul, iv_neg, iv_le_t, iv_le_f, iv_lt_t, iv_lt_f, iv_eq_t, iv_eq_f, iv_div, iv_mod, mretT_p, mretT_b, e_mret, ↓e_bret, ↓m_mon, ↓m_oI0, m_pI0, ↓m_oI3, m_pI3, ↓m_oI5, m_pI5, ↓m_oI7, m_pI7, ↓m_oI11, m_pI11, ↓m_oI12, m_pI12, ↓m_oI13, m_pI13, ↓m_oI14, m_pI14, ↓m_oI15, m_pI15, ↓m_oI16, m_pI16, ↓m_oI17, m_pI17, m_pZ5, m_pZ12, ↓m_oR1, m_aI1, m_sI1, ↓m_oR2, m_aI2, m_sI2, ↓m_oR4, m_aI4, m_sI4, ↓m_oR6, m_aI6, m_sI6, ↓m_oR8, m_aI8, m_sI8, ↓m_oR9, m_aI9, m_sI9, ↓m_oR10, m_aI10, m_sI10, e]
theorem X2_cellOf_c {β : Type} {K : Int32 → HM β} {g : Nat → Nat} {h : Nat → Option hC} {n w a : Nat} {D : Nat → Nat} {tb gb : Int → Nat} {z : Int → Int} {i : Int} (hg : gD g) (hz : wZ z) (hd : HD g h a D tb z) (hs : GS g h D gb z) (hi : 0 ≤ i ∧ i < z 60) (ht : sits z i) : mb (mon 1 (some a) (mcall0 (fX2_cellOf g (some a) (some (gb i))))) K (h, n, w) = K (iv (cgl z i)) (h, n, w) := by
  have ho := hd.1
  unfold SO at ho
  obtain ⟨nm, ha, -⟩ := hs.2 i hi.1 hi.2
  have hw := wZ_g hz hi
  have hsr : (0 ≤ ga z i ∧ ga z i < z 15) ∧ 0 ≤ gc z i ∧ gc z i < chN (zk z (ga z i)) := by
    rcases hw.2.1 with q | q
    · exact absurd q.1 ht
    · exact q
  have hb := hd.2.2.2 _ hsr.1.1 hsr.1.2
  have hwt := wZ_t hz hsr.1
  have hu := hwt.2.2.1
  obtain ⟨s, hts, hss⟩ := id hb
  rw [c_mon ho]
  refine e_call0 (u' := 0) ?_
  have ev : 16 * (zp z (ga z i) / 16 + chD (zk z (ga z i)) (zt z (ga z i)) (gc z i)) + zp z (ga z i) % 16 + chR (zk z (ga z i)) (zt z (ga z i)) (gc z i) = cgl z i := by unfold cgl chT; omega
  unfold fX2_cellOf
  rw [s_o4 ho, g_o3 ha, J2_get_c hd.2.2.1 hsr.1, c_mcst hts (List.mem_cons_self ..), g_o4 ha, X3_chair_c hg hb hu hsr.2, ev]
  rfl
/-- who sits where -/
noncomputable def sitS (z : Int → Int) (W : Int → Int) (g : Int) : Int → Int := @ite (Int → Int) (sits z g) (Classical.propDecidable _) (iu W (cgl z g) g) W
noncomputable def sitC (z : Int → Int) : Int → Int := foldI (sitS z) (fun _ => -1) 0 (z 60).toNat
def sl (h : Nat → Option hC) (D : Nat → Nat) (W : Int → Int) : Nat → Option hC := hset h (D 6) (ari 0 192 W)
theorem sl_at {h : Nat → Option hC} {D : Nat → Nat} {W : Int → Int} : sl h D W (D 6) = some (ari 0 192 W) := hset_at
theorem sl_sl {h : Nat → Option hC} {D : Nat → Nat} {W V : Int → Int} : hset (sl h D W) (D 6) (ari 0 192 V) = sl h D V := hset_hset
theorem KPa_sl {g : Nat → Nat} {h : Nat → Option hC} {D : Nat → Nat} {W : Int → Int} (hp : PA h (D 6)) : KPa g h (sl h D W) := by
  obtain ⟨G, hG⟩ := hp
  exact KPa_set hG
theorem X2_tellSitting_L2_ev {g : Nat → Nat} {h : Nat → Option hC} {n w a : Nat} {D : Nat → Nat} {z : Int → Int} {K : HM Unit} (hd : SO h a D z) (hp : PA h (D 6)) : ∀ (k nn : Nat) (W : Int → Int) (i : Int), k < nn → 0 ≤ i → i + k = 192 → (∀ c, 0 ≤ c → c < i → W c = -1) →
    ∃ W', fX2_tellSitting_L2 g nn (some a) (iv i) K (sl h D W, n, w) = K (sl h D W', n, w) ∧ ∀ c, cin c → W' c = -1 := by
  intro k
  induction k with
  | zero =>
    intro nn W i hn hi he hW
    obtain ⟨q, rfl⟩ : ∃ q, nn = q + 1 := ⟨nn - 1, by omega⟩
    refine ⟨W, ?_, fun c hc => hW c hc.1 (by unfold cin at hc; omega)⟩
    simp (disch := omega) only [↓reduceIte, Int.reduceEq, Int.reduceNe, Int.reduceLT, Int.reduceLE, Int.reduceNeg, Int.reduceMod, Int.reduceDiv, Int.reduceAdd, Int.reduceSub, Int.reduceMul, not_true_eq_false, not_false_eq_true, Int.lt_irrefl, true_or, or_true, false_or, or_false, true_and, and_true, false_and, and_false, b2_T, b2_F, if_true, if_false, ↓mjn_b, ↓mjn0_b, ↓mjn2_b, iv_lit, iv_add, iv_sub, iv_mul, iv_neg, iv_le_t, iv_le_f, iv_lt_t, iv_lt_f, iv_eq_t, iv_eq_f, iv_div, iv_mod, mretT_p, mretT_b, e_mret, ↓e_bret, ↓m_mon, ↓m_oI0, m_pI0, ↓m_oI3, m_pI3, ↓m_oI5, m_pI5, ↓m_oI7, m_pI7, ↓m_oI11, m_pI11, ↓m_oI12, m_pI12, ↓m_oI13, m_pI13, ↓m_oI14, m_pI14, ↓m_oI15, m_pI15, ↓m_oI16, m_pI16, ↓m_oI17, m_pI17, m_pZ5, m_pZ12, ↓m_oR1, m_aI1, m_sI1, ↓m_oR2, m_aI2, m_sI2, ↓m_oR4, m_aI4, m_sI4, ↓m_oR6, m_aI6, m_sI6, ↓m_oR8, m_aI8, m_sI8, ↓m_oR9, m_aI9, m_sI9, ↓m_oR10, m_aI10, m_sI10, fX2_tellSitting_L2]
  | succ k ih =>
    intro nn W i hn hi he hW
    obtain ⟨q, rfl⟩ : ∃ q, nn = q + 1 := ⟨nn - 1, by omega⟩
    have hi2 : 0 ≤ i ∧ i < ((192 : Nat) : Int) := by omega
    obtain ⟨W', e1, e2⟩ := ih q (iu W i (-1)) (i + 1) (by omega) (by omega) (by omega) (fun c u v => by
      by_cases e : c = i
      · rw [iu_at e]
      · rw [iu_ne e]; exact hW c u (by omega))
    have ho := (KPa_sl (g := g) (W := W) hp).1 _ _ hd nIa_o
    have s9 := fun (K : Unit → HM Unit) => c_sI (K := K) (n := n) (w := w) (i := i) (x := -1) (sl_at (h := h) (D := D) (W := W)) (by decide) hi2
    rw [sl_sl] at s9
    refine ⟨W', ?_, e2⟩
    rw [← e1]
    simp (disch := omega) only [↓reduceIte, Int.reduceEq, Int.reduceNe, Int.reduceLT, Int.reduceLE, Int.reduceNeg, Int.reduceMod, Int.reduceDiv, Int.reduceAdd, Int.reduceSub, Int.reduceMul, not_true_eq_false, not_false_eq_true, Int.lt_irrefl, true_or, or_true, false_or, or_false, true_and, and_true, false_and, and_false, b2_T, b2_F, if_true, if_false, ↓mjn_b, ↓mjn0_b, ↓mjn2_b, iv_lit, iv_add, iv_sub, iv_mul, iv_neg, iv_le_t, iv_le_f, iv_lt_t, iv_lt_f, iv_eq_t, iv_eq_f, iv_div, iv_mod, mretT_p, mretT_b, e_mret, ↓e_bret, ↓m_mon, ↓m_oI0, m_pI0, ↓m_oI3, m_pI3, ↓m_oI5, m_pI5, ↓m_oI7, m_pI7, ↓m_oI11, m_pI11, ↓m_oI12, m_pI12, ↓m_oI13, m_pI13, ↓m_oI14, m_pI14, ↓m_oI15, m_pI15, ↓m_oI16, m_pI16, ↓m_oI17, m_pI17, m_pZ5, m_pZ12, ↓m_oR1, m_aI1, m_sI1, ↓m_oR2, m_aI2, m_sI2, ↓m_oR4, m_aI4, m_sI4, ↓m_oR6, m_aI6, m_sI6, ↓m_oR8, m_aI8, m_sI8, ↓m_oR9, m_aI9, m_sI9, ↓m_oR10, m_aI10, m_sI10, fX2_tellSitting_L2, ↓s_o9 ho, ↓s9]
theorem X2_tellSitting_L34_ev {g : Nat → Nat} {h : Nat → Option hC} {n w a : Nat} {D : Nat → Nat} {tb gb : Int → Nat} {z : Int → Int} (hg : gD g) (hz : wZ z) (hd : HD g h a D tb z) (hs : GS g h D gb z) (hp : PA h (D 6)) : ∀ (k nn : Nat) (W : Int → Int) (i : Int), k < nn → 0 ≤ i → i + k = z 60 →
    fX2_tellSitting_L34 g nn (some a) (iv (z 60)) (iv i) (sl h D W, n, w) = some ((), (sl h D (foldI (sitS z) W i k), n, w)) := by
  have h60 := wZ_60 hz
  intro k
  induction k with
  | zero =>
    intro nn W i hn hi he
    obtain ⟨q, rfl⟩ : ∃ q, nn = q + 1 := ⟨nn - 1, by omega⟩
    show _ = some ((), (sl h D W, n, w))
    simp (disch := omega) only [↓reduceIte, Int.reduceEq, Int.reduceNe, Int.reduceLT, Int.reduceLE, Int.reduceNeg, Int.reduceMod, Int.reduceDiv, Int.reduceAdd, Int.reduceSub, Int.reduceMul, not_true_eq_false, not_false_eq_true, Int.lt_irrefl, true_or, or_true, false_or, or_false, true_and, and_true, false_and, and_false, b2_T, b2_F, if_true, if_false, ↓mjn_b, ↓mjn0_b, ↓mjn2_b, iv_lit, iv_add, iv_sub, iv_mul, iv_neg, iv_le_t, iv_le_f, iv_lt_t, iv_lt_f, iv_eq_t, iv_eq_f, iv_div, iv_mod, mretT_p, mretT_b, e_mret, ↓e_bret, ↓m_mon, ↓m_oI0, m_pI0, ↓m_oI3, m_pI3, ↓m_oI5, m_pI5, ↓m_oI7, m_pI7, ↓m_oI11, m_pI11, ↓m_oI12, m_pI12, ↓m_oI13, m_pI13, ↓m_oI14, m_pI14, ↓m_oI15, m_pI15, ↓m_oI16, m_pI16, ↓m_oI17, m_pI17, m_pZ5, m_pZ12, ↓m_oR1, m_aI1, m_sI1, ↓m_oR2, m_aI2, m_sI2, ↓m_oR4, m_aI4, m_sI4, ↓m_oR6, m_aI6, m_sI6, ↓m_oR8, m_aI8, m_sI8, ↓m_oR9, m_aI9, m_sI9, ↓m_oR10, m_aI10, m_sI10, fX2_tellSitting_L34]
  | succ k ih =>
    intro nn W i hn hi he
    obtain ⟨q, rfl⟩ : ∃ q, nn = q + 1 := ⟨nn - 1, by omega⟩
    have hii : 0 ≤ i ∧ i < z 60 := ⟨hi, by omega⟩
    have hd2 := HD_kp (KPa_sl (W := W) hp) hd
    have hs2 := GS_kp (KPa_sl (W := W) hp) hs
    have ho := hd2.1
    unfold SO at ho
    have hgu := hs2.2 i hi hii.2
    obtain ⟨nm, hga, hst⟩ := id hgu
    have eg := fun (K : Option Nat → HM Unit) => J2_get_c (K := K) (n := n) (w := w) (i := i) hs2.1 hii
    have ec := fun (K : Unit → HM Unit) => c_mcst (K := K) (n := n) (w := w) (cs := [3]) hga (List.mem_cons_self ..)
    have es := fun (K : Int32 → HM Unit) => X8_sits_c (K := K) (g := g) (n := n) (w := w) hz hii hgu
    show _ = some ((), (sl h D (foldI (sitS z) (sitS z W i) (i + 1) k), n, w))
    rw [← ih q _ (i + 1) (by omega) (by omega) (by omega)]
    unfold sitS
    by_cases e : sits z i
    · rw [if_pos e]
      rw [b2_t e] at es
      have hcc := cgl_cin hz hii e
      have hcc2 := hcc
      unfold cin at hcc2
      have eo := fun (K : Int32 → HM Unit) => X2_cellOf_c (K := K) (n := n) (w := w) hg hz hd2 hs2 hii e
      have s9 := fun (K : Unit → HM Unit) => c_sI (K := K) (n := n) (w := w) (i := cgl z i) (x := i) (sl_at (h := h) (D := D) (W := W)) (by decide) hcc2
      rw [sl_sl] at s9
      simp (disch := omega) only [↓reduceIte, Int.reduceEq, Int.reduceNe, Int.reduceLT, Int.reduceLE, Int.reduceNeg, Int.reduceMod, Int.reduceDiv, Int.reduceAdd, Int.reduceSub, Int.reduceMul, not_true_eq_false, not_false_eq_true, Int.lt_irrefl, true_or, or_true, false_or, or_false, true_and, and_true, false_and, and_false, b2_T, b2_F, if_true, if_false, ↓mjn_b, ↓mjn0_b, ↓mjn2_b, iv_lit, iv_add, iv_sub, iv_mul, iv_neg, iv_le_t, iv_le_f, iv_lt_t, iv_lt_f, iv_eq_t, iv_eq_f, iv_div, iv_mod, mretT_p, mretT_b, e_mret, ↓e_bret, ↓m_mon, ↓m_oI0, m_pI0, ↓m_oI3, m_pI3, ↓m_oI5, m_pI5, ↓m_oI7, m_pI7, ↓m_oI11, m_pI11, ↓m_oI12, m_pI12, ↓m_oI13, m_pI13, ↓m_oI14, m_pI14, ↓m_oI15, m_pI15, ↓m_oI16, m_pI16, ↓m_oI17, m_pI17, m_pZ5, m_pZ12, ↓m_oR1, m_aI1, m_sI1, ↓m_oR2, m_aI2, m_sI2, ↓m_oR4, m_aI4, m_sI4, ↓m_oR6, m_aI6, m_sI6, ↓m_oR8, m_aI8, m_sI8, ↓m_oR9, m_aI9, m_sI9, ↓m_oR10, m_aI10, m_sI10, fX2_tellSitting_L34, ↓s_o5 ho, ↓s_o9 ho, ↓eg, ↓ec, ↓es, ↓eo, ↓s9]
    · rw [if_neg e]
      rw [b2_f e] at es
      simp (disch := omega) only [↓reduceIte, Int.reduceEq, Int.reduceNe, Int.reduceLT, Int.reduceLE, Int.reduceNeg, Int.reduceMod, Int.reduceDiv, Int.reduceAdd, Int.reduceSub, Int.reduceMul, not_true_eq_false, not_false_eq_true, Int.lt_irrefl, true_or, or_true, false_or, or_false, true_and, and_true, false_and, and_false, b2_T, b2_F, if_true, if_false, ↓mjn_b, ↓mjn0_b, ↓mjn2_b, iv_lit, iv_add, iv_sub, iv_mul, iv_neg, iv_le_t, iv_le_f, iv_lt_t, iv_lt_f, iv_eq_t, iv_eq_f, iv_div, iv_mod, mretT_p, mretT_b, e_mret, ↓e_bret, ↓m_mon, ↓m_oI0, m_pI0, ↓m_oI3, m_pI3, ↓m_oI5, m_pI5, ↓m_oI7, m_pI7, ↓m_oI11, m_pI11, ↓m_oI12, m_pI12, ↓m_oI13, m_pI13, ↓m_oI14, m_pI14, ↓m_oI15, m_pI15, ↓m_oI16, m_pI16, ↓m_oI17, m_pI17, m_pZ5, m_pZ12, ↓m_oR1, m_aI1, m_sI1, ↓m_oR2, m_aI2, m_sI2, ↓m_oR4, m_aI4, m_sI4, ↓m_oR6, m_aI6, m_sI6, ↓m_oR8, m_aI8, m_sI8, ↓m_oR9, m_aI9, m_sI9, ↓m_oR10, m_aI10, m_sI10, fX2_tellSitting_L34, ↓s_o5 ho, ↓s_o9 ho, ↓eg, ↓ec, ↓es]
theorem X2_tellSitting_ev {g : Nat → Nat} {h : Nat → Option hC} {n w a : Nat} {D : Nat → Nat} {tb gb : Int → Nat} {z : Int → Int} (hg : gD g) (hz : wZ z) (hd : HD g h a D tb z) (hs : GS g h D gb z) (hp : PA h (D 6)) : ∃ W, fX2_tellSitting g (some a) (h, n, w) = some ((), (sl h D W, n, w)) ∧ ∀ c, cin c → W c = sitC z c := by
  have h60 := wZ_60 hz
  obtain ⟨W0, hW0⟩ := id hp
  have h0 : sl h D W0 = h := by unfold sl; rw [hset_id hW0]
  obtain ⟨W1, e1, e2⟩ := X2_tellSitting_L2_ev (g := g) (n := n) (w := w) (K := mb (oR 1 5 (some a)) fun x9 => mb (mon 13 x9 (mcall0 (fJ2_size g x9))) fun x10 => fX2_tellSitting_L34 g 5000 (some a) x10 (iv 0)) hd.1 hp 192 5000 W0 0 (by omega) (by omega) (by omega) (fun c u v => by omega)
  rw [h0] at e1
  have hd2 := HD_kp (KPa_sl (W := W1) hp) hd
  have hs2 := GS_kp (KPa_sl (W := W1) hp) hs
  have ho := hd2.1
  unfold SO at ho
  have e3 := X2_tellSitting_L34_ev (n := n) (w := w) hg hz hd hs hp (z 60).toNat 5000 W1 0 (by omega) (by omega) (by omega)
  refine ⟨foldI (sitS z) W1 0 (z 60).toNat, ?_, ?_⟩
  · unfold fX2_tellSitting
    simp only [iv_lit]
    rw [e1, s_o5 ho, J2_size_c hs2.1, e3]
  · unfold sitC
    have hgen : ∀ (k : Nat) (i : Int) (A B : Int → Int), (∀ c, cin c → A c = B c) → ∀ c, cin c → foldI (sitS z) A i k c = foldI (sitS z) B i k c := by
      intro k
      induction k with
      | zero => intro i A B hAB c hc; exact hAB c hc
      | succ k ih =>
        intro i A B hAB c hc
        refine ih (i + 1) (sitS z A i) (sitS z B i) (fun c hc => ?_) c hc
        unfold sitS
        by_cases e : sits z i
        · rw [if_pos e, if_pos e]
          unfold iu
          split
          · rfl
          · exact hAB c hc
        · rw [if_neg e, if_neg e]; exact hAB c hc
    exact hgen _ _ _ _ (fun c hc => e2 c hc)
