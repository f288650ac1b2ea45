/-! ===== two trees joined by a node ===== -/
noncomputable def tj (Sl Sr : Nat → Prop) (f h : Nat → Int) (m : Int) : Nat → Int := fun q => @ite Int (Sl q) (Classical.propDecidable _) (f q) (@ite Int (Sr q) (Classical.propDecidable _) (h q) m)
theorem tj_l {Sl Sr : Nat → Prop} {f h : Nat → Int} {m : Int} {q : Nat} (hq : Sl q) : tj Sl Sr f h m q = f q := by unfold tj; exact if_pos hq
theorem tj_r {Sl Sr : Nat → Prop} {f h : Nat → Int} {m : Int} {q : Nat} (hl : ¬ Sl q) (hq : Sr q) : tj Sl Sr f h m q = h q := by unfold tj; rw [if_neg hl, if_pos hq]
theorem tj_x {Sl Sr : Nat → Prop} {f h : Nat → Int} {m : Int} {q : Nat} (hl : ¬ Sl q) (hq : ¬ Sr q) : tj Sl Sr f h m q = m := by unfold tj; rw [if_neg hl, if_neg hq]
theorem TI_le {S : Nat → Prop} {M : Nat → Nat → Option Nat} {rt : Option Nat} {i j : Int} {pos lo hi : Nat → Int} (h : TI S M rt i j pos lo hi) : i ≤ j := by
  rcases h.2.2.2.2 with ⟨-, q⟩ | ⟨r, -, s, -, a, b⟩
  · omega
  · have := h.1 r s; omega
theorem TI_join {Sl Sr : Nat → Prop} {Ml Mr M' : Nat → Nat → Option Nat} {rl rr : Option Nat} {i m j : Int} {pl ll hl pr lr hr : Nat → Int} {x : Nat} (a : TI Sl Ml rl i m pl ll hl) (b : TI Sr Mr rr (m + 1) j pr lr hr) (nl : ¬ Sl x) (nr : ¬ Sr x) (dj : ∀ q, Sr q → ¬ Sl q)
    (ml2 : ∀ q, Sl q → M' 2 q = Ml 2 q) (ml3 : ∀ q, Sl q → M' 3 q = Ml 3 q) (ml4 : ∀ q, Sl q → M' 4 q = if rl = some q then some x else Ml 4 q)
    (mr2 : ∀ q, Sr q → M' 2 q = Mr 2 q) (mr3 : ∀ q, Sr q → M' 3 q = Mr 3 q) (mr4 : ∀ q, Sr q → M' 4 q = if rr = some q then some x else Mr 4 q) (x2 : M' 2 x = rl) (x3 : M' 3 x = rr) (x4 : M' 4 x = none) :
    TI (fun q => (Sl q ∨ q = x) ∨ Sr q) M' (some x) i j (tj Sl Sr pl pr m) (tj Sl Sr ll lr i) (tj Sl Sr hl hr j) := by
  have hi := TI_le a
  have hj := TI_le b
  have el : ∀ q, Sl q → tj Sl Sr pl pr m q = pl q ∧ tj Sl Sr ll lr i q = ll q ∧ tj Sl Sr hl hr j q = hl q := fun q hq => ⟨tj_l hq, tj_l hq, tj_l hq⟩
  have er : ∀ q, Sr q → tj Sl Sr pl pr m q = pr q ∧ tj Sl Sr ll lr i q = lr q ∧ tj Sl Sr hl hr j q = hr q := fun q hq => ⟨tj_r (dj q hq) hq, tj_r (dj q hq) hq, tj_r (dj q hq) hq⟩
  have ex : tj Sl Sr pl pr m x = m ∧ tj Sl Sr ll lr i x = i ∧ tj Sl Sr hl hr j x = j := ⟨tj_x nl nr, tj_x nl nr, tj_x nl nr⟩
  refine ⟨fun q hq => ?_, fun q hq => ?_, fun q hq => ?_, fun q hq => ?_, ?_⟩
  · rcases hq with (hq | hq) | hq
    · obtain ⟨e1, e2, e3⟩ := el q hq
      have := a.1 q hq
      rw [e1, e2, e3]; omega
    · rw [hq, ex.1, ex.2.1, ex.2.2]; omega
    · obtain ⟨e1, e2, e3⟩ := er q hq
      have := b.1 q hq
      rw [e1, e2, e3]; omega
  · rcases hq with (hq | hq) | hq
    · obtain ⟨e1, e2, e3⟩ := el q hq
      rw [e1, e2, ml2 q hq]
      rcases a.2.1 q hq with k | ⟨d, k1, k2, k3, k4, k5⟩
      · exact Or.inl k
      · obtain ⟨d1, d2, d3⟩ := el d k2
        refine Or.inr ⟨d, k1, Or.inl (Or.inl k2), ?_, by rw [d2]; exact k4, by rw [d3]; exact k5⟩
        rw [ml4 d k2, if_neg (fun w => by rw [(TI_rt a w).2.1] at k3; cases k3)]
        exact k3
    · rw [hq, x2, ex.1, ex.2.1]
      rcases a.2.2.2.2 with ⟨k1, k2⟩ | ⟨c, k1, k2, k3, k4, k5⟩
      · exact Or.inl ⟨k1, k2⟩
      · obtain ⟨d1, d2, d3⟩ := el c k2
        refine Or.inr ⟨c, k1, Or.inl (Or.inl k2), by rw [ml4 c k2, if_pos k1], by rw [d2]; exact k4, by rw [d3]; exact k5⟩
    · obtain ⟨e1, e2, e3⟩ := er q hq
      rw [e1, e2, mr2 q hq]
      rcases b.2.1 q hq with k | ⟨d, k1, k2, k3, k4, k5⟩
      · exact Or.inl k
      · obtain ⟨d1, d2, d3⟩ := er d k2
        refine Or.inr ⟨d, k1, Or.inr k2, ?_, by rw [d2]; exact k4, by rw [d3]; exact k5⟩
        rw [mr4 d k2, if_neg (fun w => by rw [(TI_rt b w).2.1] at k3; cases k3)]
        exact k3
  · rcases hq with (hq | hq) | hq
    · obtain ⟨e1, e2, e3⟩ := el q hq
      rw [e1, e3, ml3 q hq]
      rcases a.2.2.1 q hq with k | ⟨d, k1, k2, k3, k4, k5⟩
      · exact Or.inl k
      · obtain ⟨d1, d2, d3⟩ := el d k2
        refine Or.inr ⟨d, k1, Or.inl (Or.inl k2), ?_, by rw [d2]; exact k4, by rw [d3]; exact k5⟩
        rw [ml4 d k2, if_neg (fun w => by rw [(TI_rt a w).2.1] at k3; cases k3)]
        exact k3
    · rw [hq, x3, ex.1, ex.2.2]
      rcases b.2.2.2.2 with ⟨k1, k2⟩ | ⟨c, k1, k2, k3, k4, k5⟩
      · exact Or.inl ⟨k1, by omega⟩
      · obtain ⟨d1, d2, d3⟩ := er c k2
        refine Or.inr ⟨c, k1, Or.inr k2, by rw [mr4 c k2, if_pos k1], by rw [d2]; exact k4, by rw [d3]; exact k5⟩
    · obtain ⟨e1, e2, e3⟩ := er q hq
      rw [e1, e3, mr3 q hq]
      rcases b.2.2.1 q hq with k | ⟨d, k1, k2, k3, k4, k5⟩
      · exact Or.inl k
      · obtain ⟨d1, d2, d3⟩ := er d k2
        refine Or.inr ⟨d, k1, Or.inr k2, ?_, by rw [d2]; exact k4, by rw [d3]; exact k5⟩
        rw [mr4 d k2, if_neg (fun w => by rw [(TI_rt b w).2.1] at k3; cases k3)]
        exact k3
  · rcases hq with (hq | hq) | hq
    · rw [ml4 q hq]
      by_cases w : rl = some q
      · rw [if_pos w]
        exact Or.inr ⟨x, rfl, Or.inl (Or.inr rfl), Or.inl (by rw [x2]; exact w)⟩
      · rw [if_neg w]
        rcases a.2.2.2.1 q hq with ⟨-, k⟩ | ⟨d, k1, k2, k3⟩
        · exact absurd k w
        · exact Or.inr ⟨d, k1, Or.inl (Or.inl k2), by rw [ml2 d k2, ml3 d k2]; exact k3⟩
    · rw [hq]
      exact Or.inl ⟨x4, rfl⟩
    · rw [mr4 q hq]
      by_cases w : rr = some q
      · rw [if_pos w]
        exact Or.inr ⟨x, rfl, Or.inl (Or.inr rfl), Or.inr (by rw [x3]; exact w)⟩
      · rw [if_neg w]
        rcases b.2.2.2.1 q hq with ⟨-, k⟩ | ⟨d, k1, k2, k3⟩
        · exact absurd k w
        · exact Or.inr ⟨d, k1, Or.inr k2, by rw [mr2 d k2, mr3 d k2]; exact k3⟩
  · exact Or.inr ⟨x, rfl, Or.inl (Or.inr rfl), x4, ex.2.1, ex.2.2⟩
/-! ===== TreeMap.buildFromSorted ===== -/
theorem half_k : ∀ x : Fin 128, iushr (Int32.ofNat x.val) 1 = Int32.ofNat (x.val / 2) := by decide +kernel
theorem half_v {x : Int} (h : 0 ≤ x ∧ x < 128) : iushr (iv x) (iv 1) = iv (x / 2) := by
  have k := half_k ⟨x.toNat, by omega⟩
  have e : ∀ y : Int, 0 ≤ y → Int32.ofNat y.toNat = iv y := fun y hy => by rw [← iv_nat hy]
  have e1 : Int32.ofNat (x.toNat / 2) = iv (x / 2) := by
    rw [← e (x / 2) (by omega), show (x / 2).toNat = x.toNat / 2 by omega]
  rw [← e x h.1, ← e1]
  exact k
theorem c_nE {β : Type} {K : Option Nat → HM β} {h : Nat → Option hC} {n w L : Nat} (hL : w + 7 ≤ L) : mb (nO L 19 [.null, .null, .null, .null, .null, .int 0]) K (h, n, w) = K (some n) (hset h n (.inr (19, [.null, .null, .null, .null, .null, .int 0])), n + 1, w + 7) := c_nO hL
/-- what a run of places of the old tree becomes: new entries S2 of a tree of their own -/
def bfO (g : Nat → Nat) (H : Nat → Option hC) (n : Nat) (A : Nat → Prop) (r : Nat) (nn : Int) (kk : Int → Nat) (it : Nat) (lo hi : Int) (z : Option (Option Nat × Hp)) : Prop :=
  ∃ (H' : Nat → Option hC) (n' w' : Nat) (rt : Option Nat) (S : Nat → Prop) (M : Nat → Nat → Option Nat) (C : Nat → Int32) (pos l h : Nat → Int), z = some (rt, (H', n', w')) ∧ n ≤ n' ∧ (∀ a, S a → n ≤ a ∧ a < n') ∧ (∀ a, S a → H' a = some (eCell M C a)) ∧ TI S M rt lo (hi + 1) pos l h ∧ okC C ∧
    (∀ a, S a → M 0 a = some (kk (pos a)) ∧ M 1 a = some (g 10)) ∧ (∀ i, lo ≤ i → i ≤ hi → ∃ a, S a ∧ pos a = i) ∧ inj S pos ∧ TI2 H' A r none nn kk (fun v => v = some (g 10)) it (hi + 1) ∧ (∀ q, q < n → q ≠ it → H' q = H q) ∧ ∀ q, n' ≤ q → H' q = none
def bfP (g : Nat → Nat) (sz : Int) (F : Option Nat → Int32 → Int32 → Int32 → Int32 → Option Nat → Option Nat → Option Nat → HM (Option Nat)) : Prop :=
  ∀ (H : Nat → Option hC) (n : Nat) (A : Nat → Prop) (r : Nat) (nn : Int) (kk : Int → Nat) (it : Nat) (lo hi : Int) (r2 : Nat) (cmp2 rt2 ks2 : Option Nat) (sz2 mc2 lev red : Int32), TI2 H A r none nn kk (fun v => v = some (g 10)) it lo → H r2 = some (mCell cmp2 rt2 ks2 sz2 mc2) → (0 ≤ lo ∧ lo ≤ hi + 1 ∧ hi < nn ∧ nn ≤ 63) → hi + 1 - lo ≤ sz → (∀ q, n ≤ q → H q = none) → (∀ q, A q → q < n) →
    bfO g H n A r nn kk it lo hi (F (some r2) lev (iv lo) (iv hi) red (some it) none (some (g 10)) (H, n, 0))
theorem bfO_0 {g : Nat → Nat} {H : Nat → Option hC} {n : Nat} {A : Nat → Prop} {r : Nat} {nn : Int} {kk : Int → Nat} {it : Nat} {lo hi : Int} (h : TI2 H A r none nn kk (fun v => v = some (g 10)) it lo) (hn : ∀ q, n ≤ q → H q = none) (he : lo = hi + 1) : bfO g H n A r nn kk it lo hi (some (none, (H, n, 0))) :=
  ⟨H, n, 0, none, fun _ => False, fun _ _ => none, fun _ => 0, fun _ => 0, fun _ => 0, fun _ => 0, rfl, Nat.le_refl n, fun _ a => a.elim, fun _ a => a.elim, ⟨fun _ a => a.elim, fun _ a => a.elim, fun _ a => a.elim, fun _ a => a.elim, Or.inl ⟨rfl, he⟩⟩, fun _ => Or.inl rfl, fun _ a => a.elim, fun i a b => by omega, fun _ _ a => a.elim, by rw [← he]; exact h, fun _ _ _ => rfl, hn⟩
theorem bf_0 {g : Nat → Nat} : bfP g 1 (fJ6_buildFromSorted_2_0 g) := by
  intro H n A r nn kk it lo hi r2 cmp2 rt2 ks2 sz2 mc2 lev red hT hr2 hb hsz hn hA
  unfold fJ6_buildFromSorted_2_0
  by_cases he0 : ¬ lo ≤ hi
  · have he := he0
    rw [if_neg (by rw [iv_le (by omega) (by omega)]; exact he)]
    exact bfO_0 hT hn (by omega)
  have he : lo ≤ hi := Classical.not_not.mp he0
  rw [if_pos (by rw [iv_le (by omega) (by omega)]; exact he)]
  have emid : iushr (iv lo + iv hi) 1 = iv ((lo + hi) / 2) := by
    rw [iv_add]
    exact half_v (by omega)
  have hm : lo ≤ (lo + hi) / 2 ∧ (lo + hi) / 2 ≤ hi ∧ ((lo + hi) / 2 - lo ≤ 0) ∧ hi - (lo + hi) / 2 ≤ 0 := by omega
  rw [emid]
  generalize (lo + hi) / 2 = m at hm
  have hlt : ∀ q, H q ≠ none → q < n := fun q hq => Classical.byContradiction (fun w => hq (hn q (by omega)))
  have r2n : r2 < n := hlt r2 (by rw [hr2]; exact fun w => by cases w)
  -- the left part
  have left : ∃ (H1 : Nat → Option hC) (n1 w1 : Nat) (rl : Option Nat) (Sl : Nat → Prop) (Ml : Nat → Nat → Option Nat) (Cl : Nat → Int32) (pl ll hl : Nat → Int), (∀ K : Option Nat → HM (Option Nat), mjn K (fun J => if iv m ≤ iv lo then J none else mfail) (H, n, 0) = K rl (H1, n1, w1)) ∧ w1 ≤ 0 ∧ n ≤ n1 ∧ (∀ a, Sl a → n ≤ a ∧ a < n1) ∧ (∀ a, Sl a → H1 a = some (eCell Ml Cl a)) ∧ TI Sl Ml rl lo m pl ll hl ∧ okC Cl ∧
      (∀ a, Sl a → Ml 0 a = some (kk (pl a)) ∧ Ml 1 a = some (g 10)) ∧ (∀ i, lo ≤ i → i < m → ∃ a, Sl a ∧ pl a = i) ∧ inj Sl pl ∧ TI2 H1 A r none nn kk (fun v => v = some (g 10)) it m ∧ (∀ q, q < n → q ≠ it → H1 q = H q) ∧ ∀ q, n1 ≤ q → H1 q = none := by
    by_cases q : m ≤ lo
    · have eml : m = lo := by omega
      refine ⟨H, n, 0, none, fun _ => False, fun _ _ => none, fun _ => 0, fun _ => 0, fun _ => 0, fun _ => 0, fun J => by rw [mjn_b, if_pos (by rw [iv_le (by omega) (by omega)]; exact q)], Nat.zero_le _, Nat.le_refl n, fun _ a => a.elim, fun _ a => a.elim, ⟨fun _ a => a.elim, fun _ a => a.elim, fun _ a => a.elim, fun _ a => a.elim, Or.inl ⟨rfl, eml.symm⟩⟩, fun _ => Or.inl rfl, fun _ a => a.elim, fun i a b => by omega, fun _ _ a => a.elim, by rw [eml]; exact hT, fun _ _ _ => rfl, hn⟩
    · exact absurd (show m ≤ lo by omega) q
  obtain ⟨H1, n1, w1, rl, Sl, Ml, Cl, pl, ll, hl, L0, L1, L2, L3, L4, L5, L6, L7, L8, L9, L10, L11, L12⟩ := left
  have itn : it < n := by
    obtain ⟨-, _, _, _, _, _, _, _, _, _, _, _, -, -, -, -, -, -, z⟩ := hT
    exact hlt it (by rw [z]; exact fun w => by cases w)
  refine (show bfO g H n A r nn kk it lo hi _ from ?_)
  rw [L0]
  -- the middle key
  obtain ⟨xc, k1, k2⟩ := J21_next_c (β := Option Nat) (K := fun (x6 : Option Nat) => mb (nO 7 19 [.null, .null, .null, .null, .null, .int 0]) fun x4 => mb (mnn x4) fun _ => mb (mcall0 (fJ25_init g x4 x6 (some (g 10)) none)) fun _ => mjn0 (mjn0 (if iv hi ≤ iv m then (mret x4) else mfail) fun j173 => if rl = none then (j173) else (mb (pR 19 2 x4 rl) fun _ => mb (pR 19 4 rl x4) fun _ => j173)) fun j154 => if lev = red then (mb (pZ 19 5 x4 0) fun _ => j154) else (j154)) (g := g) (n := n1) (w := w1) L10 (by omega)
  rw [mjn2_b, if_neg (fun w => by cases w), if_neg (fun w => by cases w), k1]
  have nSit : ¬ Sl it := fun w => by have := L3 it w; omega
  have nSr2 : ¬ Sl r2 := fun w => by have := L3 r2 w; omega
  have nSn : ¬ Sl n1 := fun w => by have := L3 n1 w; omega
  have r2it : r2 ≠ it := fun w => by
    obtain ⟨-, _, _, _, _, _, _, _, _, _, _, _, -, -, -, -, -, -, z⟩ := hT
    rw [← w, hr2] at z; cases z
  have n1r2 : n1 ≠ r2 := by omega
  have h1r2 : hset H1 it xc r2 = some (mCell cmp2 rt2 ks2 sz2 mc2) := by rw [hset_ne r2it, L11 r2 r2n r2it]; exact hr2
  have h1S : ∀ a, Sl a → hset H1 it xc a = some (eCell Ml Cl a) := fun a ha => by rw [hset_ne (fun w => nSit (by rw [← w]; exact ha))]; exact L4 a ha
  have h1n : ∀ q, n1 ≤ q → hset H1 it xc q = none := fun q hq => by rw [hset_ne (by omega)]; exact L12 q hq
  have h1o : ∀ q, q < n → q ≠ it → hset H1 it xc q = H q := fun q q1 q2 => by rw [hset_ne q2]; exact L11 q q1 q2
  generalize hset H1 it xc = H2 at k2 h1r2 h1S h1n h1o
  have es := ov_self h1r2 h1S
  have nrx : ¬ (Sl r2 ∨ r2 = n1) := fun w => w.elim nSr2 (fun z => n1r2 z.symm)
  have sn1 : (fun q => Sl q ∨ q = n1) n1 := Or.inr rfl
  rw [← es, c_nE (show w1 + 7 ≤ 7 by omega), ov_new n1r2 nSn, c_mnn, J25_init_c nrx sn1, mjn0_b, mjn0_b]
  -- its colour
  have col : ∃ C2 : Nat → Int32, okC C2 ∧ (∀ a, Sl a → C2 a = Cl a) ∧ ∀ (M : Nat → Nat → Option Nat) (J : HM (Option Nat)) (u : Nat), (if lev = red then (mb (pZ 19 5 (some n1) 0) fun _ => J) else J) (ov r2 (fun q => Sl q ∨ q = n1) cmp2 ks2 H2 M (cup (cup Cl n1 0) n1 1) rt2 sz2 mc2, n1 + 1, u) = J (ov r2 (fun q => Sl q ∨ q = n1) cmp2 ks2 H2 M C2 rt2 sz2 mc2, n1 + 1, u) := by
    have hne : ∀ a, Sl a → a ≠ n1 := fun a ha w => nSn (by rw [← w]; exact ha)
    have hk1 : okC (cup (cup Cl n1 0) n1 1) := okC_up (okC_up L6 (Or.inl rfl)) (Or.inr rfl)
    by_cases z : lev = red
    · refine ⟨cup (cup (cup Cl n1 0) n1 1) n1 0, okC_up hk1 (Or.inl rfl), fun a ha => ?_, fun M J u => by rw [if_pos z, v_p5 nrx sn1 (Or.inl rfl)]⟩
      unfold cup
      rw [if_neg (hne a ha), if_neg (hne a ha), if_neg (hne a ha)]
    · refine ⟨_, hk1, fun a ha => ?_, fun M J u => by rw [if_neg z]⟩
      unfold cup
      rw [if_neg (hne a ha), if_neg (hne a ha)]
  obtain ⟨C2, c1, c2, c3⟩ := col
  rw [c3]
  -- the left child
  have lnk : ∃ M3 : Nat → Nat → Option Nat, (∀ q, Sl q → (∀ f, f < 4 → M3 f q = Ml f q) ∧ M3 4 q = if rl = some q then some n1 else Ml 4 q) ∧ (M3 0 n1 = some (kk m) ∧ M3 1 n1 = some (g 10) ∧ M3 2 n1 = rl ∧ M3 3 n1 = none ∧ M3 4 n1 = none) ∧
      ∀ (J : HM (Option Nat)) (u : Nat), (if rl = none then J else (mb (pR 19 2 (some n1) rl) fun _ => mb (pR 19 4 rl (some n1)) fun _ => J)) (ov r2 (fun q => Sl q ∨ q = n1) cmp2 ks2 H2 (mup (mup (mup (fun f q => if q = n1 then none else Ml f q) 0 n1 (some (kk m))) 1 n1 (some (g 10))) 4 n1 none) C2 rt2 sz2 mc2, n1 + 1, u) = J (ov r2 (fun q => Sl q ∨ q = n1) cmp2 ks2 H2 M3 C2 rt2 sz2 mc2, n1 + 1, u) := by
    have hne : ∀ a, Sl a → a ≠ n1 := fun a ha w => nSn (by rw [← w]; exact ha)
    have m0 : ∀ f q, Sl q → (mup (mup (mup (fun f q => if q = n1 then none else Ml f q) 0 n1 (some (kk m))) 1 n1 (some (g 10))) 4 n1 none) f q = Ml f q := fun f q hq => by
      rw [mup_o (hne q hq), mup_o (hne q hq), mup_o (hne q hq)]
      exact if_neg (hne q hq)
    cases hrl : rl with
    | none =>
      refine ⟨_, fun q hq => ⟨fun f _ => m0 f q hq, by rw [if_neg (fun w => by cases w)]; exact m0 4 q hq⟩, ⟨by rw [mup_f (by decide), mup_f (by decide), mup_s], by rw [mup_f (by decide), mup_s], by rw [mup_f (by decide), mup_f (by decide), mup_f (by decide)]; exact if_pos rfl, by rw [mup_f (by decide), mup_f (by decide), mup_f (by decide)]; exact if_pos rfl, by rw [mup_s]⟩, fun J u => by rw [if_pos rfl]⟩
    | some c =>
      have sc := (TI_rt L5 hrl).1
      have nc := hne c sc
      refine ⟨mup (mup (mup (mup (mup (fun f q => if q = n1 then none else Ml f q) 0 n1 (some (kk m))) 1 n1 (some (g 10))) 4 n1 none) 2 n1 (some c)) 4 c (some n1), fun q hq => ⟨fun f hf => ?_, ?_⟩, ⟨?_, ?_, ?_, ?_, ?_⟩, fun J u => by rw [if_neg (fun w => by cases w), v_p2 nrx sn1, v_p4 nrx (Or.inl sc)]⟩
      · rw [mup_f (by omega), mup_o (hne q hq)]; exact m0 f q hq
      · by_cases z : q = c
        · rw [z, mup_s, if_pos rfl]
        · rw [mup_o z, mup_o (hne q hq), if_neg (fun w => z (Option.some.inj w).symm)]; exact m0 4 q hq
      · rw [mup_f (by decide), mup_f (by decide), mup_f (by decide), mup_f (by decide), mup_s]
      · rw [mup_f (by decide), mup_f (by decide), mup_f (by decide), mup_s]
      · rw [mup_f (by decide), mup_s]
      · rw [mup_f (by decide), mup_f (by decide), mup_f (by decide), mup_f (by decide), mup_f (by decide)]; exact if_pos rfl
      · rw [mup_o (fun w => nc w.symm), mup_f (by decide), mup_s]
  obtain ⟨M3, m1, m2, m3⟩ := lnk
  rw [m3]
  have dne : ∀ q, Sl q → q ≠ n1 := fun a ha w => nSn (by rw [← w]; exact ha)
  have hTf : TI2 (ov r2 (fun q => Sl q ∨ q = n1) cmp2 ks2 H2 M3 C2 rt2 sz2 mc2) A r none nn kk (fun v => v = some (g 10)) it (m + 1) := by
    have o : ∀ q, q < n → ov r2 (fun q => Sl q ∨ q = n1) cmp2 ks2 H2 M3 C2 rt2 sz2 mc2 q = H2 q := fun q hq => by
      by_cases z : q = r2
      · rw [z, ov_r, h1r2]
      · exact ov_o z (fun w => w.elim (fun w => by have := L3 q w; omega) (fun w => by omega))
    exact TI2_fr k2 (fun q hq => o q (hA q hq)) (o it itn)
  have hfo : ∀ q, q < n → q ≠ it → ov r2 (fun q => Sl q ∨ q = n1) cmp2 ks2 H2 M3 C2 rt2 sz2 mc2 q = H q := fun q hq hq2 => by
    by_cases z : q = r2
    · rw [z, ov_r, hr2]
    · rw [ov_o z (fun w => w.elim (fun w => by have := L3 q w; omega) (fun w => by omega))]
      exact h1o q hq hq2
  have hfn : ∀ q, n1 + 1 ≤ q → ov r2 (fun q => Sl q ∨ q = n1) cmp2 ks2 H2 M3 C2 rt2 sz2 mc2 q = none := fun q hq => by
    rw [ov_o (by omega) (fun w => w.elim (fun w => by have := L3 q w; omega) (fun w => by omega))]
    exact h1n q (by omega)
  have hfs : ∀ a, (Sl a ∨ a = n1) → ov r2 (fun q => Sl q ∨ q = n1) cmp2 ks2 H2 M3 C2 rt2 sz2 mc2 a = some (eCell M3 C2 a) := fun a ha => ov_s nrx ha
  have hfr : ov r2 (fun q => Sl q ∨ q = n1) cmp2 ks2 H2 M3 C2 rt2 sz2 mc2 r2 = some (mCell cmp2 rt2 ks2 sz2 mc2) := ov_r
  generalize ov r2 (fun q => Sl q ∨ q = n1) cmp2 ks2 H2 M3 C2 rt2 sz2 mc2 = H3 at hTf hfo hfn hfs hfr
  by_cases q : hi ≤ m
  · -- nothing to the right
    have emh : m = hi := by omega
    rw [if_pos (by rw [iv_le (by omega) (by omega)]; exact q)]
    have jn := TI_join (Sr := fun _ => False) (Mr := fun _ _ => none) (rr := none) (j := hi + 1) (pr := fun _ => 0) (lr := fun _ => 0) (hr := fun _ => 0) (M' := M3) (x := n1) L5 ⟨fun _ a => a.elim, fun _ a => a.elim, fun _ a => a.elim, fun _ a => a.elim, Or.inl ⟨rfl, by omega⟩⟩ nSn (fun w => w) (fun _ w => w.elim)
      (fun q hq => (m1 q hq).1 2 (by decide)) (fun q hq => (m1 q hq).1 3 (by decide)) (fun q hq => (m1 q hq).2) (fun _ w => w.elim) (fun _ w => w.elim) (fun _ w => w.elim) m2.2.2.1 m2.2.2.2.1 m2.2.2.2.2
    refine ⟨H3, n1 + 1, w1 + 7, some n1, _, M3, C2, _, _, _, rfl, by omega, fun a ha => ?_, fun a ha => ?_, jn, c1, fun a ha => ?_, fun i i0 i1 => ?_, fun a b ha hb hab => ?_, by rw [← emh]; exact hTf, hfo, hfn⟩
    · rcases ha with (ha | ha) | ha
      · have := L3 a ha; omega
      · omega
      · exact ha.elim
    · exact hfs a (ha.elim id (fun w => w.elim))
    · rcases ha with (ha | ha) | ha
      · rw [tj_l ha, (m1 a ha).1 0 (by decide), (m1 a ha).1 1 (by decide)]
        exact L7 a ha
      · rw [ha, tj_x nSn (fun w => w)]
        exact ⟨m2.1, m2.2.1⟩
      · exact ha.elim
    · by_cases z : i = m
      · exact ⟨n1, Or.inl (Or.inr rfl), by rw [tj_x nSn (fun w => w)]; exact z.symm⟩
      · obtain ⟨a, a1, a2⟩ := L8 i i0 (by omega)
        exact ⟨a, Or.inl (Or.inl a1), by rw [tj_l a1]; exact a2⟩
    · have gl : ∀ a, Sl a → pl a < m := fun a ha => by have := L5.1 a ha; omega
      rcases ha with (ha | ha) | ha <;> rcases hb with (hb | hb) | hb
      · rw [tj_l ha, tj_l hb] at hab; exact L9 a b ha hb hab
      · rw [tj_l ha, hb, tj_x nSn (fun w => w)] at hab; have := gl a ha; omega
      · exact hb.elim
      · rw [tj_l hb, ha, tj_x nSn (fun w => w)] at hab; have := gl b hb; omega
      · rw [ha, hb]
      · exact hb.elim
      · exact ha.elim
      · exact ha.elim
      · exact ha.elim
  · rw [if_neg (by rw [iv_le (by omega) (by omega)]; exact q)]
    exact absurd (show hi ≤ m by omega) q
theorem bf_1 {g : Nat → Nat} (hP : bfP g 1 (fJ6_buildFromSorted_2_0 g)) : bfP g 3 (fJ6_buildFromSorted_2_1 g) := by
  intro H n A r nn kk it lo hi r2 cmp2 rt2 ks2 sz2 mc2 lev red hT hr2 hb hsz hn hA
  unfold fJ6_buildFromSorted_2_1
  by_cases he0 : ¬ lo ≤ hi
  · have he := he0
    rw [if_neg (by rw [iv_le (by omega) (by omega)]; exact he)]
    exact bfO_0 hT hn (by omega)
  have he : lo ≤ hi := Classical.not_not.mp he0
  rw [if_pos (by rw [iv_le (by omega) (by omega)]; exact he)]
  have emid : iushr (iv lo + iv hi) 1 = iv ((lo + hi) / 2) := by
    rw [iv_add]
    exact half_v (by omega)
  have hm : lo ≤ (lo + hi) / 2 ∧ (lo + hi) / 2 ≤ hi ∧ ((lo + hi) / 2 - lo ≤ 1) ∧ hi - (lo + hi) / 2 ≤ 1 := by omega
  rw [emid]
  generalize (lo + hi) / 2 = m at hm
  have hlt : ∀ q, H q ≠ none → q < n := fun q hq => Classical.byContradiction (fun w => hq (hn q (by omega)))
  have r2n : r2 < n := hlt r2 (by rw [hr2]; exact fun w => by cases w)
  -- the left part
  have left : ∃ (H1 : Nat → Option hC) (n1 w1 : Nat) (rl : Option Nat) (Sl : Nat → Prop) (Ml : Nat → Nat → Option Nat) (Cl : Nat → Int32) (pl ll hl : Nat → Int), (∀ K : Option Nat → HM (Option Nat), mjn K (fun J => if iv m ≤ iv lo then J none else (mb (mon 18 (some r2) (mcall 21 7 (fJ6_buildFromSorted_2_0 g (some r2) (lev + 1) (iv lo) (iv m - 1) red (some it) none (some (g 10))))) fun x11 => J x11)) (H, n, 0) = K rl (H1, n1, w1)) ∧ w1 ≤ 7 ∧ n ≤ n1 ∧ (∀ a, Sl a → n ≤ a ∧ a < n1) ∧ (∀ a, Sl a → H1 a = some (eCell Ml Cl a)) ∧ TI Sl Ml rl lo m pl ll hl ∧ okC Cl ∧
      (∀ a, Sl a → Ml 0 a = some (kk (pl a)) ∧ Ml 1 a = some (g 10)) ∧ (∀ i, lo ≤ i → i < m → ∃ a, Sl a ∧ pl a = i) ∧ inj Sl pl ∧ TI2 H1 A r none nn kk (fun v => v = some (g 10)) it m ∧ (∀ q, q < n → q ≠ it → H1 q = H q) ∧ ∀ q, n1 ≤ q → H1 q = none := by
    by_cases q : m ≤ lo
    · have eml : m = lo := by omega
      refine ⟨H, n, 0, none, fun _ => False, fun _ _ => none, fun _ => 0, fun _ => 0, fun _ => 0, fun _ => 0, fun J => by rw [mjn_b, if_pos (by rw [iv_le (by omega) (by omega)]; exact q)], Nat.zero_le _, Nat.le_refl n, fun _ a => a.elim, fun _ a => a.elim, ⟨fun _ a => a.elim, fun _ a => a.elim, fun _ a => a.elim, fun _ a => a.elim, Or.inl ⟨rfl, eml.symm⟩⟩, fun _ => Or.inl rfl, fun _ a => a.elim, fun i a b => by omega, fun _ _ a => a.elim, by rw [eml]; exact hT, fun _ _ _ => rfl, hn⟩
    · obtain ⟨H1, n1, w1, rl, Sl, Ml, Cl, pl, ll, hl, a1, a2, a3, a4, a5, a6, a7, a8, a9, a10, a11, a12⟩ := hP H n A r nn kk it lo (m - 1) r2 cmp2 rt2 ks2 sz2 mc2 (lev + 1) red hT hr2 (by omega) (by omega) hn hA
      rw [show m - 1 + 1 = m by omega] at a5 a10
      refine ⟨H1, n1, 0 + 7, rl, Sl, Ml, Cl, pl, ll, hl, fun J => ?_, by omega, a2, a3, a4, a5, a6, a7, fun i i0 i1 => a8 i i0 (by omega), a9, a10, a11, a12⟩
      rw [mjn_b, if_neg (by rw [iv_le (by omega) (by omega)]; exact q)]
      have e1 : iv m - 1 = iv (m - 1) := iv_sub m 1
      rw [e1, c_mon hr2, c_mcall a1 (by decide)]
  obtain ⟨H1, n1, w1, rl, Sl, Ml, Cl, pl, ll, hl, L0, L1, L2, L3, L4, L5, L6, L7, L8, L9, L10, L11, L12⟩ := left
  have itn : it < n := by
    obtain ⟨-, _, _, _, _, _, _, _, _, _, _, _, -, -, -, -, -, -, z⟩ := hT
    exact hlt it (by rw [z]; exact fun w => by cases w)
  refine (show bfO g H n A r nn kk it lo hi _ from ?_)
  rw [L0]
  -- the middle key
  obtain ⟨xc, k1, k2⟩ := J21_next_c (β := Option Nat) (K := fun (x6 : Option Nat) => mb (nO 21 19 [.null, .null, .null, .null, .null, .int 0]) fun x4 => mb (mnn x4) fun _ => mb (mcall0 (fJ25_init g x4 x6 (some (g 10)) none)) fun _ => mjn0 (mjn0 (if iv hi ≤ iv m then (mret x4) else (mb (mon 18 (some r2) (mcall 21 7 (fJ6_buildFromSorted_2_0 g (some r2) (lev + 1) (iv m + 1) (iv hi) red (some it) none (some (g 10))))) fun x6 => mb (pR 19 3 x4 x6) fun _ => mb (pR 19 4 x6 x4) fun _ => mret x4)) fun j173 => if rl = none then (j173) else (mb (pR 19 2 x4 rl) fun _ => mb (pR 19 4 rl x4) fun _ => j173)) fun j154 => if lev = red then (mb (pZ 19 5 x4 0) fun _ => j154) else (j154)) (g := g) (n := n1) (w := w1) L10 (by omega)
  rw [mjn2_b, if_neg (fun w => by cases w), if_neg (fun w => by cases w), k1]
  have nSit : ¬ Sl it := fun w => by have := L3 it w; omega
  have nSr2 : ¬ Sl r2 := fun w => by have := L3 r2 w; omega
  have nSn : ¬ Sl n1 := fun w => by have := L3 n1 w; omega
  have r2it : r2 ≠ it := fun w => by
    obtain ⟨-, _, _, _, _, _, _, _, _, _, _, _, -, -, -, -, -, -, z⟩ := hT
    rw [← w, hr2] at z; cases z
  have n1r2 : n1 ≠ r2 := by omega
  have h1r2 : hset H1 it xc r2 = some (mCell cmp2 rt2 ks2 sz2 mc2) := by rw [hset_ne r2it, L11 r2 r2n r2it]; exact hr2
  have h1S : ∀ a, Sl a → hset H1 it xc a = some (eCell Ml Cl a) := fun a ha => by rw [hset_ne (fun w => nSit (by rw [← w]; exact ha))]; exact L4 a ha
  have h1n : ∀ q, n1 ≤ q → hset H1 it xc q = none := fun q hq => by rw [hset_ne (by omega)]; exact L12 q hq
  have h1o : ∀ q, q < n → q ≠ it → hset H1 it xc q = H q := fun q q1 q2 => by rw [hset_ne q2]; exact L11 q q1 q2
  generalize hset H1 it xc = H2 at k2 h1r2 h1S h1n h1o
  have es := ov_self h1r2 h1S
  have nrx : ¬ (Sl r2 ∨ r2 = n1) := fun w => w.elim nSr2 (fun z => n1r2 z.symm)
  have sn1 : (fun q => Sl q ∨ q = n1) n1 := Or.inr rfl
  rw [← es, c_nE (show w1 + 7 ≤ 21 by omega), ov_new n1r2 nSn, c_mnn, J25_init_c nrx sn1, mjn0_b, mjn0_b]
  -- its colour
  have col : ∃ C2 : Nat → Int32, okC C2 ∧ (∀ a, Sl a → C2 a = Cl a) ∧ ∀ (M : Nat → Nat → Option Nat) (J : HM (Option Nat)) (u : Nat), (if lev = red then (mb (pZ 19 5 (some n1) 0) fun _ => J) else J) (ov r2 (fun q => Sl q ∨ q = n1) cmp2 ks2 H2 M (cup (cup Cl n1 0) n1 1) rt2 sz2 mc2, n1 + 1, u) = J (ov r2 (fun q => Sl q ∨ q = n1) cmp2 ks2 H2 M C2 rt2 sz2 mc2, n1 + 1, u) := by
    have hne : ∀ a, Sl a → a ≠ n1 := fun a ha w => nSn (by rw [← w]; exact ha)
    have hk1 : okC (cup (cup Cl n1 0) n1 1) := okC_up (okC_up L6 (Or.inl rfl)) (Or.inr rfl)
    by_cases z : lev = red
    · refine ⟨cup (cup (cup Cl n1 0) n1 1) n1 0, okC_up hk1 (Or.inl rfl), fun a ha => ?_, fun M J u => by rw [if_pos z, v_p5 nrx sn1 (Or.inl rfl)]⟩
      unfold cup
      rw [if_neg (hne a ha), if_neg (hne a ha), if_neg (hne a ha)]
    · refine ⟨_, hk1, fun a ha => ?_, fun M J u => by rw [if_neg z]⟩
      unfold cup
      rw [if_neg (hne a ha), if_neg (hne a ha)]
  obtain ⟨C2, c1, c2, c3⟩ := col
  rw [c3]
  -- the left child
  have lnk : ∃ M3 : Nat → Nat → Option Nat, (∀ q, Sl q → (∀ f, f < 4 → M3 f q = Ml f q) ∧ M3 4 q = if rl = some q then some n1 else Ml 4 q) ∧ (M3 0 n1 = some (kk m) ∧ M3 1 n1 = some (g 10) ∧ M3 2 n1 = rl ∧ M3 3 n1 = none ∧ M3 4 n1 = none) ∧
      ∀ (J : HM (Option Nat)) (u : Nat), (if rl = none then J else (mb (pR 19 2 (some n1) rl) fun _ => mb (pR 19 4 rl (some n1)) fun _ => J)) (ov r2 (fun q => Sl q ∨ q = n1) cmp2 ks2 H2 (mup (mup (mup (fun f q => if q = n1 then none else Ml f q) 0 n1 (some (kk m))) 1 n1 (some (g 10))) 4 n1 none) C2 rt2 sz2 mc2, n1 + 1, u) = J (ov r2 (fun q => Sl q ∨ q = n1) cmp2 ks2 H2 M3 C2 rt2 sz2 mc2, n1 + 1, u) := by
    have hne : ∀ a, Sl a → a ≠ n1 := fun a ha w => nSn (by rw [← w]; exact ha)
    have m0 : ∀ f q, Sl q → (mup (mup (mup (fun f q => if q = n1 then none else Ml f q) 0 n1 (some (kk m))) 1 n1 (some (g 10))) 4 n1 none) f q = Ml f q := fun f q hq => by
      rw [mup_o (hne q hq), mup_o (hne q hq), mup_o (hne q hq)]
      exact if_neg (hne q hq)
    cases hrl : rl with
    | none =>
      refine ⟨_, fun q hq => ⟨fun f _ => m0 f q hq, by rw [if_neg (fun w => by cases w)]; exact m0 4 q hq⟩, ⟨by rw [mup_f (by decide), mup_f (by decide), mup_s], by rw [mup_f (by decide), mup_s], by rw [mup_f (by decide), mup_f (by decide), mup_f (by decide)]; exact if_pos rfl, by rw [mup_f (by decide), mup_f (by decide), mup_f (by decide)]; exact if_pos rfl, by rw [mup_s]⟩, fun J u => by rw [if_pos rfl]⟩
    | some c =>
      have sc := (TI_rt L5 hrl).1
      have nc := hne c sc
      refine ⟨mup (mup (mup (mup (mup (fun f q => if q = n1 then none else Ml f q) 0 n1 (some (kk m))) 1 n1 (some (g 10))) 4 n1 none) 2 n1 (some c)) 4 c (some n1), fun q hq => ⟨fun f hf => ?_, ?_⟩, ⟨?_, ?_, ?_, ?_, ?_⟩, fun J u => by rw [if_neg (fun w => by cases w), v_p2 nrx sn1, v_p4 nrx (Or.inl sc)]⟩
      · rw [mup_f (by omega), mup_o (hne q hq)]; exact m0 f q hq
      · by_cases z : q = c
        · rw [z, mup_s, if_pos rfl]
        · rw [mup_o z, mup_o (hne q hq), if_neg (fun w => z (Option.some.inj w).symm)]; exact m0 4 q hq
      · rw [mup_f (by decide), mup_f (by decide), mup_f (by decide), mup_f (by decide), mup_s]
      · rw [mup_f (by decide), mup_f (by decide), mup_f (by decide), mup_s]
      · rw [mup_f (by decide), mup_s]
      · rw [mup_f (by decide), mup_f (by decide), mup_f (by decide), mup_f (by decide), mup_f (by decide)]; exact if_pos rfl
      · rw [mup_o (fun w => nc w.symm), mup_f (by decide), mup_s]
  obtain ⟨M3, m1, m2, m3⟩ := lnk
  rw [m3]
  have dne : ∀ q, Sl q → q ≠ n1 := fun a ha w => nSn (by rw [← w]; exact ha)
  have hTf : TI2 (ov r2 (fun q => Sl q ∨ q = n1) cmp2 ks2 H2 M3 C2 rt2 sz2 mc2) A r none nn kk (fun v => v = some (g 10)) it (m + 1) := by
    have o : ∀ q, q < n → ov r2 (fun q => Sl q ∨ q = n1) cmp2 ks2 H2 M3 C2 rt2 sz2 mc2 q = H2 q := fun q hq => by
      by_cases z : q = r2
      · rw [z, ov_r, h1r2]
      · exact ov_o z (fun w => w.elim (fun w => by have := L3 q w; omega) (fun w => by omega))
    exact TI2_fr k2 (fun q hq => o q (hA q hq)) (o it itn)
  have hfo : ∀ q, q < n → q ≠ it → ov r2 (fun q => Sl q ∨ q = n1) cmp2 ks2 H2 M3 C2 rt2 sz2 mc2 q = H q := fun q hq hq2 => by
    by_cases z : q = r2
    · rw [z, ov_r, hr2]
    · rw [ov_o z (fun w => w.elim (fun w => by have := L3 q w; omega) (fun w => by omega))]
      exact h1o q hq hq2
  have hfn : ∀ q, n1 + 1 ≤ q → ov r2 (fun q => Sl q ∨ q = n1) cmp2 ks2 H2 M3 C2 rt2 sz2 mc2 q = none := fun q hq => by
    rw [ov_o (by omega) (fun w => w.elim (fun w => by have := L3 q w; omega) (fun w => by omega))]
    exact h1n q (by omega)
  have hfs : ∀ a, (Sl a ∨ a = n1) → ov r2 (fun q => Sl q ∨ q = n1) cmp2 ks2 H2 M3 C2 rt2 sz2 mc2 a = some (eCell M3 C2 a) := fun a ha => ov_s nrx ha
  have hfr : ov r2 (fun q => Sl q ∨ q = n1) cmp2 ks2 H2 M3 C2 rt2 sz2 mc2 r2 = some (mCell cmp2 rt2 ks2 sz2 mc2) := ov_r
  generalize ov r2 (fun q => Sl q ∨ q = n1) cmp2 ks2 H2 M3 C2 rt2 sz2 mc2 = H3 at hTf hfo hfn hfs hfr
  by_cases q : hi ≤ m
  · -- nothing to the right
    have emh : m = hi := by omega
    rw [if_pos (by rw [iv_le (by omega) (by omega)]; exact q)]
    have jn := TI_join (Sr := fun _ => False) (Mr := fun _ _ => none) (rr := none) (j := hi + 1) (pr := fun _ => 0) (lr := fun _ => 0) (hr := fun _ => 0) (M' := M3) (x := n1) L5 ⟨fun _ a => a.elim, fun _ a => a.elim, fun _ a => a.elim, fun _ a => a.elim, Or.inl ⟨rfl, by omega⟩⟩ nSn (fun w => w) (fun _ w => w.elim)
      (fun q hq => (m1 q hq).1 2 (by decide)) (fun q hq => (m1 q hq).1 3 (by decide)) (fun q hq => (m1 q hq).2) (fun _ w => w.elim) (fun _ w => w.elim) (fun _ w => w.elim) m2.2.2.1 m2.2.2.2.1 m2.2.2.2.2
    refine ⟨H3, n1 + 1, w1 + 7, some n1, _, M3, C2, _, _, _, rfl, by omega, fun a ha => ?_, fun a ha => ?_, jn, c1, fun a ha => ?_, fun i i0 i1 => ?_, fun a b ha hb hab => ?_, by rw [← emh]; exact hTf, hfo, hfn⟩
    · rcases ha with (ha | ha) | ha
      · have := L3 a ha; omega
      · omega
      · exact ha.elim
    · exact hfs a (ha.elim id (fun w => w.elim))
    · rcases ha with (ha | ha) | ha
      · rw [tj_l ha, (m1 a ha).1 0 (by decide), (m1 a ha).1 1 (by decide)]
        exact L7 a ha
      · rw [ha, tj_x nSn (fun w => w)]
        exact ⟨m2.1, m2.2.1⟩
      · exact ha.elim
    · by_cases z : i = m
      · exact ⟨n1, Or.inl (Or.inr rfl), by rw [tj_x nSn (fun w => w)]; exact z.symm⟩
      · obtain ⟨a, a1, a2⟩ := L8 i i0 (by omega)
        exact ⟨a, Or.inl (Or.inl a1), by rw [tj_l a1]; exact a2⟩
    · have gl : ∀ a, Sl a → pl a < m := fun a ha => by have := L5.1 a ha; omega
      rcases ha with (ha | ha) | ha <;> rcases hb with (hb | hb) | hb
      · rw [tj_l ha, tj_l hb] at hab; exact L9 a b ha hb hab
      · rw [tj_l ha, hb, tj_x nSn (fun w => w)] at hab; have := gl a ha; omega
      · exact hb.elim
      · rw [tj_l hb, ha, tj_x nSn (fun w => w)] at hab; have := gl b hb; omega
      · rw [ha, hb]
      · exact hb.elim
      · exact ha.elim
      · exact ha.elim
      · exact ha.elim
  · rw [if_neg (by rw [iv_le (by omega) (by omega)]; exact q)]
    have e1 : iv m + 1 = iv (m + 1) := iv_add m 1
    obtain ⟨H4, n4, w4, rr, Sr, Mr, Cr, pr, lr, hr, a1, a2, a3, a4, a5, a6, a7, a8, a9, a10, a11, a12⟩ := hP H3 (n1 + 1) A r nn kk it (m + 1) hi r2 cmp2 rt2 ks2 sz2 mc2 (lev + 1) red hTf hfr (by omega) (by omega) hfn (fun q hq => by have := hA q hq; omega)
    obtain ⟨c, hrr, sc, c4, -⟩ : ∃ c, rr = some c ∧ Sr c ∧ Mr 4 c = none ∧ True := by
      rcases a5.2.2.2.2 with ⟨-, z⟩ | ⟨c, z1, z2, z3, -⟩
      · omega
      · exact ⟨c, z1, z2, z3, trivial⟩
    have drl : ∀ q, Sr q → ¬ Sl q := fun q hq w => by have := a3 q hq; have := L3 q w; omega
    have drn : ∀ q, Sr q → q ≠ n1 := fun q hq w => by have := a3 q hq; omega
    have nSr : ¬ Sr r2 := fun w => by have := a3 r2 w; omega
    have nSrn : ¬ Sr n1 := fun w => by have := a3 n1 w; omega
    have nr3 : ¬ ((Sl r2 ∨ r2 = n1) ∨ Sr r2) := fun w => w.elim nrx nSr
    have f4 : ∀ a, ((Sl a ∨ a = n1) ∨ Sr a) → H4 a = some (eCell (fun f q => @ite _ (Sr q) (Classical.propDecidable _) (Mr f q) (M3 f q)) (fun q => @ite _ (Sr q) (Classical.propDecidable _) (Cr q) (C2 q)) a) := fun a ha => by
      unfold eCell
      by_cases z : Sr a
      · simp only [if_pos z]
        exact a4 a z
      · simp only [if_neg z]
        have za : Sl a ∨ a = n1 := ha.resolve_right z
        have zl : a < n1 + 1 := za.elim (fun w => by have := L3 a w; omega) (fun w => by omega)
        have zi : a ≠ it := fun w => by rcases za with w2 | w2
                                        · exact nSit (by rw [← w]; exact w2)
                                        · omega
        rw [a11 a zl zi]
        exact hfs a za
    have r4 : H4 r2 = some (mCell cmp2 rt2 ks2 sz2 mc2) := by rw [a11 r2 (by omega) r2it]; exact hfr
    have es4 := ov_self r4 f4
    have sc4 : (fun a => (Sl a ∨ a = n1) ∨ Sr a) c := Or.inr sc
    have sn4 : (fun a => (Sl a ∨ a = n1) ∨ Sr a) n1 := Or.inl (Or.inr rfl)
    rw [e1, c_mon hfr, c_mcall a1 (show w1 + 7 + 7 ≤ 21 by omega), hrr, ← es4, v_p3 nr3 sn4, v_p4 nr3 sc4]
    generalize hM4 : (fun f q => @ite _ (Sr q) (Classical.propDecidable _) (Mr f q) (M3 f q)) = M4
    generalize hC4 : (fun q => @ite _ (Sr q) (Classical.propDecidable _) (Cr q) (C2 q)) = C4
    have m4r : ∀ f q, Sr q → M4 f q = Mr f q := fun f q hq => by rw [← hM4]; exact if_pos hq
    have m4l : ∀ f q, ¬ Sr q → M4 f q = M3 f q := fun f q hq => by rw [← hM4]; exact if_neg hq
    have ncn : c ≠ n1 := drn c sc
    have sll : ∀ q, Sl q → ¬ Sr q := fun q hq w => drl q w hq
    have slc : ∀ q, Sl q → q ≠ c := fun q hq w => drl c sc (by rw [← w]; exact hq)
    have M5l : ∀ f q, Sl q → mup (mup M4 3 n1 (some c)) 4 c (some n1) f q = M3 f q := fun f q hq => by
      rw [mup_o (slc q hq), mup_o (dne q hq)]; exact m4l f q (sll q hq)
    have M5n : ∀ f, f ≠ 3 → mup (mup M4 3 n1 (some c)) 4 c (some n1) f n1 = M3 f n1 := fun f hf => by
      rw [mup_o (fun w => ncn w.symm), mup_f hf]; exact m4l f n1 nSrn
    have M5r : ∀ f q, Sr q → f ≠ 4 → mup (mup M4 3 n1 (some c)) 4 c (some n1) f q = Mr f q := fun f q hq hf => by
      rw [mup_f hf, mup_o (drn q hq)]; exact m4r f q hq
    have jn := TI_join (M' := mup (mup M4 3 n1 (some c)) 4 c (some n1)) (x := n1) L5 a5 nSn nSrn drl
      (fun q hq => (M5l 2 q hq).trans ((m1 q hq).1 2 (by decide))) (fun q hq => (M5l 3 q hq).trans ((m1 q hq).1 3 (by decide))) (fun q hq => (M5l 4 q hq).trans (m1 q hq).2)
      (fun q hq => M5r 2 q hq (by decide)) (fun q hq => M5r 3 q hq (by decide)) (fun q hq => by
        rw [hrr]
        by_cases z : q = c
        · rw [z, mup_s, if_pos rfl]
        · rw [mup_o z, mup_o (drn q hq), if_neg (fun w => z (Option.some.inj w).symm)]; exact m4r 4 q hq)
      ((M5n 2 (by decide)).trans m2.2.2.1) (by rw [mup_o (fun w => ncn w.symm), mup_s, hrr]) ((M5n 4 (by decide)).trans m2.2.2.2.2)
    have okC4 : okC C4 := fun q => by
      rw [← hC4]
      by_cases z : Sr q
      · simp only [if_pos z]; exact a6 q
      · simp only [if_neg z]; exact c1 q
    refine ⟨ov r2 (fun a => (Sl a ∨ a = n1) ∨ Sr a) cmp2 ks2 H4 (mup (mup M4 3 n1 (some c)) 4 c (some n1)) C4 rt2 sz2 mc2, n4, w1 + 7 + 7, some n1, _, mup (mup M4 3 n1 (some c)) 4 c (some n1), C4, _, _, _, rfl, by omega, fun a ha => ?_, fun a ha => ov_s nr3 ha, jn, okC4, fun a ha => ?_, fun i i0 i1 => ?_, fun a b ha hb hab => ?_, ?_, fun q q1 q2 => ?_, fun q q1 => ?_⟩
    · rcases ha with (ha | ha) | ha
      · have := L3 a ha; omega
      · omega
      · have := a3 a ha; omega
    · rcases ha with (ha | ha) | ha
      · rw [tj_l ha, M5l 0 a ha, M5l 1 a ha, (m1 a ha).1 0 (by decide), (m1 a ha).1 1 (by decide)]
        exact L7 a ha
      · rw [ha, tj_x nSn nSrn, M5n 0 (by decide), M5n 1 (by decide)]
        exact ⟨m2.1, m2.2.1⟩
      · rw [tj_r (drl a ha) ha, M5r 0 a ha (by decide), M5r 1 a ha (by decide)]
        exact a7 a ha
    · by_cases z : i = m
      · exact ⟨n1, Or.inl (Or.inr rfl), by rw [tj_x nSn nSrn]; exact z.symm⟩
      · by_cases z2 : i < m
        · obtain ⟨a, y1, y2⟩ := L8 i i0 z2
          exact ⟨a, Or.inl (Or.inl y1), by rw [tj_l y1]; exact y2⟩
        · obtain ⟨a, y1, y2⟩ := a8 i (by omega) i1
          exact ⟨a, Or.inr y1, by rw [tj_r (drl a y1) y1]; exact y2⟩
    · have gl : ∀ a, Sl a → pl a < m := fun a ha => by have := L5.1 a ha; omega
      have gr : ∀ a, Sr a → m < pr a := fun a ha => by have := a5.1 a ha; omega
      rcases ha with (ha | ha) | ha <;> rcases hb with (hb | hb) | hb
      · rw [tj_l ha, tj_l hb] at hab; exact L9 a b ha hb hab
      · rw [tj_l ha, hb, tj_x nSn nSrn] at hab; have := gl a ha; omega
      · rw [tj_l ha, tj_r (drl b hb) hb] at hab; have := gl a ha; have := gr b hb; omega
      · rw [tj_l hb, ha, tj_x nSn nSrn] at hab; have := gl b hb; omega
      · rw [ha, hb]
      · rw [ha, tj_x nSn nSrn, tj_r (drl b hb) hb] at hab; have := gr b hb; omega
      · rw [tj_r (drl a ha) ha, tj_l hb] at hab; have := gl b hb; have := gr a ha; omega
      · rw [tj_r (drl a ha) ha, hb, tj_x nSn nSrn] at hab; have := gr a ha; omega
      · rw [tj_r (drl a ha) ha, tj_r (drl b hb) hb] at hab; exact a9 a b ha hb hab
    · have o : ∀ q, q < n → ov r2 (fun a => (Sl a ∨ a = n1) ∨ Sr a) cmp2 ks2 H4 (mup (mup M4 3 n1 (some c)) 4 c (some n1)) C4 rt2 sz2 mc2 q = H4 q := fun q hq => by
        by_cases z : q = r2
        · rw [z, ov_r, r4]
        · exact ov_o z (fun w => w.elim (fun w => w.elim (fun w => by have := L3 q w; omega) (fun w => by omega)) (fun w => by have := a3 q w; omega))
      exact TI2_fr a10 (fun q hq => o q (hA q hq)) (o it itn)
    · by_cases z : q = r2
      · rw [z, ov_r, hr2]
      · rw [ov_o z (fun w => w.elim (fun w => w.elim (fun w => by have := L3 q w; omega) (fun w => by omega)) (fun w => by have := a3 q w; omega)), a11 q (by omega) q2]
        exact hfo q q1 q2
    · rw [ov_o (by omega) (fun w => w.elim (fun w => w.elim (fun w => by have := L3 q w; omega) (fun w => by omega)) (fun w => by have := a3 q w; omega))]
      exact a12 q q1
theorem bf_2 {g : Nat → Nat} (hP : bfP g 3 (fJ6_buildFromSorted_2_1 g)) : bfP g 7 (fJ6_buildFromSorted_2_2 g) := by
  intro H n A r nn kk it lo hi r2 cmp2 rt2 ks2 sz2 mc2 lev red hT hr2 hb hsz hn hA
  unfold fJ6_buildFromSorted_2_2
  by_cases he0 : ¬ lo ≤ hi
  · have he := he0
    rw [if_neg (by rw [iv_le (by omega) (by omega)]; exact he)]
    exact bfO_0 hT hn (by omega)
  have he : lo ≤ hi := Classical.not_not.mp he0
  rw [if_pos (by rw [iv_le (by omega) (by omega)]; exact he)]
  have emid : iushr (iv lo + iv hi) 1 = iv ((lo + hi) / 2) := by
    rw [iv_add]
    exact half_v (by omega)
  have hm : lo ≤ (lo + hi) / 2 ∧ (lo + hi) / 2 ≤ hi ∧ ((lo + hi) / 2 - lo ≤ 3) ∧ hi - (lo + hi) / 2 ≤ 3 := by omega
  rw [emid]
  generalize (lo + hi) / 2 = m at hm
  have hlt : ∀ q, H q ≠ none → q < n := fun q hq => Classical.byContradiction (fun w => hq (hn q (by omega)))
  have r2n : r2 < n := hlt r2 (by rw [hr2]; exact fun w => by cases w)
  -- the left part
  have left : ∃ (H1 : Nat → Option hC) (n1 w1 : Nat) (rl : Option Nat) (Sl : Nat → Prop) (Ml : Nat → Nat → Option Nat) (Cl : Nat → Int32) (pl ll hl : Nat → Int), (∀ K : Option Nat → HM (Option Nat), mjn K (fun J => if iv m ≤ iv lo then J none else (mb (mon 18 (some r2) (mcall 49 21 (fJ6_buildFromSorted_2_1 g (some r2) (lev + 1) (iv lo) (iv m - 1) red (some it) none (some (g 10))))) fun x11 => J x11)) (H, n, 0) = K rl (H1, n1, w1)) ∧ w1 ≤ 21 ∧ n ≤ n1 ∧ (∀ a, Sl a → n ≤ a ∧ a < n1) ∧ (∀ a, Sl a → H1 a = some (eCell Ml Cl a)) ∧ TI Sl Ml rl lo m pl ll hl ∧ okC Cl ∧
      (∀ a, Sl a → Ml 0 a = some (kk (pl a)) ∧ Ml 1 a = some (g 10)) ∧ (∀ i, lo ≤ i → i < m → ∃ a, Sl a ∧ pl a = i) ∧ inj Sl pl ∧ TI2 H1 A r none nn kk (fun v => v = some (g 10)) it m ∧ (∀ q, q < n → q ≠ it → H1 q = H q) ∧ ∀ q, n1 ≤ q → H1 q = none := by
    by_cases q : m ≤ lo
    · have eml : m = lo := by omega
      refine ⟨H, n, 0, none, fun _ => False, fun _ _ => none, fun _ => 0, fun _ => 0, fun _ => 0, fun _ => 0, fun J => by rw [mjn_b, if_pos (by rw [iv_le (by omega) (by omega)]; exact q)], Nat.zero_le _, Nat.le_refl n, fun _ a => a.elim, fun _ a => a.elim, ⟨fun _ a => a.elim, fun _ a => a.elim, fun _ a => a.elim, fun _ a => a.elim, Or.inl ⟨rfl, eml.symm⟩⟩, fun _ => Or.inl rfl, fun _ a => a.elim, fun i a b => by omega, fun _ _ a => a.elim, by rw [eml]; exact hT, fun _ _ _ => rfl, hn⟩
    · obtain ⟨H1, n1, w1, rl, Sl, Ml, Cl, pl, ll, hl, a1, a2, a3, a4, a5, a6, a7, a8, a9, a10, a11, a12⟩ := hP H n A r nn kk it lo (m - 1) r2 cmp2 rt2 ks2 sz2 mc2 (lev + 1) red hT hr2 (by omega) (by omega) hn hA
      rw [show m - 1 + 1 = m by omega] at a5 a10
      refine ⟨H1, n1, 0 + 21, rl, Sl, Ml, Cl, pl, ll, hl, fun J => ?_, by omega, a2, a3, a4, a5, a6, a7, fun i i0 i1 => a8 i i0 (by omega), a9, a10, a11, a12⟩
      rw [mjn_b, if_neg (by rw [iv_le (by omega) (by omega)]; exact q)]
      have e1 : iv m - 1 = iv (m - 1) := iv_sub m 1
      rw [e1, c_mon hr2, c_mcall a1 (by decide)]
  obtain ⟨H1, n1, w1, rl, Sl, Ml, Cl, pl, ll, hl, L0, L1, L2, L3, L4, L5, L6, L7, L8, L9, L10, L11, L12⟩ := left
  have itn : it < n := by
    obtain ⟨-, _, _, _, _, _, _, _, _, _, _, _, -, -, -, -, -, -, z⟩ := hT
    exact hlt it (by rw [z]; exact fun w => by cases w)
  refine (show bfO g H n A r nn kk it lo hi _ from ?_)
  rw [L0]
  -- the middle key
  obtain ⟨xc, k1, k2⟩ := J21_next_c (β := Option Nat) (K := fun (x6 : Option Nat) => mb (nO 49 19 [.null, .null, .null, .null, .null, .int 0]) fun x4 => mb (mnn x4) fun _ => mb (mcall0 (fJ25_init g x4 x6 (some (g 10)) none)) fun _ => mjn0 (mjn0 (if iv hi ≤ iv m then (mret x4) else (mb (mon 18 (some r2) (mcall 49 21 (fJ6_buildFromSorted_2_1 g (some r2) (lev + 1) (iv m + 1) (iv hi) red (some it) none (some (g 10))))) fun x6 => mb (pR 19 3 x4 x6) fun _ => mb (pR 19 4 x6 x4) fun _ => mret x4)) fun j173 => if rl = none then (j173) else (mb (pR 19 2 x4 rl) fun _ => mb (pR 19 4 rl x4) fun _ => j173)) fun j154 => if lev = red then (mb (pZ 19 5 x4 0) fun _ => j154) else (j154)) (g := g) (n := n1) (w := w1) L10 (by omega)
  rw [mjn2_b, if_neg (fun w => by cases w), if_neg (fun w => by cases w), k1]
  have nSit : ¬ Sl it := fun w => by have := L3 it w; omega
  have nSr2 : ¬ Sl r2 := fun w => by have := L3 r2 w; omega
  have nSn : ¬ Sl n1 := fun w => by have := L3 n1 w; omega
  have r2it : r2 ≠ it := fun w => by
    obtain ⟨-, _, _, _, _, _, _, _, _, _, _, _, -, -, -, -, -, -, z⟩ := hT
    rw [← w, hr2] at z; cases z
  have n1r2 : n1 ≠ r2 := by omega
  have h1r2 : hset H1 it xc r2 = some (mCell cmp2 rt2 ks2 sz2 mc2) := by rw [hset_ne r2it, L11 r2 r2n r2it]; exact hr2
  have h1S : ∀ a, Sl a → hset H1 it xc a = some (eCell Ml Cl a) := fun a ha => by rw [hset_ne (fun w => nSit (by rw [← w]; exact ha))]; exact L4 a ha
  have h1n : ∀ q, n1 ≤ q → hset H1 it xc q = none := fun q hq => by rw [hset_ne (by omega)]; exact L12 q hq
  have h1o : ∀ q, q < n → q ≠ it → hset H1 it xc q = H q := fun q q1 q2 => by rw [hset_ne q2]; exact L11 q q1 q2
  generalize hset H1 it xc = H2 at k2 h1r2 h1S h1n h1o
  have es := ov_self h1r2 h1S
  have nrx : ¬ (Sl r2 ∨ r2 = n1) := fun w => w.elim nSr2 (fun z => n1r2 z.symm)
  have sn1 : (fun q => Sl q ∨ q = n1) n1 := Or.inr rfl
  rw [← es, c_nE (show w1 + 7 ≤ 49 by omega), ov_new n1r2 nSn, c_mnn, J25_init_c nrx sn1, mjn0_b, mjn0_b]
  -- its colour
  have col : ∃ C2 : Nat → Int32, okC C2 ∧ (∀ a, Sl a → C2 a = Cl a) ∧ ∀ (M : Nat → Nat → Option Nat) (J : HM (Option Nat)) (u : Nat), (if lev = red then (mb (pZ 19 5 (some n1) 0) fun _ => J) else J) (ov r2 (fun q => Sl q ∨ q = n1) cmp2 ks2 H2 M (cup (cup Cl n1 0) n1 1) rt2 sz2 mc2, n1 + 1, u) = J (ov r2 (fun q => Sl q ∨ q = n1) cmp2 ks2 H2 M C2 rt2 sz2 mc2, n1 + 1, u) := by
    have hne : ∀ a, Sl a → a ≠ n1 := fun a ha w => nSn (by rw [← w]; exact ha)
    have hk1 : okC (cup (cup Cl n1 0) n1 1) := okC_up (okC_up L6 (Or.inl rfl)) (Or.inr rfl)
    by_cases z : lev = red
    · refine ⟨cup (cup (cup Cl n1 0) n1 1) n1 0, okC_up hk1 (Or.inl rfl), fun a ha => ?_, fun M J u => by rw [if_pos z, v_p5 nrx sn1 (Or.inl rfl)]⟩
      unfold cup
      rw [if_neg (hne a ha), if_neg (hne a ha), if_neg (hne a ha)]
    · refine ⟨_, hk1, fun a ha => ?_, fun M J u => by rw [if_neg z]⟩
      unfold cup
      rw [if_neg (hne a ha), if_neg (hne a ha)]
  obtain ⟨C2, c1, c2, c3⟩ := col
  rw [c3]
  -- the left child
  have lnk : ∃ M3 : Nat → Nat → Option Nat, (∀ q, Sl q → (∀ f, f < 4 → M3 f q = Ml f q) ∧ M3 4 q = if rl = some q then some n1 else Ml 4 q) ∧ (M3 0 n1 = some (kk m) ∧ M3 1 n1 = some (g 10) ∧ M3 2 n1 = rl ∧ M3 3 n1 = none ∧ M3 4 n1 = none) ∧
      ∀ (J : HM (Option Nat)) (u : Nat), (if rl = none then J else (mb (pR 19 2 (some n1) rl) fun _ => mb (pR 19 4 rl (some n1)) fun _ => J)) (ov r2 (fun q => Sl q ∨ q = n1) cmp2 ks2 H2 (mup (mup (mup (fun f q => if q = n1 then none else Ml f q) 0 n1 (some (kk m))) 1 n1 (some (g 10))) 4 n1 none) C2 rt2 sz2 mc2, n1 + 1, u) = J (ov r2 (fun q => Sl q ∨ q = n1) cmp2 ks2 H2 M3 C2 rt2 sz2 mc2, n1 + 1, u) := by
    have hne : ∀ a, Sl a → a ≠ n1 := fun a ha w => nSn (by rw [← w]; exact ha)
    have m0 : ∀ f q, Sl q → (mup (mup (mup (fun f q => if q = n1 then none else Ml f q) 0 n1 (some (kk m))) 1 n1 (some (g 10))) 4 n1 none) f q = Ml f q := fun f q hq => by
      rw [mup_o (hne q hq), mup_o (hne q hq), mup_o (hne q hq)]
      exact if_neg (hne q hq)
    cases hrl : rl with
    | none =>
      refine ⟨_, fun q hq => ⟨fun f _ => m0 f q hq, by rw [if_neg (fun w => by cases w)]; exact m0 4 q hq⟩, ⟨by rw [mup_f (by decide), mup_f (by decide), mup_s], by rw [mup_f (by decide), mup_s], by rw [mup_f (by decide), mup_f (by decide), mup_f (by decide)]; exact if_pos rfl, by rw [mup_f (by decide), mup_f (by decide), mup_f (by decide)]; exact if_pos rfl, by rw [mup_s]⟩, fun J u => by rw [if_pos rfl]⟩
    | some c =>
      have sc := (TI_rt L5 hrl).1
      have nc := hne c sc
      refine ⟨mup (mup (mup (mup (mup (fun f q => if q = n1 then none else Ml f q) 0 n1 (some (kk m))) 1 n1 (some (g 10))) 4 n1 none) 2 n1 (some c)) 4 c (some n1), fun q hq => ⟨fun f hf => ?_, ?_⟩, ⟨?_, ?_, ?_, ?_, ?_⟩, fun J u => by rw [if_neg (fun w => by cases w), v_p2 nrx sn1, v_p4 nrx (Or.inl sc)]⟩
      · rw [mup_f (by omega), mup_o (hne q hq)]; exact m0 f q hq
      · by_cases z : q = c
        · rw [z, mup_s, if_pos rfl]
        · rw [mup_o z, mup_o (hne q hq), if_neg (fun w => z (Option.some.inj w).symm)]; exact m0 4 q hq
      · rw [mup_f (by decide), mup_f (by decide), mup_f (by decide), mup_f (by decide), mup_s]
      · rw [mup_f (by decide), mup_f (by decide), mup_f (by decide), mup_s]
      · rw [mup_f (by decide), mup_s]
      · rw [mup_f (by decide), mup_f (by decide), mup_f (by decide), mup_f (by decide), mup_f (by decide)]; exact if_pos rfl
      · rw [mup_o (fun w => nc w.symm), mup_f (by decide), mup_s]
  obtain ⟨M3, m1, m2, m3⟩ := lnk
  rw [m3]
  have dne : ∀ q, Sl q → q ≠ n1 := fun a ha w => nSn (by rw [← w]; exact ha)
  have hTf : TI2 (ov r2 (fun q => Sl q ∨ q = n1) cmp2 ks2 H2 M3 C2 rt2 sz2 mc2) A r none nn kk (fun v => v = some (g 10)) it (m + 1) := by
    have o : ∀ q, q < n → ov r2 (fun q => Sl q ∨ q = n1) cmp2 ks2 H2 M3 C2 rt2 sz2 mc2 q = H2 q := fun q hq => by
      by_cases z : q = r2
      · rw [z, ov_r, h1r2]
      · exact ov_o z (fun w => w.elim (fun w => by have := L3 q w; omega) (fun w => by omega))
    exact TI2_fr k2 (fun q hq => o q (hA q hq)) (o it itn)
  have hfo : ∀ q, q < n → q ≠ it → ov r2 (fun q => Sl q ∨ q = n1) cmp2 ks2 H2 M3 C2 rt2 sz2 mc2 q = H q := fun q hq hq2 => by
    by_cases z : q = r2
    · rw [z, ov_r, hr2]
    · rw [ov_o z (fun w => w.elim (fun w => by have := L3 q w; omega) (fun w => by omega))]
      exact h1o q hq hq2
  have hfn : ∀ q, n1 + 1 ≤ q → ov r2 (fun q => Sl q ∨ q = n1) cmp2 ks2 H2 M3 C2 rt2 sz2 mc2 q = none := fun q hq => by
    rw [ov_o (by omega) (fun w => w.elim (fun w => by have := L3 q w; omega) (fun w => by omega))]
    exact h1n q (by omega)
  have hfs : ∀ a, (Sl a ∨ a = n1) → ov r2 (fun q => Sl q ∨ q = n1) cmp2 ks2 H2 M3 C2 rt2 sz2 mc2 a = some (eCell M3 C2 a) := fun a ha => ov_s nrx ha
  have hfr : ov r2 (fun q => Sl q ∨ q = n1) cmp2 ks2 H2 M3 C2 rt2 sz2 mc2 r2 = some (mCell cmp2 rt2 ks2 sz2 mc2) := ov_r
  generalize ov r2 (fun q => Sl q ∨ q = n1) cmp2 ks2 H2 M3 C2 rt2 sz2 mc2 = H3 at hTf hfo hfn hfs hfr
  by_cases q : hi ≤ m
  · -- nothing to the right
    have emh : m = hi := by omega
    rw [if_pos (by rw [iv_le (by omega) (by omega)]; exact q)]
    have jn := TI_join (Sr := fun _ => False) (Mr := fun _ _ => none) (rr := none) (j := hi + 1) (pr := fun _ => 0) (lr := fun _ => 0) (hr := fun _ => 0) (M' := M3) (x := n1) L5 ⟨fun _ a => a.elim, fun _ a => a.elim, fun _ a => a.elim, fun _ a => a.elim, Or.inl ⟨rfl, by omega⟩⟩ nSn (fun w => w) (fun _ w => w.elim)
      (fun q hq => (m1 q hq).1 2 (by decide)) (fun q hq => (m1 q hq).1 3 (by decide)) (fun q hq => (m1 q hq).2) (fun _ w => w.elim) (fun _ w => w.elim) (fun _ w => w.elim) m2.2.2.1 m2.2.2.2.1 m2.2.2.2.2
    refine ⟨H3, n1 + 1, w1 + 7, some n1, _, M3, C2, _, _, _, rfl, by omega, fun a ha => ?_, fun a ha => ?_, jn, c1, fun a ha => ?_, fun i i0 i1 => ?_, fun a b ha hb hab => ?_, by rw [← emh]; exact hTf, hfo, hfn⟩
    · rcases ha with (ha | ha) | ha
      · have := L3 a ha; omega
      · omega
      · exact ha.elim
    · exact hfs a (ha.elim id (fun w => w.elim))
    · rcases ha with (ha | ha) | ha
      · rw [tj_l ha, (m1 a ha).1 0 (by decide), (m1 a ha).1 1 (by decide)]
        exact L7 a ha
      · rw [ha, tj_x nSn (fun w => w)]
        exact ⟨m2.1, m2.2.1⟩
      · exact ha.elim
    · by_cases z : i = m
      · exact ⟨n1, Or.inl (Or.inr rfl), by rw [tj_x nSn (fun w => w)]; exact z.symm⟩
      · obtain ⟨a, a1, a2⟩ := L8 i i0 (by omega)
        exact ⟨a, Or.inl (Or.inl a1), by rw [tj_l a1]; exact a2⟩
    · have gl : ∀ a, Sl a → pl a < m := fun a ha => by have := L5.1 a ha; omega
      rcases ha with (ha | ha) | ha <;> rcases hb with (hb | hb) | hb
      · rw [tj_l ha, tj_l hb] at hab; exact L9 a b ha hb hab
      · rw [tj_l ha, hb, tj_x nSn (fun w => w)] at hab; have := gl a ha; omega
      · exact hb.elim
      · rw [tj_l hb, ha, tj_x nSn (fun w => w)] at hab; have := gl b hb; omega
      · rw [ha, hb]
      · exact hb.elim
      · exact ha.elim
      · exact ha.elim
      · exact ha.elim
  · rw [if_neg (by rw [iv_le (by omega) (by omega)]; exact q)]
    have e1 : iv m + 1 = iv (m + 1) := iv_add m 1
    obtain ⟨H4, n4, w4, rr, Sr, Mr, Cr, pr, lr, hr, a1, a2, a3, a4, a5, a6, a7, a8, a9, a10, a11, a12⟩ := hP H3 (n1 + 1) A r nn kk it (m + 1) hi r2 cmp2 rt2 ks2 sz2 mc2 (lev + 1) red hTf hfr (by omega) (by omega) hfn (fun q hq => by have := hA q hq; omega)
    obtain ⟨c, hrr, sc, c4, -⟩ : ∃ c, rr = some c ∧ Sr c ∧ Mr 4 c = none ∧ True := by
      rcases a5.2.2.2.2 with ⟨-, z⟩ | ⟨c, z1, z2, z3, -⟩
      · omega
      · exact ⟨c, z1, z2, z3, trivial⟩
    have drl : ∀ q, Sr q → ¬ Sl q := fun q hq w => by have := a3 q hq; have := L3 q w; omega
    have drn : ∀ q, Sr q → q ≠ n1 := fun q hq w => by have := a3 q hq; omega
    have nSr : ¬ Sr r2 := fun w => by have := a3 r2 w; omega
    have nSrn : ¬ Sr n1 := fun w => by have := a3 n1 w; omega
    have nr3 : ¬ ((Sl r2 ∨ r2 = n1) ∨ Sr r2) := fun w => w.elim nrx nSr
    have f4 : ∀ a, ((Sl a ∨ a = n1) ∨ Sr a) → H4 a = some (eCell (fun f q => @ite _ (Sr q) (Classical.propDecidable _) (Mr f q) (M3 f q)) (fun q => @ite _ (Sr q) (Classical.propDecidable _) (Cr q) (C2 q)) a) := fun a ha => by
      unfold eCell
      by_cases z : Sr a
      · simp only [if_pos z]
        exact a4 a z
      · simp only [if_neg z]
        have za : Sl a ∨ a = n1 := ha.resolve_right z
        have zl : a < n1 + 1 := za.elim (fun w => by have := L3 a w; omega) (fun w => by omega)
        have zi : a ≠ it := fun w => by rcases za with w2 | w2
                                        · exact nSit (by rw [← w]; exact w2)
                                        · omega
        rw [a11 a zl zi]
        exact hfs a za
    have r4 : H4 r2 = some (mCell cmp2 rt2 ks2 sz2 mc2) := by rw [a11 r2 (by omega) r2it]; exact hfr
    have es4 := ov_self r4 f4
    have sc4 : (fun a => (Sl a ∨ a = n1) ∨ Sr a) c := Or.inr sc
    have sn4 : (fun a => (Sl a ∨ a = n1) ∨ Sr a) n1 := Or.inl (Or.inr rfl)
    rw [e1, c_mon hfr, c_mcall a1 (show w1 + 7 + 21 ≤ 49 by omega), hrr, ← es4, v_p3 nr3 sn4, v_p4 nr3 sc4]
    generalize hM4 : (fun f q => @ite _ (Sr q) (Classical.propDecidable _) (Mr f q) (M3 f q)) = M4
    generalize hC4 : (fun q => @ite _ (Sr q) (Classical.propDecidable _) (Cr q) (C2 q)) = C4
    have m4r : ∀ f q, Sr q → M4 f q = Mr f q := fun f q hq => by rw [← hM4]; exact if_pos hq
    have m4l : ∀ f q, ¬ Sr q → M4 f q = M3 f q := fun f q hq => by rw [← hM4]; exact if_neg hq
    have ncn : c ≠ n1 := drn c sc
    have sll : ∀ q, Sl q → ¬ Sr q := fun q hq w => drl q w hq
    have slc : ∀ q, Sl q → q ≠ c := fun q hq w => drl c sc (by rw [← w]; exact hq)
    have M5l : ∀ f q, Sl q → mup (mup M4 3 n1 (some c)) 4 c (some n1) f q = M3 f q := fun f q hq => by
      rw [mup_o (slc q hq), mup_o (dne q hq)]; exact m4l f q (sll q hq)
    have M5n : ∀ f, f ≠ 3 → mup (mup M4 3 n1 (some c)) 4 c (some n1) f n1 = M3 f n1 := fun f hf => by
      rw [mup_o (fun w => ncn w.symm), mup_f hf]; exact m4l f n1 nSrn
    have M5r : ∀ f q, Sr q → f ≠ 4 → mup (mup M4 3 n1 (some c)) 4 c (some n1) f q = Mr f q := fun f q hq hf => by
      rw [mup_f hf, mup_o (drn q hq)]; exact m4r f q hq
    have jn := TI_join (M' := mup (mup M4 3 n1 (some c)) 4 c (some n1)) (x := n1) L5 a5 nSn nSrn drl
      (fun q hq => (M5l 2 q hq).trans ((m1 q hq).1 2 (by decide))) (fun q hq => (M5l 3 q hq).trans ((m1 q hq).1 3 (by decide))) (fun q hq => (M5l 4 q hq).trans (m1 q hq).2)
      (fun q hq => M5r 2 q hq (by decide)) (fun q hq => M5r 3 q hq (by decide)) (fun q hq => by
        rw [hrr]
        by_cases z : q = c
        · rw [z, mup_s, if_pos rfl]
        · rw [mup_o z, mup_o (drn q hq), if_neg (fun w => z (Option.some.inj w).symm)]; exact m4r 4 q hq)
      ((M5n 2 (by decide)).trans m2.2.2.1) (by rw [mup_o (fun w => ncn w.symm), mup_s, hrr]) ((M5n 4 (by decide)).trans m2.2.2.2.2)
    have okC4 : okC C4 := fun q => by
      rw [← hC4]
      by_cases z : Sr q
      · simp only [if_pos z]; exact a6 q
      · simp only [if_neg z]; exact c1 q
    refine ⟨ov r2 (fun a => (Sl a ∨ a = n1) ∨ Sr a) cmp2 ks2 H4 (mup (mup M4 3 n1 (some c)) 4 c (some n1)) C4 rt2 sz2 mc2, n4, w1 + 7 + 21, some n1, _, mup (mup M4 3 n1 (some c)) 4 c (some n1), C4, _, _, _, rfl, by omega, fun a ha => ?_, fun a ha => ov_s nr3 ha, jn, okC4, fun a ha => ?_, fun i i0 i1 => ?_, fun a b ha hb hab => ?_, ?_, fun q q1 q2 => ?_, fun q q1 => ?_⟩
    · rcases ha with (ha | ha) | ha
      · have := L3 a ha; omega
      · omega
      · have := a3 a ha; omega
    · rcases ha with (ha | ha) | ha
      · rw [tj_l ha, M5l 0 a ha, M5l 1 a ha, (m1 a ha).1 0 (by decide), (m1 a ha).1 1 (by decide)]
        exact L7 a ha
      · rw [ha, tj_x nSn nSrn, M5n 0 (by decide), M5n 1 (by decide)]
        exact ⟨m2.1, m2.2.1⟩
      · rw [tj_r (drl a ha) ha, M5r 0 a ha (by decide), M5r 1 a ha (by decide)]
        exact a7 a ha
    · by_cases z : i = m
      · exact ⟨n1, Or.inl (Or.inr rfl), by rw [tj_x nSn nSrn]; exact z.symm⟩
      · by_cases z2 : i < m
        · obtain ⟨a, y1, y2⟩ := L8 i i0 z2
          exact ⟨a, Or.inl (Or.inl y1), by rw [tj_l y1]; exact y2⟩
        · obtain ⟨a, y1, y2⟩ := a8 i (by omega) i1
          exact ⟨a, Or.inr y1, by rw [tj_r (drl a y1) y1]; exact y2⟩
    · have gl : ∀ a, Sl a → pl a < m := fun a ha => by have := L5.1 a ha; omega
      have gr : ∀ a, Sr a → m < pr a := fun a ha => by have := a5.1 a ha; omega
      rcases ha with (ha | ha) | ha <;> rcases hb with (hb | hb) | hb
      · rw [tj_l ha, tj_l hb] at hab; exact L9 a b ha hb hab
      · rw [tj_l ha, hb, tj_x nSn nSrn] at hab; have := gl a ha; omega
      · rw [tj_l ha, tj_r (drl b hb) hb] at hab; have := gl a ha; have := gr b hb; omega
      · rw [tj_l hb, ha, tj_x nSn nSrn] at hab; have := gl b hb; omega
      · rw [ha, hb]
      · rw [ha, tj_x nSn nSrn, tj_r (drl b hb) hb] at hab; have := gr b hb; omega
      · rw [tj_r (drl a ha) ha, tj_l hb] at hab; have := gl b hb; have := gr a ha; omega
      · rw [tj_r (drl a ha) ha, hb, tj_x nSn nSrn] at hab; have := gr a ha; omega
      · rw [tj_r (drl a ha) ha, tj_r (drl b hb) hb] at hab; exact a9 a b ha hb hab
    · have o : ∀ q, q < n → ov r2 (fun a => (Sl a ∨ a = n1) ∨ Sr a) cmp2 ks2 H4 (mup (mup M4 3 n1 (some c)) 4 c (some n1)) C4 rt2 sz2 mc2 q = H4 q := fun q hq => by
        by_cases z : q = r2
        · rw [z, ov_r, r4]
        · exact ov_o z (fun w => w.elim (fun w => w.elim (fun w => by have := L3 q w; omega) (fun w => by omega)) (fun w => by have := a3 q w; omega))
      exact TI2_fr a10 (fun q hq => o q (hA q hq)) (o it itn)
    · by_cases z : q = r2
      · rw [z, ov_r, hr2]
      · rw [ov_o z (fun w => w.elim (fun w => w.elim (fun w => by have := L3 q w; omega) (fun w => by omega)) (fun w => by have := a3 q w; omega)), a11 q (by omega) q2]
        exact hfo q q1 q2
    · rw [ov_o (by omega) (fun w => w.elim (fun w => w.elim (fun w => by have := L3 q w; omega) (fun w => by omega)) (fun w => by have := a3 q w; omega))]
      exact a12 q q1
theorem bf_3 {g : Nat → Nat} (hP : bfP g 7 (fJ6_buildFromSorted_2_2 g)) : bfP g 15 (fJ6_buildFromSorted_2_3 g) := by
  intro H n A r nn kk it lo hi r2 cmp2 rt2 ks2 sz2 mc2 lev red hT hr2 hb hsz hn hA
  unfold fJ6_buildFromSorted_2_3
  by_cases he0 : ¬ lo ≤ hi
  · have he := he0
    rw [if_neg (by rw [iv_le (by omega) (by omega)]; exact he)]
    exact bfO_0 hT hn (by omega)
  have he : lo ≤ hi := Classical.not_not.mp he0
  rw [if_pos (by rw [iv_le (by omega) (by omega)]; exact he)]
  have emid : iushr (iv lo + iv hi) 1 = iv ((lo + hi) / 2) := by
    rw [iv_add]
    exact half_v (by omega)
  have hm : lo ≤ (lo + hi) / 2 ∧ (lo + hi) / 2 ≤ hi ∧ ((lo + hi) / 2 - lo ≤ 7) ∧ hi - (lo + hi) / 2 ≤ 7 := by omega
  rw [emid]
  generalize (lo + hi) / 2 = m at hm
  have hlt : ∀ q, H q ≠ none → q < n := fun q hq => Classical.byContradiction (fun w => hq (hn q (by omega)))
  have r2n : r2 < n := hlt r2 (by rw [hr2]; exact fun w => by cases w)
  -- the left part
  have left : ∃ (H1 : Nat → Option hC) (n1 w1 : Nat) (rl : Option Nat) (Sl : Nat → Prop) (Ml : Nat → Nat → Option Nat) (Cl : Nat → Int32) (pl ll hl : Nat → Int), (∀ K : Option Nat → HM (Option Nat), mjn K (fun J => if iv m ≤ iv lo then J none else (mb (mon 18 (some r2) (mcall 105 49 (fJ6_buildFromSorted_2_2 g (some r2) (lev + 1) (iv lo) (iv m - 1) red (some it) none (some (g 10))))) fun x11 => J x11)) (H, n, 0) = K rl (H1, n1, w1)) ∧ w1 ≤ 49 ∧ n ≤ n1 ∧ (∀ a, Sl a → n ≤ a ∧ a < n1) ∧ (∀ a, Sl a → H1 a = some (eCell Ml Cl a)) ∧ TI Sl Ml rl lo m pl ll hl ∧ okC Cl ∧
      (∀ a, Sl a → Ml 0 a = some (kk (pl a)) ∧ Ml 1 a = some (g 10)) ∧ (∀ i, lo ≤ i → i < m → ∃ a, Sl a ∧ pl a = i) ∧ inj Sl pl ∧ TI2 H1 A r none nn kk (fun v => v = some (g 10)) it m ∧ (∀ q, q < n → q ≠ it → H1 q = H q) ∧ ∀ q, n1 ≤ q → H1 q = none := by
    by_cases q : m ≤ lo
    · have eml : m = lo := by omega
      refine ⟨H, n, 0, none, fun _ => False, fun _ _ => none, fun _ => 0, fun _ => 0, fun _ => 0, fun _ => 0, fun J => by rw [mjn_b, if_pos (by rw [iv_le (by omega) (by omega)]; exact q)], Nat.zero_le _, Nat.le_refl n, fun _ a => a.elim, fun _ a => a.elim, ⟨fun _ a => a.elim, fun _ a => a.elim, fun _ a => a.elim, fun _ a => a.elim, Or.inl ⟨rfl, eml.symm⟩⟩, fun _ => Or.inl rfl, fun _ a => a.elim, fun i a b => by omega, fun _ _ a => a.elim, by rw [eml]; exact hT, fun _ _ _ => rfl, hn⟩
    · obtain ⟨H1, n1, w1, rl, Sl, Ml, Cl, pl, ll, hl, a1, a2, a3, a4, a5, a6, a7, a8, a9, a10, a11, a12⟩ := hP H n A r nn kk it lo (m - 1) r2 cmp2 rt2 ks2 sz2 mc2 (lev + 1) red hT hr2 (by omega) (by omega) hn hA
      rw [show m - 1 + 1 = m by omega] at a5 a10
      refine ⟨H1, n1, 0 + 49, rl, Sl, Ml, Cl, pl, ll, hl, fun J => ?_, by omega, a2, a3, a4, a5, a6, a7, fun i i0 i1 => a8 i i0 (by omega), a9, a10, a11, a12⟩
      rw [mjn_b, if_neg (by rw [iv_le (by omega) (by omega)]; exact q)]
      have e1 : iv m - 1 = iv (m - 1) := iv_sub m 1
      rw [e1, c_mon hr2, c_mcall a1 (by decide)]
  obtain ⟨H1, n1, w1, rl, Sl, Ml, Cl, pl, ll, hl, L0, L1, L2, L3, L4, L5, L6, L7, L8, L9, L10, L11, L12⟩ := left
  have itn : it < n := by
    obtain ⟨-, _, _, _, _, _, _, _, _, _, _, _, -, -, -, -, -, -, z⟩ := hT
    exact hlt it (by rw [z]; exact fun w => by cases w)
  refine (show bfO g H n A r nn kk it lo hi _ from ?_)
  rw [L0]
  -- the middle key
  obtain ⟨xc, k1, k2⟩ := J21_next_c (β := Option Nat) (K := fun (x6 : Option Nat) => mb (nO 105 19 [.null, .null, .null, .null, .null, .int 0]) fun x4 => mb (mnn x4) fun _ => mb (mcall0 (fJ25_init g x4 x6 (some (g 10)) none)) fun _ => mjn0 (mjn0 (if iv hi ≤ iv m then (mret x4) else (mb (mon 18 (some r2) (mcall 105 49 (fJ6_buildFromSorted_2_2 g (some r2) (lev + 1) (iv m + 1) (iv hi) red (some it) none (some (g 10))))) fun x6 => mb (pR 19 3 x4 x6) fun _ => mb (pR 19 4 x6 x4) fun _ => mret x4)) fun j173 => if rl = none then (j173) else (mb (pR 19 2 x4 rl) fun _ => mb (pR 19 4 rl x4) fun _ => j173)) fun j154 => if lev = red then (mb (pZ 19 5 x4 0) fun _ => j154) else (j154)) (g := g) (n := n1) (w := w1) L10 (by omega)
  rw [mjn2_b, if_neg (fun w => by cases w), if_neg (fun w => by cases w), k1]
  have nSit : ¬ Sl it := fun w => by have := L3 it w; omega
  have nSr2 : ¬ Sl r2 := fun w => by have := L3 r2 w; omega
  have nSn : ¬ Sl n1 := fun w => by have := L3 n1 w; omega
  have r2it : r2 ≠ it := fun w => by
    obtain ⟨-, _, _, _, _, _, _, _, _, _, _, _, -, -, -, -, -, -, z⟩ := hT
    rw [← w, hr2] at z; cases z
  have n1r2 : n1 ≠ r2 := by omega
  have h1r2 : hset H1 it xc r2 = some (mCell cmp2 rt2 ks2 sz2 mc2) := by rw [hset_ne r2it, L11 r2 r2n r2it]; exact hr2
  have h1S : ∀ a, Sl a → hset H1 it xc a = some (eCell Ml Cl a) := fun a ha => by rw [hset_ne (fun w => nSit (by rw [← w]; exact ha))]; exact L4 a ha
  have h1n : ∀ q, n1 ≤ q → hset H1 it xc q = none := fun q hq => by rw [hset_ne (by omega)]; exact L12 q hq
  have h1o : ∀ q, q < n → q ≠ it → hset H1 it xc q = H q := fun q q1 q2 => by rw [hset_ne q2]; exact L11 q q1 q2
  generalize hset H1 it xc = H2 at k2 h1r2 h1S h1n h1o
  have es := ov_self h1r2 h1S
  have nrx : ¬ (Sl r2 ∨ r2 = n1) := fun w => w.elim nSr2 (fun z => n1r2 z.symm)
  have sn1 : (fun q => Sl q ∨ q = n1) n1 := Or.inr rfl
  rw [← es, c_nE (show w1 + 7 ≤ 105 by omega), ov_new n1r2 nSn, c_mnn, J25_init_c nrx sn1, mjn0_b, mjn0_b]
  -- its colour
  have col : ∃ C2 : Nat → Int32, okC C2 ∧ (∀ a, Sl a → C2 a = Cl a) ∧ ∀ (M : Nat → Nat → Option Nat) (J : HM (Option Nat)) (u : Nat), (if lev = red then (mb (pZ 19 5 (some n1) 0) fun _ => J) else J) (ov r2 (fun q => Sl q ∨ q = n1) cmp2 ks2 H2 M (cup (cup Cl n1 0) n1 1) rt2 sz2 mc2, n1 + 1, u) = J (ov r2 (fun q => Sl q ∨ q = n1) cmp2 ks2 H2 M C2 rt2 sz2 mc2, n1 + 1, u) := by
    have hne : ∀ a, Sl a → a ≠ n1 := fun a ha w => nSn (by rw [← w]; exact ha)
    have hk1 : okC (cup (cup Cl n1 0) n1 1) := okC_up (okC_up L6 (Or.inl rfl)) (Or.inr rfl)
    by_cases z : lev = red
    · refine ⟨cup (cup (cup Cl n1 0) n1 1) n1 0, okC_up hk1 (Or.inl rfl), fun a ha => ?_, fun M J u => by rw [if_pos z, v_p5 nrx sn1 (Or.inl rfl)]⟩
      unfold cup
      rw [if_neg (hne a ha), if_neg (hne a ha), if_neg (hne a ha)]
    · refine ⟨_, hk1, fun a ha => ?_, fun M J u => by rw [if_neg z]⟩
      unfold cup
      rw [if_neg (hne a ha), if_neg (hne a ha)]
  obtain ⟨C2, c1, c2, c3⟩ := col
  rw [c3]
  -- the left child
  have lnk : ∃ M3 : Nat → Nat → Option Nat, (∀ q, Sl q → (∀ f, f < 4 → M3 f q = Ml f q) ∧ M3 4 q = if rl = some q then some n1 else Ml 4 q) ∧ (M3 0 n1 = some (kk m) ∧ M3 1 n1 = some (g 10) ∧ M3 2 n1 = rl ∧ M3 3 n1 = none ∧ M3 4 n1 = none) ∧
      ∀ (J : HM (Option Nat)) (u : Nat), (if rl = none then J else (mb (pR 19 2 (some n1) rl) fun _ => mb (pR 19 4 rl (some n1)) fun _ => J)) (ov r2 (fun q => Sl q ∨ q = n1) cmp2 ks2 H2 (mup (mup (mup (fun f q => if q = n1 then none else Ml f q) 0 n1 (some (kk m))) 1 n1 (some (g 10))) 4 n1 none) C2 rt2 sz2 mc2, n1 + 1, u) = J (ov r2 (fun q => Sl q ∨ q = n1) cmp2 ks2 H2 M3 C2 rt2 sz2 mc2, n1 + 1, u) := by
    have hne : ∀ a, Sl a → a ≠ n1 := fun a ha w => nSn (by rw [← w]; exact ha)
    have m0 : ∀ f q, Sl q → (mup (mup (mup (fun f q => if q = n1 then none else Ml f q) 0 n1 (some (kk m))) 1 n1 (some (g 10))) 4 n1 none) f q = Ml f q := fun f q hq => by
      rw [mup_o (hne q hq), mup_o (hne q hq), mup_o (hne q hq)]
      exact if_neg (hne q hq)
    cases hrl : rl with
    | none =>
      refine ⟨_, fun q hq => ⟨fun f _ => m0 f q hq, by rw [if_neg (fun w => by cases w)]; exact m0 4 q hq⟩, ⟨by rw [mup_f (by decide), mup_f (by decide), mup_s], by rw [mup_f (by decide), mup_s], by rw [mup_f (by decide), mup_f (by decide), mup_f (by decide)]; exact if_pos rfl, by rw [mup_f (by decide), mup_f (by decide), mup_f (by decide)]; exact if_pos rfl, by rw [mup_s]⟩, fun J u => by rw [if_pos rfl]⟩
    | some c =>
      have sc := (TI_rt L5 hrl).1
      have nc := hne c sc
      refine ⟨mup (mup (mup (mup (mup (fun f q => if q = n1 then none else Ml f q) 0 n1 (some (kk m))) 1 n1 (some (g 10))) 4 n1 none) 2 n1 (some c)) 4 c (some n1), fun q hq => ⟨fun f hf => ?_, ?_⟩, ⟨?_, ?_, ?_, ?_, ?_⟩, fun J u => by rw [if_neg (fun w => by cases w), v_p2 nrx sn1, v_p4 nrx (Or.inl sc)]⟩
      · rw [mup_f (by omega), mup_o (hne q hq)]; exact m0 f q hq
      · by_cases z : q = c
        · rw [z, mup_s, if_pos rfl]
        · rw [mup_o z, mup_o (hne q hq), if_neg (fun w => z (Option.some.inj w).symm)]; exact m0 4 q hq
      · rw [mup_f (by decide), mup_f (by decide), mup_f (by decide), mup_f (by decide), mup_s]
      · rw [mup_f (by decide), mup_f (by decide), mup_f (by decide), mup_s]
      · rw [mup_f (by decide), mup_s]
      · rw [mup_f (by decide), mup_f (by decide), mup_f (by decide), mup_f (by decide), mup_f (by decide)]; exact if_pos rfl
      · rw [mup_o (fun w => nc w.symm), mup_f (by decide), mup_s]
  obtain ⟨M3, m1, m2, m3⟩ := lnk
  rw [m3]
  have dne : ∀ q, Sl q → q ≠ n1 := fun a ha w => nSn (by rw [← w]; exact ha)
  have hTf : TI2 (ov r2 (fun q => Sl q ∨ q = n1) cmp2 ks2 H2 M3 C2 rt2 sz2 mc2) A r none nn kk (fun v => v = some (g 10)) it (m + 1) := by
    have o : ∀ q, q < n → ov r2 (fun q => Sl q ∨ q = n1) cmp2 ks2 H2 M3 C2 rt2 sz2 mc2 q = H2 q := fun q hq => by
      by_cases z : q = r2
      · rw [z, ov_r, h1r2]
      · exact ov_o z (fun w => w.elim (fun w => by have := L3 q w; omega) (fun w => by omega))
    exact TI2_fr k2 (fun q hq => o q (hA q hq)) (o it itn)
  have hfo : ∀ q, q < n → q ≠ it → ov r2 (fun q => Sl q ∨ q = n1) cmp2 ks2 H2 M3 C2 rt2 sz2 mc2 q = H q := fun q hq hq2 => by
    by_cases z : q = r2
    · rw [z, ov_r, hr2]
    · rw [ov_o z (fun w => w.elim (fun w => by have := L3 q w; omega) (fun w => by omega))]
      exact h1o q hq hq2
  have hfn : ∀ q, n1 + 1 ≤ q → ov r2 (fun q => Sl q ∨ q = n1) cmp2 ks2 H2 M3 C2 rt2 sz2 mc2 q = none := fun q hq => by
    rw [ov_o (by omega) (fun w => w.elim (fun w => by have := L3 q w; omega) (fun w => by omega))]
    exact h1n q (by omega)
  have hfs : ∀ a, (Sl a ∨ a = n1) → ov r2 (fun q => Sl q ∨ q = n1) cmp2 ks2 H2 M3 C2 rt2 sz2 mc2 a = some (eCell M3 C2 a) := fun a ha => ov_s nrx ha
  have hfr : ov r2 (fun q => Sl q ∨ q = n1) cmp2 ks2 H2 M3 C2 rt2 sz2 mc2 r2 = some (mCell cmp2 rt2 ks2 sz2 mc2) := ov_r
  generalize ov r2 (fun q => Sl q ∨ q = n1) cmp2 ks2 H2 M3 C2 rt2 sz2 mc2 = H3 at hTf hfo hfn hfs hfr
  by_cases q : hi ≤ m
  · -- nothing to the right
    have emh : m = hi := by omega
    rw [if_pos (by rw [iv_le (by omega) (by omega)]; exact q)]
    have jn := TI_join (Sr := fun _ => False) (Mr := fun _ _ => none) (rr := none) (j := hi + 1) (pr := fun _ => 0) (lr := fun _ => 0) (hr := fun _ => 0) (M' := M3) (x := n1) L5 ⟨fun _ a => a.elim, fun _ a => a.elim, fun _ a => a.elim, fun _ a => a.elim, Or.inl ⟨rfl, by omega⟩⟩ nSn (fun w => w) (fun _ w => w.elim)
      (fun q hq => (m1 q hq).1 2 (by decide)) (fun q hq => (m1 q hq).1 3 (by decide)) (fun q hq => (m1 q hq).2) (fun _ w => w.elim) (fun _ w => w.elim) (fun _ w => w.elim) m2.2.2.1 m2.2.2.2.1 m2.2.2.2.2
    refine ⟨H3, n1 + 1, w1 + 7, some n1, _, M3, C2, _, _, _, rfl, by omega, fun a ha => ?_, fun a ha => ?_, jn, c1, fun a ha => ?_, fun i i0 i1 => ?_, fun a b ha hb hab => ?_, by rw [← emh]; exact hTf, hfo, hfn⟩
    · rcases ha with (ha | ha) | ha
      · have := L3 a ha; omega
      · omega
      · exact ha.elim
    · exact hfs a (ha.elim id (fun w => w.elim))
    · rcases ha with (ha | ha) | ha
      · rw [tj_l ha, (m1 a ha).1 0 (by decide), (m1 a ha).1 1 (by decide)]
        exact L7 a ha
      · rw [ha, tj_x nSn (fun w => w)]
        exact ⟨m2.1, m2.2.1⟩
      · exact ha.elim
    · by_cases z : i = m
      · exact ⟨n1, Or.inl (Or.inr rfl), by rw [tj_x nSn (fun w => w)]; exact z.symm⟩
      · obtain ⟨a, a1, a2⟩ := L8 i i0 (by omega)
        exact ⟨a, Or.inl (Or.inl a1), by rw [tj_l a1]; exact a2⟩
    · have gl : ∀ a, Sl a → pl a < m := fun a ha => by have := L5.1 a ha; omega
      rcases ha with (ha | ha) | ha <;> rcases hb with (hb | hb) | hb
      · rw [tj_l ha, tj_l hb] at hab; exact L9 a b ha hb hab
      · rw [tj_l ha, hb, tj_x nSn (fun w => w)] at hab; have := gl a ha; omega
      · exact hb.elim
      · rw [tj_l hb, ha, tj_x nSn (fun w => w)] at hab; have := gl b hb; omega
      · rw [ha, hb]
      · exact hb.elim
      · exact ha.elim
      · exact ha.elim
      · exact ha.elim
  · rw [if_neg (by rw [iv_le (by omega) (by omega)]; exact q)]
    have e1 : iv m + 1 = iv (m + 1) := iv_add m 1
    obtain ⟨H4, n4, w4, rr, Sr, Mr, Cr, pr, lr, hr, a1, a2, a3, a4, a5, a6, a7, a8, a9, a10, a11, a12⟩ := hP H3 (n1 + 1) A r nn kk it (m + 1) hi r2 cmp2 rt2 ks2 sz2 mc2 (lev + 1) red hTf hfr (by omega) (by omega) hfn (fun q hq => by have := hA q hq; omega)
    obtain ⟨c, hrr, sc, c4, -⟩ : ∃ c, rr = some c ∧ Sr c ∧ Mr 4 c = none ∧ True := by
      rcases a5.2.2.2.2 with ⟨-, z⟩ | ⟨c, z1, z2, z3, -⟩
      · omega
      · exact ⟨c, z1, z2, z3, trivial⟩
    have drl : ∀ q, Sr q → ¬ Sl q := fun q hq w => by have := a3 q hq; have := L3 q w; omega
    have drn : ∀ q, Sr q → q ≠ n1 := fun q hq w => by have := a3 q hq; omega
    have nSr : ¬ Sr r2 := fun w => by have := a3 r2 w; omega
    have nSrn : ¬ Sr n1 := fun w => by have := a3 n1 w; omega
    have nr3 : ¬ ((Sl r2 ∨ r2 = n1) ∨ Sr r2) := fun w => w.elim nrx nSr
    have f4 : ∀ a, ((Sl a ∨ a = n1) ∨ Sr a) → H4 a = some (eCell (fun f q => @ite _ (Sr q) (Classical.propDecidable _) (Mr f q) (M3 f q)) (fun q => @ite _ (Sr q) (Classical.propDecidable _) (Cr q) (C2 q)) a) := fun a ha => by
      unfold eCell
      by_cases z : Sr a
      · simp only [if_pos z]
        exact a4 a z
      · simp only [if_neg z]
        have za : Sl a ∨ a = n1 := ha.resolve_right z
        have zl : a < n1 + 1 := za.elim (fun w => by have := L3 a w; omega) (fun w => by omega)
        have zi : a ≠ it := fun w => by rcases za with w2 | w2
                                        · exact nSit (by rw [← w]; exact w2)
                                        · omega
        rw [a11 a zl zi]
        exact hfs a za
    have r4 : H4 r2 = some (mCell cmp2 rt2 ks2 sz2 mc2) := by rw [a11 r2 (by omega) r2it]; exact hfr
    have es4 := ov_self r4 f4
    have sc4 : (fun a => (Sl a ∨ a = n1) ∨ Sr a) c := Or.inr sc
    have sn4 : (fun a => (Sl a ∨ a = n1) ∨ Sr a) n1 := Or.inl (Or.inr rfl)
    rw [e1, c_mon hfr, c_mcall a1 (show w1 + 7 + 49 ≤ 105 by omega), hrr, ← es4, v_p3 nr3 sn4, v_p4 nr3 sc4]
    generalize hM4 : (fun f q => @ite _ (Sr q) (Classical.propDecidable _) (Mr f q) (M3 f q)) = M4
    generalize hC4 : (fun q => @ite _ (Sr q) (Classical.propDecidable _) (Cr q) (C2 q)) = C4
    have m4r : ∀ f q, Sr q → M4 f q = Mr f q := fun f q hq => by rw [← hM4]; exact if_pos hq
    have m4l : ∀ f q, ¬ Sr q → M4 f q = M3 f q := fun f q hq => by rw [← hM4]; exact if_neg hq
    have ncn : c ≠ n1 := drn c sc
    have sll : ∀ q, Sl q → ¬ Sr q := fun q hq w => drl q w hq
    have slc : ∀ q, Sl q → q ≠ c := fun q hq w => drl c sc (by rw [← w]; exact hq)
    have M5l : ∀ f q, Sl q → mup (mup M4 3 n1 (some c)) 4 c (some n1) f q = M3 f q := fun f q hq => by
      rw [mup_o (slc q hq), mup_o (dne q hq)]; exact m4l f q (sll q hq)
    have M5n : ∀ f, f ≠ 3 → mup (mup M4 3 n1 (some c)) 4 c (some n1) f n1 = M3 f n1 := fun f hf => by
      rw [mup_o (fun w => ncn w.symm), mup_f hf]; exact m4l f n1 nSrn
    have M5r : ∀ f q, Sr q → f ≠ 4 → mup (mup M4 3 n1 (some c)) 4 c (some n1) f q = Mr f q := fun f q hq hf => by
      rw [mup_f hf, mup_o (drn q hq)]; exact m4r f q hq
    have jn := TI_join (M' := mup (mup M4 3 n1 (some c)) 4 c (some n1)) (x := n1) L5 a5 nSn nSrn drl
      (fun q hq => (M5l 2 q hq).trans ((m1 q hq).1 2 (by decide))) (fun q hq => (M5l 3 q hq).trans ((m1 q hq).1 3 (by decide))) (fun q hq => (M5l 4 q hq).trans (m1 q hq).2)
      (fun q hq => M5r 2 q hq (by decide)) (fun q hq => M5r 3 q hq (by decide)) (fun q hq => by
        rw [hrr]
        by_cases z : q = c
        · rw [z, mup_s, if_pos rfl]
        · rw [mup_o z, mup_o (drn q hq), if_neg (fun w => z (Option.some.inj w).symm)]; exact m4r 4 q hq)
      ((M5n 2 (by decide)).trans m2.2.2.1) (by rw [mup_o (fun w => ncn w.symm), mup_s, hrr]) ((M5n 4 (by decide)).trans m2.2.2.2.2)
    have okC4 : okC C4 := fun q => by
      rw [← hC4]
      by_cases z : Sr q
      · simp only [if_pos z]; exact a6 q
      · simp only [if_neg z]; exact c1 q
    refine ⟨ov r2 (fun a => (Sl a ∨ a = n1) ∨ Sr a) cmp2 ks2 H4 (mup (mup M4 3 n1 (some c)) 4 c (some n1)) C4 rt2 sz2 mc2, n4, w1 + 7 + 49, some n1, _, mup (mup M4 3 n1 (some c)) 4 c (some n1), C4, _, _, _, rfl, by omega, fun a ha => ?_, fun a ha => ov_s nr3 ha, jn, okC4, fun a ha => ?_, fun i i0 i1 => ?_, fun a b ha hb hab => ?_, ?_, fun q q1 q2 => ?_, fun q q1 => ?_⟩
    · rcases ha with (ha | ha) | ha
      · have := L3 a ha; omega
      · omega
      · have := a3 a ha; omega
    · rcases ha with (ha | ha) | ha
      · rw [tj_l ha, M5l 0 a ha, M5l 1 a ha, (m1 a ha).1 0 (by decide), (m1 a ha).1 1 (by decide)]
        exact L7 a ha
      · rw [ha, tj_x nSn nSrn, M5n 0 (by decide), M5n 1 (by decide)]
        exact ⟨m2.1, m2.2.1⟩
      · rw [tj_r (drl a ha) ha, M5r 0 a ha (by decide), M5r 1 a ha (by decide)]
        exact a7 a ha
    · by_cases z : i = m
      · exact ⟨n1, Or.inl (Or.inr rfl), by rw [tj_x nSn nSrn]; exact z.symm⟩
      · by_cases z2 : i < m
        · obtain ⟨a, y1, y2⟩ := L8 i i0 z2
          exact ⟨a, Or.inl (Or.inl y1), by rw [tj_l y1]; exact y2⟩
        · obtain ⟨a, y1, y2⟩ := a8 i (by omega) i1
          exact ⟨a, Or.inr y1, by rw [tj_r (drl a y1) y1]; exact y2⟩
    · have gl : ∀ a, Sl a → pl a < m := fun a ha => by have := L5.1 a ha; omega
      have gr : ∀ a, Sr a → m < pr a := fun a ha => by have := a5.1 a ha; omega
      rcases ha with (ha | ha) | ha <;> rcases hb with (hb | hb) | hb
      · rw [tj_l ha, tj_l hb] at hab; exact L9 a b ha hb hab
      · rw [tj_l ha, hb, tj_x nSn nSrn] at hab; have := gl a ha; omega
      · rw [tj_l ha, tj_r (drl b hb) hb] at hab; have := gl a ha; have := gr b hb; omega
      · rw [tj_l hb, ha, tj_x nSn nSrn] at hab; have := gl b hb; omega
      · rw [ha, hb]
      · rw [ha, tj_x nSn nSrn, tj_r (drl b hb) hb] at hab; have := gr b hb; omega
      · rw [tj_r (drl a ha) ha, tj_l hb] at hab; have := gl b hb; have := gr a ha; omega
      · rw [tj_r (drl a ha) ha, hb, tj_x nSn nSrn] at hab; have := gr a ha; omega
      · rw [tj_r (drl a ha) ha, tj_r (drl b hb) hb] at hab; exact a9 a b ha hb hab
    · have o : ∀ q, q < n → ov r2 (fun a => (Sl a ∨ a = n1) ∨ Sr a) cmp2 ks2 H4 (mup (mup M4 3 n1 (some c)) 4 c (some n1)) C4 rt2 sz2 mc2 q = H4 q := fun q hq => by
        by_cases z : q = r2
        · rw [z, ov_r, r4]
        · exact ov_o z (fun w => w.elim (fun w => w.elim (fun w => by have := L3 q w; omega) (fun w => by omega)) (fun w => by have := a3 q w; omega))
      exact TI2_fr a10 (fun q hq => o q (hA q hq)) (o it itn)
    · by_cases z : q = r2
      · rw [z, ov_r, hr2]
      · rw [ov_o z (fun w => w.elim (fun w => w.elim (fun w => by have := L3 q w; omega) (fun w => by omega)) (fun w => by have := a3 q w; omega)), a11 q (by omega) q2]
        exact hfo q q1 q2
    · rw [ov_o (by omega) (fun w => w.elim (fun w => w.elim (fun w => by have := L3 q w; omega) (fun w => by omega)) (fun w => by have := a3 q w; omega))]
      exact a12 q q1
theorem bf_4 {g : Nat → Nat} (hP : bfP g 15 (fJ6_buildFromSorted_2_3 g)) : bfP g 31 (fJ6_buildFromSorted_2_4 g) := by
  intro H n A r nn kk it lo hi r2 cmp2 rt2 ks2 sz2 mc2 lev red hT hr2 hb hsz hn hA
  unfold fJ6_buildFromSorted_2_4
  by_cases he0 : ¬ lo ≤ hi
  · have he := he0
    rw [if_neg (by rw [iv_le (by omega) (by omega)]; exact he)]
    exact bfO_0 hT hn (by omega)
  have he : lo ≤ hi := Classical.not_not.mp he0
  rw [if_pos (by rw [iv_le (by omega) (by omega)]; exact he)]
  have emid : iushr (iv lo + iv hi) 1 = iv ((lo + hi) / 2) := by
    rw [iv_add]
    exact half_v (by omega)
  have hm : lo ≤ (lo + hi) / 2 ∧ (lo + hi) / 2 ≤ hi ∧ ((lo + hi) / 2 - lo ≤ 15) ∧ hi - (lo + hi) / 2 ≤ 15 := by omega
  rw [emid]
  generalize (lo + hi) / 2 = m at hm
  have hlt : ∀ q, H q ≠ none → q < n := fun q hq => Classical.byContradiction (fun w => hq (hn q (by omega)))
  have r2n : r2 < n := hlt r2 (by rw [hr2]; exact fun w => by cases w)
  -- the left part
  have left : ∃ (H1 : Nat → Option hC) (n1 w1 : Nat) (rl : Option Nat) (Sl : Nat → Prop) (Ml : Nat → Nat → Option Nat) (Cl : Nat → Int32) (pl ll hl : Nat → Int), (∀ K : Option Nat → HM (Option Nat), mjn K (fun J => if iv m ≤ iv lo then J none else (mb (mon 18 (some r2) (mcall 217 105 (fJ6_buildFromSorted_2_3 g (some r2) (lev + 1) (iv lo) (iv m - 1) red (some it) none (some (g 10))))) fun x11 => J x11)) (H, n, 0) = K rl (H1, n1, w1)) ∧ w1 ≤ 105 ∧ n ≤ n1 ∧ (∀ a, Sl a → n ≤ a ∧ a < n1) ∧ (∀ a, Sl a → H1 a = some (eCell Ml Cl a)) ∧ TI Sl Ml rl lo m pl ll hl ∧ okC Cl ∧
      (∀ a, Sl a → Ml 0 a = some (kk (pl a)) ∧ Ml 1 a = some (g 10)) ∧ (∀ i, lo ≤ i → i < m → ∃ a, Sl a ∧ pl a = i) ∧ inj Sl pl ∧ TI2 H1 A r none nn kk (fun v => v = some (g 10)) it m ∧ (∀ q, q < n → q ≠ it → H1 q = H q) ∧ ∀ q, n1 ≤ q → H1 q = none := by
    by_cases q : m ≤ lo
    · have eml : m = lo := by omega
      refine ⟨H, n, 0, none, fun _ => False, fun _ _ => none, fun _ => 0, fun _ => 0, fun _ => 0, fun _ => 0, fun J => by rw [mjn_b, if_pos (by rw [iv_le (by omega) (by omega)]; exact q)], Nat.zero_le _, Nat.le_refl n, fun _ a => a.elim, fun _ a => a.elim, ⟨fun _ a => a.elim, fun _ a => a.elim, fun _ a => a.elim, fun _ a => a.elim, Or.inl ⟨rfl, eml.symm⟩⟩, fun _ => Or.inl rfl, fun _ a => a.elim, fun i a b => by omega, fun _ _ a => a.elim, by rw [eml]; exact hT, fun _ _ _ => rfl, hn⟩
    · obtain ⟨H1, n1, w1, rl, Sl, Ml, Cl, pl, ll, hl, a1, a2, a3, a4, a5, a6, a7, a8, a9, a10, a11, a12⟩ := hP H n A r nn kk it lo (m - 1) r2 cmp2 rt2 ks2 sz2 mc2 (lev + 1) red hT hr2 (by omega) (by omega) hn hA
      rw [show m - 1 + 1 = m by omega] at a5 a10
      refine ⟨H1, n1, 0 + 105, rl, Sl, Ml, Cl, pl, ll, hl, fun J => ?_, by omega, a2, a3, a4, a5, a6, a7, fun i i0 i1 => a8 i i0 (by omega), a9, a10, a11, a12⟩
      rw [mjn_b, if_neg (by rw [iv_le (by omega) (by omega)]; exact q)]
      have e1 : iv m - 1 = iv (m - 1) := iv_sub m 1
      rw [e1, c_mon hr2, c_mcall a1 (by decide)]
  obtain ⟨H1, n1, w1, rl, Sl, Ml, Cl, pl, ll, hl, L0, L1, L2, L3, L4, L5, L6, L7, L8, L9, L10, L11, L12⟩ := left
  have itn : it < n := by
    obtain ⟨-, _, _, _, _, _, _, _, _, _, _, _, -, -, -, -, -, -, z⟩ := hT
    exact hlt it (by rw [z]; exact fun w => by cases w)
  refine (show bfO g H n A r nn kk it lo hi _ from ?_)
  rw [L0]
  -- the middle key
  obtain ⟨xc, k1, k2⟩ := J21_next_c (β := Option Nat) (K := fun (x6 : Option Nat) => mb (nO 217 19 [.null, .null, .null, .null, .null, .int 0]) fun x4 => mb (mnn x4) fun _ => mb (mcall0 (fJ25_init g x4 x6 (some (g 10)) none)) fun _ => mjn0 (mjn0 (if iv hi ≤ iv m then (mret x4) else (mb (mon 18 (some r2) (mcall 217 105 (fJ6_buildFromSorted_2_3 g (some r2) (lev + 1) (iv m + 1) (iv hi) red (some it) none (some (g 10))))) fun x6 => mb (pR 19 3 x4 x6) fun _ => mb (pR 19 4 x6 x4) fun _ => mret x4)) fun j173 => if rl = none then (j173) else (mb (pR 19 2 x4 rl) fun _ => mb (pR 19 4 rl x4) fun _ => j173)) fun j154 => if lev = red then (mb (pZ 19 5 x4 0) fun _ => j154) else (j154)) (g := g) (n := n1) (w := w1) L10 (by omega)
  rw [mjn2_b, if_neg (fun w => by cases w), if_neg (fun w => by cases w), k1]
  have nSit : ¬ Sl it := fun w => by have := L3 it w; omega
  have nSr2 : ¬ Sl r2 := fun w => by have := L3 r2 w; omega
  have nSn : ¬ Sl n1 := fun w => by have := L3 n1 w; omega
  have r2it : r2 ≠ it := fun w => by
    obtain ⟨-, _, _, _, _, _, _, _, _, _, _, _, -, -, -, -, -, -, z⟩ := hT
    rw [← w, hr2] at z; cases z
  have n1r2 : n1 ≠ r2 := by omega
  have h1r2 : hset H1 it xc r2 = some (mCell cmp2 rt2 ks2 sz2 mc2) := by rw [hset_ne r2it, L11 r2 r2n r2it]; exact hr2
  have h1S : ∀ a, Sl a → hset H1 it xc a = some (eCell Ml Cl a) := fun a ha => by rw [hset_ne (fun w => nSit (by rw [← w]; exact ha))]; exact L4 a ha
  have h1n : ∀ q, n1 ≤ q → hset H1 it xc q = none := fun q hq => by rw [hset_ne (by omega)]; exact L12 q hq
  have h1o : ∀ q, q < n → q ≠ it → hset H1 it xc q = H q := fun q q1 q2 => by rw [hset_ne q2]; exact L11 q q1 q2
  generalize hset H1 it xc = H2 at k2 h1r2 h1S h1n h1o
  have es := ov_self h1r2 h1S
  have nrx : ¬ (Sl r2 ∨ r2 = n1) := fun w => w.elim nSr2 (fun z => n1r2 z.symm)
  have sn1 : (fun q => Sl q ∨ q = n1) n1 := Or.inr rfl
  rw [← es, c_nE (show w1 + 7 ≤ 217 by omega), ov_new n1r2 nSn, c_mnn, J25_init_c nrx sn1, mjn0_b, mjn0_b]
  -- its colour
  have col : ∃ C2 : Nat → Int32, okC C2 ∧ (∀ a, Sl a → C2 a = Cl a) ∧ ∀ (M : Nat → Nat → Option Nat) (J : HM (Option Nat)) (u : Nat), (if lev = red then (mb (pZ 19 5 (some n1) 0) fun _ => J) else J) (ov r2 (fun q => Sl q ∨ q = n1) cmp2 ks2 H2 M (cup (cup Cl n1 0) n1 1) rt2 sz2 mc2, n1 + 1, u) = J (ov r2 (fun q => Sl q ∨ q = n1) cmp2 ks2 H2 M C2 rt2 sz2 mc2, n1 + 1, u) := by
    have hne : ∀ a, Sl a → a ≠ n1 := fun a ha w => nSn (by rw [← w]; exact ha)
    have hk1 : okC (cup (cup Cl n1 0) n1 1) := okC_up (okC_up L6 (Or.inl rfl)) (Or.inr rfl)
    by_cases z : lev = red
    · refine ⟨cup (cup (cup Cl n1 0) n1 1) n1 0, okC_up hk1 (Or.inl rfl), fun a ha => ?_, fun M J u => by rw [if_pos z, v_p5 nrx sn1 (Or.inl rfl)]⟩
      unfold cup
      rw [if_neg (hne a ha), if_neg (hne a ha), if_neg (hne a ha)]
    · refine ⟨_, hk1, fun a ha => ?_, fun M J u => by rw [if_neg z]⟩
      unfold cup
      rw [if_neg (hne a ha), if_neg (hne a ha)]
  obtain ⟨C2, c1, c2, c3⟩ := col
  rw [c3]
  -- the left child
  have lnk : ∃ M3 : Nat → Nat → Option Nat, (∀ q, Sl q → (∀ f, f < 4 → M3 f q = Ml f q) ∧ M3 4 q = if rl = some q then some n1 else Ml 4 q) ∧ (M3 0 n1 = some (kk m) ∧ M3 1 n1 = some (g 10) ∧ M3 2 n1 = rl ∧ M3 3 n1 = none ∧ M3 4 n1 = none) ∧
      ∀ (J : HM (Option Nat)) (u : Nat), (if rl = none then J else (mb (pR 19 2 (some n1) rl) fun _ => mb (pR 19 4 rl (some n1)) fun _ => J)) (ov r2 (fun q => Sl q ∨ q = n1) cmp2 ks2 H2 (mup (mup (mup (fun f q => if q = n1 then none else Ml f q) 0 n1 (some (kk m))) 1 n1 (some (g 10))) 4 n1 none) C2 rt2 sz2 mc2, n1 + 1, u) = J (ov r2 (fun q => Sl q ∨ q = n1) cmp2 ks2 H2 M3 C2 rt2 sz2 mc2, n1 + 1, u) := by
    have hne : ∀ a, Sl a → a ≠ n1 := fun a ha w => nSn (by rw [← w]; exact ha)
    have m0 : ∀ f q, Sl q → (mup (mup (mup (fun f q => if q = n1 then none else Ml f q) 0 n1 (some (kk m))) 1 n1 (some (g 10))) 4 n1 none) f q = Ml f q := fun f q hq => by
      rw [mup_o (hne q hq), mup_o (hne q hq), mup_o (hne q hq)]
      exact if_neg (hne q hq)
    cases hrl : rl with
    | none =>
      refine ⟨_, fun q hq => ⟨fun f _ => m0 f q hq, by rw [if_neg (fun w => by cases w)]; exact m0 4 q hq⟩, ⟨by rw [mup_f (by decide), mup_f (by decide), mup_s], by rw [mup_f (by decide), mup_s], by rw [mup_f (by decide), mup_f (by decide), mup_f (by decide)]; exact if_pos rfl, by rw [mup_f (by decide), mup_f (by decide), mup_f (by decide)]; exact if_pos rfl, by rw [mup_s]⟩, fun J u => by rw [if_pos rfl]⟩
    | some c =>
      have sc := (TI_rt L5 hrl).1
      have nc := hne c sc
      refine ⟨mup (mup (mup (mup (mup (fun f q => if q = n1 then none else Ml f q) 0 n1 (some (kk m))) 1 n1 (some (g 10))) 4 n1 none) 2 n1 (some c)) 4 c (some n1), fun q hq => ⟨fun f hf => ?_, ?_⟩, ⟨?_, ?_, ?_, ?_, ?_⟩, fun J u => by rw [if_neg (fun w => by cases w), v_p2 nrx sn1, v_p4 nrx (Or.inl sc)]⟩
      · rw [mup_f (by omega), mup_o (hne q hq)]; exact m0 f q hq
      · by_cases z : q = c
        · rw [z, mup_s, if_pos rfl]
        · rw [mup_o z, mup_o (hne q hq), if_neg (fun w => z (Option.some.inj w).symm)]; exact m0 4 q hq
      · rw [mup_f (by decide), mup_f (by decide), mup_f (by decide), mup_f (by decide), mup_s]
      · rw [mup_f (by decide), mup_f (by decide), mup_f (by decide), mup_s]
      · rw [mup_f (by decide), mup_s]
      · rw [mup_f (by decide), mup_f (by decide), mup_f (by decide), mup_f (by decide), mup_f (by decide)]; exact if_pos rfl
      · rw [mup_o (fun w => nc w.symm), mup_f (by decide), mup_s]
  obtain ⟨M3, m1, m2, m3⟩ := lnk
  rw [m3]
  have dne : ∀ q, Sl q → q ≠ n1 := fun a ha w => nSn (by rw [← w]; exact ha)
  have hTf : TI2 (ov r2 (fun q => Sl q ∨ q = n1) cmp2 ks2 H2 M3 C2 rt2 sz2 mc2) A r none nn kk (fun v => v = some (g 10)) it (m + 1) := by
    have o : ∀ q, q < n → ov r2 (fun q => Sl q ∨ q = n1) cmp2 ks2 H2 M3 C2 rt2 sz2 mc2 q = H2 q := fun q hq => by
      by_cases z : q = r2
      · rw [z, ov_r, h1r2]
      · exact ov_o z (fun w => w.elim (fun w => by have := L3 q w; omega) (fun w => by omega))
    exact TI2_fr k2 (fun q hq => o q (hA q hq)) (o it itn)
  have hfo : ∀ q, q < n → q ≠ it → ov r2 (fun q => Sl q ∨ q = n1) cmp2 ks2 H2 M3 C2 rt2 sz2 mc2 q = H q := fun q hq hq2 => by
    by_cases z : q = r2
    · rw [z, ov_r, hr2]
    · rw [ov_o z (fun w => w.elim (fun w => by have := L3 q w; omega) (fun w => by omega))]
      exact h1o q hq hq2
  have hfn : ∀ q, n1 + 1 ≤ q → ov r2 (fun q => Sl q ∨ q = n1) cmp2 ks2 H2 M3 C2 rt2 sz2 mc2 q = none := fun q hq => by
    rw [ov_o (by omega) (fun w => w.elim (fun w => by have := L3 q w; omega) (fun w => by omega))]
    exact h1n q (by omega)
  have hfs : ∀ a, (Sl a ∨ a = n1) → ov r2 (fun q => Sl q ∨ q = n1) cmp2 ks2 H2 M3 C2 rt2 sz2 mc2 a = some (eCell M3 C2 a) := fun a ha => ov_s nrx ha
  have hfr : ov r2 (fun q => Sl q ∨ q = n1) cmp2 ks2 H2 M3 C2 rt2 sz2 mc2 r2 = some (mCell cmp2 rt2 ks2 sz2 mc2) := ov_r
  generalize ov r2 (fun q => Sl q ∨ q = n1) cmp2 ks2 H2 M3 C2 rt2 sz2 mc2 = H3 at hTf hfo hfn hfs hfr
  by_cases q : hi ≤ m
  · -- nothing to the right
    have emh : m = hi := by omega
    rw [if_pos (by rw [iv_le (by omega) (by omega)]; exact q)]
    have jn := TI_join (Sr := fun _ => False) (Mr := fun _ _ => none) (rr := none) (j := hi + 1) (pr := fun _ => 0) (lr := fun _ => 0) (hr := fun _ => 0) (M' := M3) (x := n1) L5 ⟨fun _ a => a.elim, fun _ a => a.elim, fun _ a => a.elim, fun _ a => a.elim, Or.inl ⟨rfl, by omega⟩⟩ nSn (fun w => w) (fun _ w => w.elim)
      (fun q hq => (m1 q hq).1 2 (by decide)) (fun q hq => (m1 q hq).1 3 (by decide)) (fun q hq => (m1 q hq).2) (fun _ w => w.elim) (fun _ w => w.elim) (fun _ w => w.elim) m2.2.2.1 m2.2.2.2.1 m2.2.2.2.2
    refine ⟨H3, n1 + 1, w1 + 7, some n1, _, M3, C2, _, _, _, rfl, by omega, fun a ha => ?_, fun a ha => ?_, jn, c1, fun a ha => ?_, fun i i0 i1 => ?_, fun a b ha hb hab => ?_, by rw [← emh]; exact hTf, hfo, hfn⟩
    · rcases ha with (ha | ha) | ha
      · have := L3 a ha; omega
      · omega
      · exact ha.elim
    · exact hfs a (ha.elim id (fun w => w.elim))
    · rcases ha with (ha | ha) | ha
      · rw [tj_l ha, (m1 a ha).1 0 (by decide), (m1 a ha).1 1 (by decide)]
        exact L7 a ha
      · rw [ha, tj_x nSn (fun w => w)]
        exact ⟨m2.1, m2.2.1⟩
      · exact ha.elim
    · by_cases z : i = m
      · exact ⟨n1, Or.inl (Or.inr rfl), by rw [tj_x nSn (fun w => w)]; exact z.symm⟩
      · obtain ⟨a, a1, a2⟩ := L8 i i0 (by omega)
        exact ⟨a, Or.inl (Or.inl a1), by rw [tj_l a1]; exact a2⟩
    · have gl : ∀ a, Sl a → pl a < m := fun a ha => by have := L5.1 a ha; omega
      rcases ha with (ha | ha) | ha <;> rcases hb with (hb | hb) | hb
      · rw [tj_l ha, tj_l hb] at hab; exact L9 a b ha hb hab
      · rw [tj_l ha, hb, tj_x nSn (fun w => w)] at hab; have := gl a ha; omega
      · exact hb.elim
      · rw [tj_l hb, ha, tj_x nSn (fun w => w)] at hab; have := gl b hb; omega
      · rw [ha, hb]
      · exact hb.elim
      · exact ha.elim
      · exact ha.elim
      · exact ha.elim
  · rw [if_neg (by rw [iv_le (by omega) (by omega)]; exact q)]
    have e1 : iv m + 1 = iv (m + 1) := iv_add m 1
    obtain ⟨H4, n4, w4, rr, Sr, Mr, Cr, pr, lr, hr, a1, a2, a3, a4, a5, a6, a7, a8, a9, a10, a11, a12⟩ := hP H3 (n1 + 1) A r nn kk it (m + 1) hi r2 cmp2 rt2 ks2 sz2 mc2 (lev + 1) red hTf hfr (by omega) (by omega) hfn (fun q hq => by have := hA q hq; omega)
    obtain ⟨c, hrr, sc, c4, -⟩ : ∃ c, rr = some c ∧ Sr c ∧ Mr 4 c = none ∧ True := by
      rcases a5.2.2.2.2 with ⟨-, z⟩ | ⟨c, z1, z2, z3, -⟩
      · omega
      · exact ⟨c, z1, z2, z3, trivial⟩
    have drl : ∀ q, Sr q → ¬ Sl q := fun q hq w => by have := a3 q hq; have := L3 q w; omega
    have drn : ∀ q, Sr q → q ≠ n1 := fun q hq w => by have := a3 q hq; omega
    have nSr : ¬ Sr r2 := fun w => by have := a3 r2 w; omega
    have nSrn : ¬ Sr n1 := fun w => by have := a3 n1 w; omega
    have nr3 : ¬ ((Sl r2 ∨ r2 = n1) ∨ Sr r2) := fun w => w.elim nrx nSr
    have f4 : ∀ a, ((Sl a ∨ a = n1) ∨ Sr a) → H4 a = some (eCell (fun f q => @ite _ (Sr q) (Classical.propDecidable _) (Mr f q) (M3 f q)) (fun q => @ite _ (Sr q) (Classical.propDecidable _) (Cr q) (C2 q)) a) := fun a ha => by
      unfold eCell
      by_cases z : Sr a
      · simp only [if_pos z]
        exact a4 a z
      · simp only [if_neg z]
        have za : Sl a ∨ a = n1 := ha.resolve_right z
        have zl : a < n1 + 1 := za.elim (fun w => by have := L3 a w; omega) (fun w => by omega)
        have zi : a ≠ it := fun w => by rcases za with w2 | w2
                                        · exact nSit (by rw [← w]; exact w2)
                                        · omega
        rw [a11 a zl zi]
        exact hfs a za
    have r4 : H4 r2 = some (mCell cmp2 rt2 ks2 sz2 mc2) := by rw [a11 r2 (by omega) r2it]; exact hfr
    have es4 := ov_self r4 f4
    have sc4 : (fun a => (Sl a ∨ a = n1) ∨ Sr a) c := Or.inr sc
    have sn4 : (fun a => (Sl a ∨ a = n1) ∨ Sr a) n1 := Or.inl (Or.inr rfl)
    rw [e1, c_mon hfr, c_mcall a1 (show w1 + 7 + 105 ≤ 217 by omega), hrr, ← es4, v_p3 nr3 sn4, v_p4 nr3 sc4]
    generalize hM4 : (fun f q => @ite _ (Sr q) (Classical.propDecidable _) (Mr f q) (M3 f q)) = M4
    generalize hC4 : (fun q => @ite _ (Sr q) (Classical.propDecidable _) (Cr q) (C2 q)) = C4
    have m4r : ∀ f q, Sr q → M4 f q = Mr f q := fun f q hq => by rw [← hM4]; exact if_pos hq
    have m4l : ∀ f q, ¬ Sr q → M4 f q = M3 f q := fun f q hq => by rw [← hM4]; exact if_neg hq
    have ncn : c ≠ n1 := drn c sc
    have sll : ∀ q, Sl q → ¬ Sr q := fun q hq w => drl q w hq
    have slc : ∀ q, Sl q → q ≠ c := fun q hq w => drl c sc (by rw [← w]; exact hq)
    have M5l : ∀ f q, Sl q → mup (mup M4 3 n1 (some c)) 4 c (some n1) f q = M3 f q := fun f q hq => by
      rw [mup_o (slc q hq), mup_o (dne q hq)]; exact m4l f q (sll q hq)
    have M5n : ∀ f, f ≠ 3 → mup (mup M4 3 n1 (some c)) 4 c (some n1) f n1 = M3 f n1 := fun f hf => by
      rw [mup_o (fun w => ncn w.symm), mup_f hf]; exact m4l f n1 nSrn
    have M5r : ∀ f q, Sr q → f ≠ 4 → mup (mup M4 3 n1 (some c)) 4 c (some n1) f q = Mr f q := fun f q hq hf => by
      rw [mup_f hf, mup_o (drn q hq)]; exact m4r f q hq
    have jn := TI_join (M' := mup (mup M4 3 n1 (some c)) 4 c (some n1)) (x := n1) L5 a5 nSn nSrn drl
      (fun q hq => (M5l 2 q hq).trans ((m1 q hq).1 2 (by decide))) (fun q hq => (M5l 3 q hq).trans ((m1 q hq).1 3 (by decide))) (fun q hq => (M5l 4 q hq).trans (m1 q hq).2)
      (fun q hq => M5r 2 q hq (by decide)) (fun q hq => M5r 3 q hq (by decide)) (fun q hq => by
        rw [hrr]
        by_cases z : q = c
        · rw [z, mup_s, if_pos rfl]
        · rw [mup_o z, mup_o (drn q hq), if_neg (fun w => z (Option.some.inj w).symm)]; exact m4r 4 q hq)
      ((M5n 2 (by decide)).trans m2.2.2.1) (by rw [mup_o (fun w => ncn w.symm), mup_s, hrr]) ((M5n 4 (by decide)).trans m2.2.2.2.2)
    have okC4 : okC C4 := fun q => by
      rw [← hC4]
      by_cases z : Sr q
      · simp only [if_pos z]; exact a6 q
      · simp only [if_neg z]; exact c1 q
    refine ⟨ov r2 (fun a => (Sl a ∨ a = n1) ∨ Sr a) cmp2 ks2 H4 (mup (mup M4 3 n1 (some c)) 4 c (some n1)) C4 rt2 sz2 mc2, n4, w1 + 7 + 105, some n1, _, mup (mup M4 3 n1 (some c)) 4 c (some n1), C4, _, _, _, rfl, by omega, fun a ha => ?_, fun a ha => ov_s nr3 ha, jn, okC4, fun a ha => ?_, fun i i0 i1 => ?_, fun a b ha hb hab => ?_, ?_, fun q q1 q2 => ?_, fun q q1 => ?_⟩
    · rcases ha with (ha | ha) | ha
      · have := L3 a ha; omega
      · omega
      · have := a3 a ha; omega
    · rcases ha with (ha | ha) | ha
      · rw [tj_l ha, M5l 0 a ha, M5l 1 a ha, (m1 a ha).1 0 (by decide), (m1 a ha).1 1 (by decide)]
        exact L7 a ha
      · rw [ha, tj_x nSn nSrn, M5n 0 (by decide), M5n 1 (by decide)]
        exact ⟨m2.1, m2.2.1⟩
      · rw [tj_r (drl a ha) ha, M5r 0 a ha (by decide), M5r 1 a ha (by decide)]
        exact a7 a ha
    · by_cases z : i = m
      · exact ⟨n1, Or.inl (Or.inr rfl), by rw [tj_x nSn nSrn]; exact z.symm⟩
      · by_cases z2 : i < m
        · obtain ⟨a, y1, y2⟩ := L8 i i0 z2
          exact ⟨a, Or.inl (Or.inl y1), by rw [tj_l y1]; exact y2⟩
        · obtain ⟨a, y1, y2⟩ := a8 i (by omega) i1
          exact ⟨a, Or.inr y1, by rw [tj_r (drl a y1) y1]; exact y2⟩
    · have gl : ∀ a, Sl a → pl a < m := fun a ha => by have := L5.1 a ha; omega
      have gr : ∀ a, Sr a → m < pr a := fun a ha => by have := a5.1 a ha; omega
      rcases ha with (ha | ha) | ha <;> rcases hb with (hb | hb) | hb
      · rw [tj_l ha, tj_l hb] at hab; exact L9 a b ha hb hab
      · rw [tj_l ha, hb, tj_x nSn nSrn] at hab; have := gl a ha; omega
      · rw [tj_l ha, tj_r (drl b hb) hb] at hab; have := gl a ha; have := gr b hb; omega
      · rw [tj_l hb, ha, tj_x nSn nSrn] at hab; have := gl b hb; omega
      · rw [ha, hb]
      · rw [ha, tj_x nSn nSrn, tj_r (drl b hb) hb] at hab; have := gr b hb; omega
      · rw [tj_r (drl a ha) ha, tj_l hb] at hab; have := gl b hb; have := gr a ha; omega
      · rw [tj_r (drl a ha) ha, hb, tj_x nSn nSrn] at hab; have := gr a ha; omega
      · rw [tj_r (drl a ha) ha, tj_r (drl b hb) hb] at hab; exact a9 a b ha hb hab
    · have o : ∀ q, q < n → ov r2 (fun a => (Sl a ∨ a = n1) ∨ Sr a) cmp2 ks2 H4 (mup (mup M4 3 n1 (some c)) 4 c (some n1)) C4 rt2 sz2 mc2 q = H4 q := fun q hq => by
        by_cases z : q = r2
        · rw [z, ov_r, r4]
        · exact ov_o z (fun w => w.elim (fun w => w.elim (fun w => by have := L3 q w; omega) (fun w => by omega)) (fun w => by have := a3 q w; omega))
      exact TI2_fr a10 (fun q hq => o q (hA q hq)) (o it itn)
    · by_cases z : q = r2
      · rw [z, ov_r, hr2]
      · rw [ov_o z (fun w => w.elim (fun w => w.elim (fun w => by have := L3 q w; omega) (fun w => by omega)) (fun w => by have := a3 q w; omega)), a11 q (by omega) q2]
        exact hfo q q1 q2
    · rw [ov_o (by omega) (fun w => w.elim (fun w => w.elim (fun w => by have := L3 q w; omega) (fun w => by omega)) (fun w => by have := a3 q w; omega))]
      exact a12 q q1
theorem bf_5 {g : Nat → Nat} (hP : bfP g 31 (fJ6_buildFromSorted_2_4 g)) : bfP g 63 (fJ6_buildFromSorted_2_5 g) := by
  intro H n A r nn kk it lo hi r2 cmp2 rt2 ks2 sz2 mc2 lev red hT hr2 hb hsz hn hA
  unfold fJ6_buildFromSorted_2_5
  by_cases he0 : ¬ lo ≤ hi
  · have he := he0
    rw [if_neg (by rw [iv_le (by omega) (by omega)]; exact he)]
    exact bfO_0 hT hn (by omega)
  have he : lo ≤ hi := Classical.not_not.mp he0
  rw [if_pos (by rw [iv_le (by omega) (by omega)]; exact he)]
  have emid : iushr (iv lo + iv hi) 1 = iv ((lo + hi) / 2) := by
    rw [iv_add]
    exact half_v (by omega)
  have hm : lo ≤ (lo + hi) / 2 ∧ (lo + hi) / 2 ≤ hi ∧ ((lo + hi) / 2 - lo ≤ 31) ∧ hi - (lo + hi) / 2 ≤ 31 := by omega
  rw [emid]
  generalize (lo + hi) / 2 = m at hm
  have hlt : ∀ q, H q ≠ none → q < n := fun q hq => Classical.byContradiction (fun w => hq (hn q (by omega)))
  have r2n : r2 < n := hlt r2 (by rw [hr2]; exact fun w => by cases w)
  -- the left part
  have left : ∃ (H1 : Nat → Option hC) (n1 w1 : Nat) (rl : Option Nat) (Sl : Nat → Prop) (Ml : Nat → Nat → Option Nat) (Cl : Nat → Int32) (pl ll hl : Nat → Int), (∀ K : Option Nat → HM (Option Nat), mjn K (fun J => if iv m ≤ iv lo then J none else (mb (mon 18 (some r2) (mcall 441 217 (fJ6_buildFromSorted_2_4 g (some r2) (lev + 1) (iv lo) (iv m - 1) red (some it) none (some (g 10))))) fun x11 => J x11)) (H, n, 0) = K rl (H1, n1, w1)) ∧ w1 ≤ 217 ∧ n ≤ n1 ∧ (∀ a, Sl a → n ≤ a ∧ a < n1) ∧ (∀ a, Sl a → H1 a = some (eCell Ml Cl a)) ∧ TI Sl Ml rl lo m pl ll hl ∧ okC Cl ∧
      (∀ a, Sl a → Ml 0 a = some (kk (pl a)) ∧ Ml 1 a = some (g 10)) ∧ (∀ i, lo ≤ i → i < m → ∃ a, Sl a ∧ pl a = i) ∧ inj Sl pl ∧ TI2 H1 A r none nn kk (fun v => v = some (g 10)) it m ∧ (∀ q, q < n → q ≠ it → H1 q = H q) ∧ ∀ q, n1 ≤ q → H1 q = none := by
    by_cases q : m ≤ lo
    · have eml : m = lo := by omega
      refine ⟨H, n, 0, none, fun _ => False, fun _ _ => none, fun _ => 0, fun _ => 0, fun _ => 0, fun _ => 0, fun J => by rw [mjn_b, if_pos (by rw [iv_le (by omega) (by omega)]; exact q)], Nat.zero_le _, Nat.le_refl n, fun _ a => a.elim, fun _ a => a.elim, ⟨fun _ a => a.elim, fun _ a => a.elim, fun _ a => a.elim, fun _ a => a.elim, Or.inl ⟨rfl, eml.symm⟩⟩, fun _ => Or.inl rfl, fun _ a => a.elim, fun i a b => by omega, fun _ _ a => a.elim, by rw [eml]; exact hT, fun _ _ _ => rfl, hn⟩
    · obtain ⟨H1, n1, w1, rl, Sl, Ml, Cl, pl, ll, hl, a1, a2, a3, a4, a5, a6, a7, a8, a9, a10, a11, a12⟩ := hP H n A r nn kk it lo (m - 1) r2 cmp2 rt2 ks2 sz2 mc2 (lev + 1) red hT hr2 (by omega) (by omega) hn hA
      rw [show m - 1 + 1 = m by omega] at a5 a10
      refine ⟨H1, n1, 0 + 217, rl, Sl, Ml, Cl, pl, ll, hl, fun J => ?_, by omega, a2, a3, a4, a5, a6, a7, fun i i0 i1 => a8 i i0 (by omega), a9, a10, a11, a12⟩
      rw [mjn_b, if_neg (by rw [iv_le (by omega) (by omega)]; exact q)]
      have e1 : iv m - 1 = iv (m - 1) := iv_sub m 1
      rw [e1, c_mon hr2, c_mcall a1 (by decide)]
  obtain ⟨H1, n1, w1, rl, Sl, Ml, Cl, pl, ll, hl, L0, L1, L2, L3, L4, L5, L6, L7, L8, L9, L10, L11, L12⟩ := left
  have itn : it < n := by
    obtain ⟨-, _, _, _, _, _, _, _, _, _, _, _, -, -, -, -, -, -, z⟩ := hT
    exact hlt it (by rw [z]; exact fun w => by cases w)
  refine (show bfO g H n A r nn kk it lo hi _ from ?_)
  rw [L0]
  -- the middle key
  obtain ⟨xc, k1, k2⟩ := J21_next_c (β := Option Nat) (K := fun (x6 : Option Nat) => mb (nO 441 19 [.null, .null, .null, .null, .null, .int 0]) fun x4 => mb (mnn x4) fun _ => mb (mcall0 (fJ25_init g x4 x6 (some (g 10)) none)) fun _ => mjn0 (mjn0 (if iv hi ≤ iv m then (mret x4) else (mb (mon 18 (some r2) (mcall 441 217 (fJ6_buildFromSorted_2_4 g (some r2) (lev + 1) (iv m + 1) (iv hi) red (some it) none (some (g 10))))) fun x6 => mb (pR 19 3 x4 x6) fun _ => mb (pR 19 4 x6 x4) fun _ => mret x4)) fun j173 => if rl = none then (j173) else (mb (pR 19 2 x4 rl) fun _ => mb (pR 19 4 rl x4) fun _ => j173)) fun j154 => if lev = red then (mb (pZ 19 5 x4 0) fun _ => j154) else (j154)) (g := g) (n := n1) (w := w1) L10 (by omega)
  rw [mjn2_b, if_neg (fun w => by cases w), if_neg (fun w => by cases w), k1]
  have nSit : ¬ Sl it := fun w => by have := L3 it w; omega
  have nSr2 : ¬ Sl r2 := fun w => by have := L3 r2 w; omega
  have nSn : ¬ Sl n1 := fun w => by have := L3 n1 w; omega
  have r2it : r2 ≠ it := fun w => by
    obtain ⟨-, _, _, _, _, _, _, _, _, _, _, _, -, -, -, -, -, -, z⟩ := hT
    rw [← w, hr2] at z; cases z
  have n1r2 : n1 ≠ r2 := by omega
  have h1r2 : hset H1 it xc r2 = some (mCell cmp2 rt2 ks2 sz2 mc2) := by rw [hset_ne r2it, L11 r2 r2n r2it]; exact hr2
  have h1S : ∀ a, Sl a → hset H1 it xc a = some (eCell Ml Cl a) := fun a ha => by rw [hset_ne (fun w => nSit (by rw [← w]; exact ha))]; exact L4 a ha
  have h1n : ∀ q, n1 ≤ q → hset H1 it xc q = none := fun q hq => by rw [hset_ne (by omega)]; exact L12 q hq
  have h1o : ∀ q, q < n → q ≠ it → hset H1 it xc q = H q := fun q q1 q2 => by rw [hset_ne q2]; exact L11 q q1 q2
  generalize hset H1 it xc = H2 at k2 h1r2 h1S h1n h1o
  have es := ov_self h1r2 h1S
  have nrx : ¬ (Sl r2 ∨ r2 = n1) := fun w => w.elim nSr2 (fun z => n1r2 z.symm)
  have sn1 : (fun q => Sl q ∨ q = n1) n1 := Or.inr rfl
  rw [← es, c_nE (show w1 + 7 ≤ 441 by omega), ov_new n1r2 nSn, c_mnn, J25_init_c nrx sn1, mjn0_b, mjn0_b]
  -- its colour
  have col : ∃ C2 : Nat → Int32, okC C2 ∧ (∀ a, Sl a → C2 a = Cl a) ∧ ∀ (M : Nat → Nat → Option Nat) (J : HM (Option Nat)) (u : Nat), (if lev = red then (mb (pZ 19 5 (some n1) 0) fun _ => J) else J) (ov r2 (fun q => Sl q ∨ q = n1) cmp2 ks2 H2 M (cup (cup Cl n1 0) n1 1) rt2 sz2 mc2, n1 + 1, u) = J (ov r2 (fun q => Sl q ∨ q = n1) cmp2 ks2 H2 M C2 rt2 sz2 mc2, n1 + 1, u) := by
    have hne : ∀ a, Sl a → a ≠ n1 := fun a ha w => nSn (by rw [← w]; exact ha)
    have hk1 : okC (cup (cup Cl n1 0) n1 1) := okC_up (okC_up L6 (Or.inl rfl)) (Or.inr rfl)
    by_cases z : lev = red
    · refine ⟨cup (cup (cup Cl n1 0) n1 1) n1 0, okC_up hk1 (Or.inl rfl), fun a ha => ?_, fun M J u => by rw [if_pos z, v_p5 nrx sn1 (Or.inl rfl)]⟩
      unfold cup
      rw [if_neg (hne a ha), if_neg (hne a ha), if_neg (hne a ha)]
    · refine ⟨_, hk1, fun a ha => ?_, fun M J u => by rw [if_neg z]⟩
      unfold cup
      rw [if_neg (hne a ha), if_neg (hne a ha)]
  obtain ⟨C2, c1, c2, c3⟩ := col
  rw [c3]
  -- the left child
  have lnk : ∃ M3 : Nat → Nat → Option Nat, (∀ q, Sl q → (∀ f, f < 4 → M3 f q = Ml f q) ∧ M3 4 q = if rl = some q then some n1 else Ml 4 q) ∧ (M3 0 n1 = some (kk m) ∧ M3 1 n1 = some (g 10) ∧ M3 2 n1 = rl ∧ M3 3 n1 = none ∧ M3 4 n1 = none) ∧
      ∀ (J : HM (Option Nat)) (u : Nat), (if rl = none then J else (mb (pR 19 2 (some n1) rl) fun _ => mb (pR 19 4 rl (some n1)) fun _ => J)) (ov r2 (fun q => Sl q ∨ q = n1) cmp2 ks2 H2 (mup (mup (mup (fun f q => if q = n1 then none else Ml f q) 0 n1 (some (kk m))) 1 n1 (some (g 10))) 4 n1 none) C2 rt2 sz2 mc2, n1 + 1, u) = J (ov r2 (fun q => Sl q ∨ q = n1) cmp2 ks2 H2 M3 C2 rt2 sz2 mc2, n1 + 1, u) := by
    have hne : ∀ a, Sl a → a ≠ n1 := fun a ha w => nSn (by rw [← w]; exact ha)
    have m0 : ∀ f q, Sl q → (mup (mup (mup (fun f q => if q = n1 then none else Ml f q) 0 n1 (some (kk m))) 1 n1 (some (g 10))) 4 n1 none) f q = Ml f q := fun f q hq => by
      rw [mup_o (hne q hq), mup_o (hne q hq), mup_o (hne q hq)]
      exact if_neg (hne q hq)
    cases hrl : rl with
    | none =>
      refine ⟨_, fun q hq => ⟨fun f _ => m0 f q hq, by rw [if_neg (fun w => by cases w)]; exact m0 4 q hq⟩, ⟨by rw [mup_f (by decide), mup_f (by decide), mup_s], by rw [mup_f (by decide), mup_s], by rw [mup_f (by decide), mup_f (by decide), mup_f (by decide)]; exact if_pos rfl, by rw [mup_f (by decide), mup_f (by decide), mup_f (by decide)]; exact if_pos rfl, by rw [mup_s]⟩, fun J u => by rw [if_pos rfl]⟩
    | some c =>
      have sc := (TI_rt L5 hrl).1
      have nc := hne c sc
      refine ⟨mup (mup (mup (mup (mup (fun f q => if q = n1 then none else Ml f q) 0 n1 (some (kk m))) 1 n1 (some (g 10))) 4 n1 none) 2 n1 (some c)) 4 c (some n1), fun q hq => ⟨fun f hf => ?_, ?_⟩, ⟨?_, ?_, ?_, ?_, ?_⟩, fun J u => by rw [if_neg (fun w => by cases w), v_p2 nrx sn1, v_p4 nrx (Or.inl sc)]⟩
      · rw [mup_f (by omega), mup_o (hne q hq)]; exact m0 f q hq
      · by_cases z : q = c
        · rw [z, mup_s, if_pos rfl]
        · rw [mup_o z, mup_o (hne q hq), if_neg (fun w => z (Option.some.inj w).symm)]; exact m0 4 q hq
      · rw [mup_f (by decide), mup_f (by decide), mup_f (by decide), mup_f (by decide), mup_s]
      · rw [mup_f (by decide), mup_f (by decide), mup_f (by decide), mup_s]
      · rw [mup_f (by decide), mup_s]
      · rw [mup_f (by decide), mup_f (by decide), mup_f (by decide), mup_f (by decide), mup_f (by decide)]; exact if_pos rfl
      · rw [mup_o (fun w => nc w.symm), mup_f (by decide), mup_s]
  obtain ⟨M3, m1, m2, m3⟩ := lnk
  rw [m3]
  have dne : ∀ q, Sl q → q ≠ n1 := fun a ha w => nSn (by rw [← w]; exact ha)
  have hTf : TI2 (ov r2 (fun q => Sl q ∨ q = n1) cmp2 ks2 H2 M3 C2 rt2 sz2 mc2) A r none nn kk (fun v => v = some (g 10)) it (m + 1) := by
    have o : ∀ q, q < n → ov r2 (fun q => Sl q ∨ q = n1) cmp2 ks2 H2 M3 C2 rt2 sz2 mc2 q = H2 q := fun q hq => by
      by_cases z : q = r2
      · rw [z, ov_r, h1r2]
      · exact ov_o z (fun w => w.elim (fun w => by have := L3 q w; omega) (fun w => by omega))
    exact TI2_fr k2 (fun q hq => o q (hA q hq)) (o it itn)
  have hfo : ∀ q, q < n → q ≠ it → ov r2 (fun q => Sl q ∨ q = n1) cmp2 ks2 H2 M3 C2 rt2 sz2 mc2 q = H q := fun q hq hq2 => by
    by_cases z : q = r2
    · rw [z, ov_r, hr2]
    · rw [ov_o z (fun w => w.elim (fun w => by have := L3 q w; omega) (fun w => by omega))]
      exact h1o q hq hq2
  have hfn : ∀ q, n1 + 1 ≤ q → ov r2 (fun q => Sl q ∨ q = n1) cmp2 ks2 H2 M3 C2 rt2 sz2 mc2 q = none := fun q hq => by
    rw [ov_o (by omega) (fun w => w.elim (fun w => by have := L3 q w; omega) (fun w => by omega))]
    exact h1n q (by omega)
  have hfs : ∀ a, (Sl a ∨ a = n1) → ov r2 (fun q => Sl q ∨ q = n1) cmp2 ks2 H2 M3 C2 rt2 sz2 mc2 a = some (eCell M3 C2 a) := fun a ha => ov_s nrx ha
  have hfr : ov r2 (fun q => Sl q ∨ q = n1) cmp2 ks2 H2 M3 C2 rt2 sz2 mc2 r2 = some (mCell cmp2 rt2 ks2 sz2 mc2) := ov_r
  generalize ov r2 (fun q => Sl q ∨ q = n1) cmp2 ks2 H2 M3 C2 rt2 sz2 mc2 = H3 at hTf hfo hfn hfs hfr
  by_cases q : hi ≤ m
  · -- nothing to the right
    have emh : m = hi := by omega
    rw [if_pos (by rw [iv_le (by omega) (by omega)]; exact q)]
    have jn := TI_join (Sr := fun _ => False) (Mr := fun _ _ => none) (rr := none) (j := hi + 1) (pr := fun _ => 0) (lr := fun _ => 0) (hr := fun _ => 0) (M' := M3) (x := n1) L5 ⟨fun _ a => a.elim, fun _ a => a.elim, fun _ a => a.elim, fun _ a => a.elim, Or.inl ⟨rfl, by omega⟩⟩ nSn (fun w => w) (fun _ w => w.elim)
      (fun q hq => (m1 q hq).1 2 (by decide)) (fun q hq => (m1 q hq).1 3 (by decide)) (fun q hq => (m1 q hq).2) (fun _ w => w.elim) (fun _ w => w.elim) (fun _ w => w.elim) m2.2.2.1 m2.2.2.2.1 m2.2.2.2.2
    refine ⟨H3, n1 + 1, w1 + 7, some n1, _, M3, C2, _, _, _, rfl, by omega, fun a ha => ?_, fun a ha => ?_, jn, c1, fun a ha => ?_, fun i i0 i1 => ?_, fun a b ha hb hab => ?_, by rw [← emh]; exact hTf, hfo, hfn⟩
    · rcases ha with (ha | ha) | ha
      · have := L3 a ha; omega
      · omega
      · exact ha.elim
    · exact hfs a (ha.elim id (fun w => w.elim))
    · rcases ha with (ha | ha) | ha
      · rw [tj_l ha, (m1 a ha).1 0 (by decide), (m1 a ha).1 1 (by decide)]
        exact L7 a ha
      · rw [ha, tj_x nSn (fun w => w)]
        exact ⟨m2.1, m2.2.1⟩
      · exact ha.elim
    · by_cases z : i = m
      · exact ⟨n1, Or.inl (Or.inr rfl), by rw [tj_x nSn (fun w => w)]; exact z.symm⟩
      · obtain ⟨a, a1, a2⟩ := L8 i i0 (by omega)
        exact ⟨a, Or.inl (Or.inl a1), by rw [tj_l a1]; exact a2⟩
    · have gl : ∀ a, Sl a → pl a < m := fun a ha => by have := L5.1 a ha; omega
      rcases ha with (ha | ha) | ha <;> rcases hb with (hb | hb) | hb
      · rw [tj_l ha, tj_l hb] at hab; exact L9 a b ha hb hab
      · rw [tj_l ha, hb, tj_x nSn (fun w => w)] at hab; have := gl a ha; omega
      · exact hb.elim
      · rw [tj_l hb, ha, tj_x nSn (fun w => w)] at hab; have := gl b hb; omega
      · rw [ha, hb]
      · exact hb.elim
      · exact ha.elim
      · exact ha.elim
      · exact ha.elim
  · rw [if_neg (by rw [iv_le (by omega) (by omega)]; exact q)]
    have e1 : iv m + 1 = iv (m + 1) := iv_add m 1
    obtain ⟨H4, n4, w4, rr, Sr, Mr, Cr, pr, lr, hr, a1, a2, a3, a4, a5, a6, a7, a8, a9, a10, a11, a12⟩ := hP H3 (n1 + 1) A r nn kk it (m + 1) hi r2 cmp2 rt2 ks2 sz2 mc2 (lev + 1) red hTf hfr (by omega) (by omega) hfn (fun q hq => by have := hA q hq; omega)
    obtain ⟨c, hrr, sc, c4, -⟩ : ∃ c, rr = some c ∧ Sr c ∧ Mr 4 c = none ∧ True := by
      rcases a5.2.2.2.2 with ⟨-, z⟩ | ⟨c, z1, z2, z3, -⟩
      · omega
      · exact ⟨c, z1, z2, z3, trivial⟩
    have drl : ∀ q, Sr q → ¬ Sl q := fun q hq w => by have := a3 q hq; have := L3 q w; omega
    have drn : ∀ q, Sr q → q ≠ n1 := fun q hq w => by have := a3 q hq; omega
    have nSr : ¬ Sr r2 := fun w => by have := a3 r2 w; omega
    have nSrn : ¬ Sr n1 := fun w => by have := a3 n1 w; omega
    have nr3 : ¬ ((Sl r2 ∨ r2 = n1) ∨ Sr r2) := fun w => w.elim nrx nSr
    have f4 : ∀ a, ((Sl a ∨ a = n1) ∨ Sr a) → H4 a = some (eCell (fun f q => @ite _ (Sr q) (Classical.propDecidable _) (Mr f q) (M3 f q)) (fun q => @ite _ (Sr q) (Classical.propDecidable _) (Cr q) (C2 q)) a) := fun a ha => by
      unfold eCell
      by_cases z : Sr a
      · simp only [if_pos z]
        exact a4 a z
      · simp only [if_neg z]
        have za : Sl a ∨ a = n1 := ha.resolve_right z
        have zl : a < n1 + 1 := za.elim (fun w => by have := L3 a w; omega) (fun w => by omega)
        have zi : a ≠ it := fun w => by rcases za with w2 | w2
                                        · exact nSit (by rw [← w]; exact w2)
                                        · omega
        rw [a11 a zl zi]
        exact hfs a za
    have r4 : H4 r2 = some (mCell cmp2 rt2 ks2 sz2 mc2) := by rw [a11 r2 (by omega) r2it]; exact hfr
    have es4 := ov_self r4 f4
    have sc4 : (fun a => (Sl a ∨ a = n1) ∨ Sr a) c := Or.inr sc
    have sn4 : (fun a => (Sl a ∨ a = n1) ∨ Sr a) n1 := Or.inl (Or.inr rfl)
    rw [e1, c_mon hfr, c_mcall a1 (show w1 + 7 + 217 ≤ 441 by omega), hrr, ← es4, v_p3 nr3 sn4, v_p4 nr3 sc4]
    generalize hM4 : (fun f q => @ite _ (Sr q) (Classical.propDecidable _) (Mr f q) (M3 f q)) = M4
    generalize hC4 : (fun q => @ite _ (Sr q) (Classical.propDecidable _) (Cr q) (C2 q)) = C4
    have m4r : ∀ f q, Sr q → M4 f q = Mr f q := fun f q hq => by rw [← hM4]; exact if_pos hq
    have m4l : ∀ f q, ¬ Sr q → M4 f q = M3 f q := fun f q hq => by rw [← hM4]; exact if_neg hq
    have ncn : c ≠ n1 := drn c sc
    have sll : ∀ q, Sl q → ¬ Sr q := fun q hq w => drl q w hq
    have slc : ∀ q, Sl q → q ≠ c := fun q hq w => drl c sc (by rw [← w]; exact hq)
    have M5l : ∀ f q, Sl q → mup (mup M4 3 n1 (some c)) 4 c (some n1) f q = M3 f q := fun f q hq => by
      rw [mup_o (slc q hq), mup_o (dne q hq)]; exact m4l f q (sll q hq)
    have M5n : ∀ f, f ≠ 3 → mup (mup M4 3 n1 (some c)) 4 c (some n1) f n1 = M3 f n1 := fun f hf => by
      rw [mup_o (fun w => ncn w.symm), mup_f hf]; exact m4l f n1 nSrn
    have M5r : ∀ f q, Sr q → f ≠ 4 → mup (mup M4 3 n1 (some c)) 4 c (some n1) f q = Mr f q := fun f q hq hf => by
      rw [mup_f hf, mup_o (drn q hq)]; exact m4r f q hq
    have jn := TI_join (M' := mup (mup M4 3 n1 (some c)) 4 c (some n1)) (x := n1) L5 a5 nSn nSrn drl
      (fun q hq => (M5l 2 q hq).trans ((m1 q hq).1 2 (by decide))) (fun q hq => (M5l 3 q hq).trans ((m1 q hq).1 3 (by decide))) (fun q hq => (M5l 4 q hq).trans (m1 q hq).2)
      (fun q hq => M5r 2 q hq (by decide)) (fun q hq => M5r 3 q hq (by decide)) (fun q hq => by
        rw [hrr]
        by_cases z : q = c
        · rw [z, mup_s, if_pos rfl]
        · rw [mup_o z, mup_o (drn q hq), if_neg (fun w => z (Option.some.inj w).symm)]; exact m4r 4 q hq)
      ((M5n 2 (by decide)).trans m2.2.2.1) (by rw [mup_o (fun w => ncn w.symm), mup_s, hrr]) ((M5n 4 (by decide)).trans m2.2.2.2.2)
    have okC4 : okC C4 := fun q => by
      rw [← hC4]
      by_cases z : Sr q
      · simp only [if_pos z]; exact a6 q
      · simp only [if_neg z]; exact c1 q
    refine ⟨ov r2 (fun a => (Sl a ∨ a = n1) ∨ Sr a) cmp2 ks2 H4 (mup (mup M4 3 n1 (some c)) 4 c (some n1)) C4 rt2 sz2 mc2, n4, w1 + 7 + 217, some n1, _, mup (mup M4 3 n1 (some c)) 4 c (some n1), C4, _, _, _, rfl, by omega, fun a ha => ?_, fun a ha => ov_s nr3 ha, jn, okC4, fun a ha => ?_, fun i i0 i1 => ?_, fun a b ha hb hab => ?_, ?_, fun q q1 q2 => ?_, fun q q1 => ?_⟩
    · rcases ha with (ha | ha) | ha
      · have := L3 a ha; omega
      · omega
      · have := a3 a ha; omega
    · rcases ha with (ha | ha) | ha
      · rw [tj_l ha, M5l 0 a ha, M5l 1 a ha, (m1 a ha).1 0 (by decide), (m1 a ha).1 1 (by decide)]
        exact L7 a ha
      · rw [ha, tj_x nSn nSrn, M5n 0 (by decide), M5n 1 (by decide)]
        exact ⟨m2.1, m2.2.1⟩
      · rw [tj_r (drl a ha) ha, M5r 0 a ha (by decide), M5r 1 a ha (by decide)]
        exact a7 a ha
    · by_cases z : i = m
      · exact ⟨n1, Or.inl (Or.inr rfl), by rw [tj_x nSn nSrn]; exact z.symm⟩
      · by_cases z2 : i < m
        · obtain ⟨a, y1, y2⟩ := L8 i i0 z2
          exact ⟨a, Or.inl (Or.inl y1), by rw [tj_l y1]; exact y2⟩
        · obtain ⟨a, y1, y2⟩ := a8 i (by omega) i1
          exact ⟨a, Or.inr y1, by rw [tj_r (drl a y1) y1]; exact y2⟩
    · have gl : ∀ a, Sl a → pl a < m := fun a ha => by have := L5.1 a ha; omega
      have gr : ∀ a, Sr a → m < pr a := fun a ha => by have := a5.1 a ha; omega
      rcases ha with (ha | ha) | ha <;> rcases hb with (hb | hb) | hb
      · rw [tj_l ha, tj_l hb] at hab; exact L9 a b ha hb hab
      · rw [tj_l ha, hb, tj_x nSn nSrn] at hab; have := gl a ha; omega
      · rw [tj_l ha, tj_r (drl b hb) hb] at hab; have := gl a ha; have := gr b hb; omega
      · rw [tj_l hb, ha, tj_x nSn nSrn] at hab; have := gl b hb; omega
      · rw [ha, hb]
      · rw [ha, tj_x nSn nSrn, tj_r (drl b hb) hb] at hab; have := gr b hb; omega
      · rw [tj_r (drl a ha) ha, tj_l hb] at hab; have := gl b hb; have := gr a ha; omega
      · rw [tj_r (drl a ha) ha, hb, tj_x nSn nSrn] at hab; have := gr a ha; omega
      · rw [tj_r (drl a ha) ha, tj_r (drl b hb) hb] at hab; exact a9 a b ha hb hab
    · have o : ∀ q, q < n → ov r2 (fun a => (Sl a ∨ a = n1) ∨ Sr a) cmp2 ks2 H4 (mup (mup M4 3 n1 (some c)) 4 c (some n1)) C4 rt2 sz2 mc2 q = H4 q := fun q hq => by
        by_cases z : q = r2
        · rw [z, ov_r, r4]
        · exact ov_o z (fun w => w.elim (fun w => w.elim (fun w => by have := L3 q w; omega) (fun w => by omega)) (fun w => by have := a3 q w; omega))
      exact TI2_fr a10 (fun q hq => o q (hA q hq)) (o it itn)
    · by_cases z : q = r2
      · rw [z, ov_r, hr2]
      · rw [ov_o z (fun w => w.elim (fun w => w.elim (fun w => by have := L3 q w; omega) (fun w => by omega)) (fun w => by have := a3 q w; omega)), a11 q (by omega) q2]
        exact hfo q q1 q2
    · rw [ov_o (by omega) (fun w => w.elim (fun w => w.elim (fun w => by have := L3 q w; omega) (fun w => by omega)) (fun w => by have := a3 q w; omega))]
      exact a12 q q1
theorem bf_all {g : Nat → Nat} : bfP g 63 (fJ6_buildFromSorted_2_5 g) := bf_5 (bf_4 (bf_3 (bf_2 (bf_1 bf_0))))
