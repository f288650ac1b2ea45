/-! ===== TreeMap.fixAfterInsertion: colours and rotations only ===== -/
section
variable {r : Nat} {S : Nat → Prop} {cmp ks : Option Nat} {h : Nat → Option hC} {sz mc : Int32} {n w : Nat} {g : Nat → Nat} {nn : Int} {pos : Nat → Int} {K0 : HM Unit}
theorem fixI_x {M : Nat → Nat → Option Nat} {C : Nat → Int32} {rt : Option Nat} (hr : ¬ S r) {k x p : Nat} (hk : 0 < k) (hx : S x) (sp : S p) (hp : M 4 x = some p) (hc : C p ≠ 0) :
    fJ6_fixAfterInsertion_L5 g k (some r) (some x) K0 (ov r S cmp ks h M C rt sz mc, n, w) = K0 (ov r S cmp ks h M C rt sz mc, n, w) := by
  obtain ⟨k, rfl⟩ : ∃ q, k = q + 1 := ⟨k - 1, by omega⟩
  rw [fJ6_fixAfterInsertion_L5, if_neg (fun e => by cases e), v_m3]
  by_cases e : some x = rt
  · rw [if_pos e]
  · rw [if_neg e, v_e4 hr hx, hp, v_e5 hr sp, if_neg hc]
theorem fixI_ev (hr : ¬ S r) : ∀ (k : Nat) (M : Nat → Nat → Option Nat) (C : Nat → Int32) (rt : Option Nat) (lo hi : Nat → Int) (x : Nat), TI S M rt 0 nn pos lo hi → okC C → S x → nn - (hi x - lo x) + 1 < k →
    ∃ (M' : Nat → Nat → Option Nat) (C' : Nat → Int32) (rt' : Option Nat) (lo' hi' : Nat → Int), fJ6_fixAfterInsertion_L5 g k (some r) (some x) K0 (ov r S cmp ks h M C rt sz mc, n, w) = K0 (ov r S cmp ks h M' C' rt' sz mc, n, w) ∧ TI S M' rt' 0 nn pos lo' hi' ∧ okC C' ∧ ∀ f, f < 2 → M' f = M f := by
  intro k
  induction k with
  | zero =>
    intro M C rt lo hi x hI hC hx hk
    have := hI.1 x hx
    omega
  | succ k ih =>
    intro M C rt lo hi x hI hC hx hk
    have gx := hI.1 x hx
    rw [fJ6_fixAfterInsertion_L5, if_neg (fun e => by cases e), v_m3]
    by_cases e : some x = rt
    · exact ⟨M, C, rt, lo, hi, by rw [if_pos e], hI, hC, fun _ _ => rfl⟩
    obtain ⟨p, hp⟩ : ∃ p, M 4 x = some p := by
      cases q : M 4 x with
      | none => exact absurd (TI_p0 hI hx q).symm e
      | some p => exact ⟨p, rfl⟩
    obtain ⟨sp, pc⟩ := TI_p hI hx hp
    obtain ⟨nxp, gxp⟩ := TI_pn hI hx hp
    have npx : p ≠ x := fun e => nxp e.symm
    have gp := hI.1 p sp
    rw [if_neg e, v_e4 hr hx, hp, v_e5 hr sp]
    by_cases c0 : C p = 0
    · have hgs : sv S (M 4 p) := fun q hq => (TI_p hI sp hq).1
      rw [if_pos c0, v_par hr (sv_s hx), bn_s, hp, v_par hr (sv_s hx), bn_s, hp, v_par hr (sv_s sp), bn_s, v_lft hr hgs]
      by_cases eL : some p = bn M 2 (M 4 p)
      · obtain ⟨q, hq⟩ : ∃ q, M 4 p = some q := by
          cases hq : M 4 p with
          | none => rw [hq] at eL; cases eL
          | some q => exact ⟨q, rfl⟩
        obtain ⟨sq, -⟩ := TI_p hI sp hq
        obtain ⟨npq, gpq⟩ := TI_pn hI sp hq
        have nqp : q ≠ p := fun e => npq e.symm
        have nqx : q ≠ x := fun e => by rw [e] at gpq; omega
        have nxq : x ≠ q := fun e => nqx e.symm
        have eL2 := eL
        rw [hq, bn_s] at eL2
        have hy : sv S (M 3 q) := fun y hy => (TI_r hI sq hy).1
        rw [if_pos eL, v_par hr (sv_s hx), bn_s, hp, v_par hr (sv_s sp), bn_s, hq, v_rgt hr (sv_s sq), bn_s, v_col hr hC hy]
        by_cases cy : cl C (M 3 q) = 0
        · rw [if_pos cy, v_par hr (sv_s hx), bn_s, hp, v_sco hr (sv_s sp) (Or.inr rfl), v_sco hr hy (Or.inr rfl), v_par hr (sv_s hx), bn_s, hp, v_par hr (sv_s sp), bn_s, hq, v_sco hr (sv_s sq) (Or.inl rfl), v_par hr (sv_s hx), bn_s, hp, v_par hr (sv_s sp), bn_s, hq]
          exact ih M _ rt lo hi q hI (okC_cs (okC_cs (okC_cs hC (Or.inr rfl)) (Or.inr rfl)) (Or.inl rfl)) sq (by omega)
        · rw [if_neg cy, v_par hr (sv_s hx), bn_s, hp, v_rgt hr (sv_s sp), bn_s, mjn_b]
          by_cases ex : some x = M 3 p
          · have I1 := TI_rotL hI sp ex.symm
            have m2x : M 2 x ≠ some p := fun e => by
              have := TI_pn hI sp (TI_l hI hx e).2.1
              omega
            have m3x : M 3 x ≠ some p := fun e => by
              have := TI_pn hI sp (TI_r hI hx e).2.1
              omega
            have m2xx : M 2 x ≠ some x := fun e => by
              have := (TI_pn hI hx (TI_l hI hx e).2.1).1
              exact this rfl
            have m1p : rotL M p x 4 p = some x := by rw [rotL_4, if_neg m2x, if_neg npx, if_pos rfl]
            have m1x : rotL M p x 4 x = some q := by rw [rotL_4, if_neg m2xx, if_pos rfl, hq]
            have m1q : rotL M p x 2 q = some x := by rw [rotL_2, if_neg nqx, if_pos ⟨hq, eL2.symm⟩]
            have m13 : rotL M p x 3 x ≠ some p := by
              rw [rotL_3, if_neg nxp, if_neg (fun e => by rw [hq] at e; exact nqx (Option.some.inj e.1))]
              exact m3x
            obtain ⟨lo2, hi2, I2⟩ := TI_rotR I1 sq m1q
            have m2p : rotR (rotL M p x) q x 4 p = some x := by rw [rotR_4, if_neg m13, if_neg npx, if_neg npq]; exact m1p
            rw [if_pos ex, v_par hr (sv_s hx), bn_s, hp, v_rotL hr hI sp ex.symm]
            dsimp only
            rw [v_par hr (sv_s sp), bn_s, m1p, v_sco hr (sv_s hx) (Or.inr rfl), v_par hr (sv_s sp), bn_s, m1p, v_par hr (sv_s hx), bn_s, m1x, v_sco hr (sv_s sq) (Or.inl rfl), v_par hr (sv_s sp), bn_s, m1p, v_par hr (sv_s hx), bn_s, m1x, v_rotR hr I1 sq m1q]
            refine ⟨_, _, _, lo2, hi2, fixI_x hr (by omega) sp hx m2p ?_, I2, okC_cs (okC_cs hC (Or.inr rfl)) (Or.inl rfl), fun f hf => by rw [rotR_o hf, rotL_o hf]⟩
            rw [cs_s, cs_s]
            unfold cup
            rw [if_neg nxq, if_pos rfl]
            decide
          · have ex2 : M 2 p = some x := pc.resolve_right (fun e => ex e.symm)
            obtain ⟨lo2, hi2, I2⟩ := TI_rotR hI sq eL2.symm
            have m2x : rotR M q p 4 x = some p := by rw [rotR_4, if_neg (fun e => ex e.symm), if_neg nxp, if_neg nxq]; exact hp
            rw [if_neg ex]
            dsimp only
            rw [v_par hr (sv_s hx), bn_s, hp, v_sco hr (sv_s sp) (Or.inr rfl), v_par hr (sv_s hx), bn_s, hp, v_par hr (sv_s sp), bn_s, hq, v_sco hr (sv_s sq) (Or.inl rfl), v_par hr (sv_s hx), bn_s, hp, v_par hr (sv_s sp), bn_s, hq, v_rotR hr hI sq eL2.symm]
            refine ⟨_, _, _, lo2, hi2, fixI_x hr (by omega) hx sp m2x ?_, I2, okC_cs (okC_cs hC (Or.inr rfl)) (Or.inl rfl), fun f hf => rotR_o hf⟩
            rw [cs_s, cs_s]
            unfold cup
            rw [if_neg npq, if_pos rfl]
            decide
      · have hy : sv S (bn M 2 (M 4 p)) := fun y hy => by
          cases hq : M 4 p with
          | none => rw [hq] at hy; cases hy
          | some q => rw [hq, bn_s] at hy; exact (TI_l hI (TI_p hI sp hq).1 hy).1
        rw [if_neg eL, v_par hr (sv_s hx), bn_s, hp, v_par hr (sv_s sp), bn_s, v_lft hr hgs, v_col hr hC hy]
        by_cases cy : cl C (bn M 2 (M 4 p)) = 0
        · obtain ⟨q, hq⟩ : ∃ q, M 4 p = some q := by
            cases hq : M 4 p with
            | none => rw [hq] at cy; exact absurd (show (1 : Int32) = 0 from cy) (by decide)
            | some q => exact ⟨q, rfl⟩
          obtain ⟨sq, -⟩ := TI_p hI sp hq
          obtain ⟨npq, gpq⟩ := TI_pn hI sp hq
          rw [if_pos cy, v_par hr (sv_s hx), bn_s, hp, v_sco hr (sv_s sp) (Or.inr rfl), v_sco hr hy (Or.inr rfl), v_par hr (sv_s hx), bn_s, hp, v_par hr (sv_s sp), bn_s, v_sco hr hgs (Or.inl rfl), v_par hr (sv_s hx), bn_s, hp, v_par hr (sv_s sp), bn_s, hq]
          exact ih M _ rt lo hi q hI (okC_cs (okC_cs (okC_cs hC (Or.inr rfl)) (Or.inr rfl)) (Or.inl rfl)) sq (by omega)
        · rw [if_neg cy, v_par hr (sv_s hx), bn_s, hp, v_lft hr (sv_s sp), bn_s, mjn_b]
          by_cases ex : some x = M 2 p
          · obtain ⟨lo1, hi1, I1⟩ := TI_rotR hI sp ex.symm
            have m2x : M 2 x ≠ some p := fun e => by
              have := TI_pn hI sp (TI_l hI hx e).2.1
              omega
            have m3x : M 3 x ≠ some p := fun e => by
              have := TI_pn hI sp (TI_r hI hx e).2.1
              omega
            have m3xx : M 3 x ≠ some x := fun e => by
              have := (TI_pn hI hx (TI_r hI hx e).2.1).1
              exact this rfl
            have m1p : rotR M p x 4 p = some x := by rw [rotR_4, if_neg m3x, if_neg npx, if_pos rfl]
            have m1x : rotR M p x 4 x = M 4 p := by rw [rotR_4, if_neg m3xx, if_pos rfl]
            have hgs1 : sv S (rotR M p x 4 x) := by rw [m1x]; exact hgs
            rw [if_pos ex, v_par hr (sv_s hx), bn_s, hp, v_rotR hr hI sp ex.symm]
            dsimp only
            rw [v_par hr (sv_s sp), bn_s, m1p, v_sco hr (sv_s hx) (Or.inr rfl), v_par hr (sv_s sp), bn_s, m1p, v_par hr (sv_s hx), bn_s, v_sco hr hgs1 (Or.inl rfl), v_par hr (sv_s sp), bn_s, m1p, v_par hr (sv_s hx), bn_s, m1x]
            cases hq : M 4 p with
            | none =>
              rw [v_rotL0]
              refine ⟨_, _, _, lo1, hi1, fixI_x hr (by omega) sp hx m1p ?_, by rw [hq] at I1; exact I1, okC_cs (okC_cs hC (Or.inr rfl)) (Or.inl rfl), fun f hf => rotR_o hf⟩
              rw [cs_n, cs_s]
              unfold cup
              rw [if_pos rfl]
              decide
            | some q =>
              obtain ⟨sq, cq⟩ := TI_p hI sp hq
              obtain ⟨npq, gpq⟩ := TI_pn hI sp hq
              have nqp : q ≠ p := fun e => npq e.symm
              have nqx : q ≠ x := fun e => by rw [e] at gpq; omega
              have nxq : x ≠ q := fun e => nqx e.symm
              have eL2 := eL
              rw [hq, bn_s] at eL2
              have e3 : M 3 q = some p := cq.resolve_left (fun e => eL2 e.symm)
              have m3q : M 3 q ≠ some x := fun e => by rw [e3] at e; exact npx (Option.some.inj e)
              have m1q : rotR M p x 3 q = some x := by rw [rotR_3, if_neg nqx, if_pos ⟨hq, e3⟩]
              have m12 : rotR M p x 2 x ≠ some p := by
                rw [rotR_2, if_neg nxp, if_neg (fun e => by rw [hq] at e; exact nqx (Option.some.inj e.1))]
                exact m2x
              have I2 := TI_rotL I1 sq m1q
              have m2p : rotL (rotR M p x) q x 4 p = some x := by rw [rotL_4, if_neg m12, if_neg npx, if_neg npq]; exact m1p
              rw [hq] at I1 I2
              rw [v_rotL hr I1 sq m1q]
              refine ⟨_, _, _, _, _, fixI_x hr (by omega) sp hx m2p ?_, I2, okC_cs (okC_cs hC (Or.inr rfl)) (Or.inl rfl), fun f hf => by rw [rotL_o hf, rotR_o hf]⟩
              rw [cs_s, cs_s]
              unfold cup
              rw [if_neg nxq, if_pos rfl]
              decide
          · have ex2 : M 3 p = some x := pc.resolve_left (fun e => ex e.symm)
            rw [if_neg ex]
            dsimp only
            rw [v_par hr (sv_s hx), bn_s, hp, v_sco hr (sv_s sp) (Or.inr rfl), v_par hr (sv_s hx), bn_s, hp, v_par hr (sv_s sp), bn_s, v_sco hr hgs (Or.inl rfl), v_par hr (sv_s hx), bn_s, hp, v_par hr (sv_s sp), bn_s]
            cases hq : M 4 p with
            | none =>
              rw [v_rotL0]
              refine ⟨_, _, _, lo, hi, fixI_x hr (by omega) hx sp hp ?_, hI, okC_cs (okC_cs hC (Or.inr rfl)) (Or.inl rfl), fun f hf => rfl⟩
              rw [cs_n, cs_s]
              unfold cup
              rw [if_pos rfl]
              decide
            | some q =>
              obtain ⟨sq, cq⟩ := TI_p hI sp hq
              obtain ⟨npq, gpq⟩ := TI_pn hI sp hq
              have nxq : x ≠ q := fun e => by rw [e] at gxp; omega
              have eL2 := eL
              rw [hq, bn_s] at eL2
              have e3 : M 3 q = some p := cq.resolve_left (fun e => eL2 e.symm)
              have I2 := TI_rotL hI sq e3
              have m2x : rotL M q p 4 x = some p := by rw [rotL_4, if_neg (fun e => ex e.symm), if_neg nxp, if_neg nxq]; exact hp
              rw [v_rotL hr hI sq e3]
              refine ⟨_, _, _, _, _, fixI_x hr (by omega) hx sp m2x ?_, I2, okC_cs (okC_cs hC (Or.inr rfl)) (Or.inl rfl), fun f hf => rotL_o hf⟩
              rw [cs_s, cs_s]
              unfold cup
              rw [if_neg npq, if_pos rfl]
              decide
    · exact ⟨M, C, rt, lo, hi, by rw [if_neg c0], hI, hC, fun _ _ => rfl⟩
end
