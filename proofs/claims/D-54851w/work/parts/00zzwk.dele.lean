/-! ===== TreeMap.deleteEntry ===== -/
theorem ov_drop {r : Nat} {S : Nat → Prop} {cmp ks : Option Nat} {h : Nat → Option hC} {M : Nat → Nat → Option Nat} {C : Nat → Int32} {rt : Option Nat} {sz mc : Int32} (hr : ¬ S r) {p : Nat} (hp : S p) :
    ov r S cmp ks h M C rt sz mc = ov r (fun q => S q ∧ q ≠ p) cmp ks (hset h p (eCell M C p)) M C rt sz mc := by
  funext q
  unfold ov
  by_cases e : q = r
  · rw [if_pos e, if_pos e]
  · rw [if_neg e, if_neg e]
    by_cases e2 : S q
    · rw [if_pos e2]
      by_cases e3 : q = p
      · rw [if_neg (fun w => w.2 e3), e3, hset_at]
      · rw [if_pos ⟨e2, e3⟩]
    · rw [if_neg e2, if_neg (fun w => e2 w.1), hset_ne (fun w => e2 (by rw [w]; exact hp))]
section
variable {r : Nat} {S : Nat → Prop} {cmp ks : Option Nat} {h : Nat → Option hC} {M : Nat → Nat → Option Nat} {C : Nat → Int32} {rt : Option Nat} {sz mc : Int32} {n w : Nat} {g : Nat → Nat} {nn : Int} {pos lo hi : Nat → Int} {e kk : Int → Nat} {PV : Option Nat → Prop}
theorem fixD_top (hr : ¬ S r) (hI : TI S M rt 0 nn pos lo hi) (hk0 : okC C) {x : Nat} (hx : S x) (hnn : nn ≤ 1001) :
    ∃ (M' : Nat → Nat → Option Nat) (C' : Nat → Int32) (rt' : Option Nat) (lo' hi' : Nat → Int), fJ6_fixAfterDeletion g (some r) (some x) (ov r S cmp ks h M C rt sz mc, n, 0) = some ((), (ov r S cmp ks h M' C' rt' sz mc, n, 0)) ∧ TI S M' rt' 0 nn pos lo' hi' ∧ okC C' ∧ (∀ f, f < 2 → M' f = M f) ∧
      ∀ q, S q → M 2 q = none → M 3 q = none → lo x ≤ pos q → pos q < hi x → M' 2 q = none ∧ M' 3 q = none := by
  have gx := hI.1 x hx
  obtain ⟨M', C', rt', lo', hi', y, e1, e2, e3, e4, e5, e6⟩ := fixD_ev (cmp := cmp) (ks := ks) (h := h) (sz := sz) (mc := mc) (n := n) (w := 0) (g := g) (K0 := fun (x55 : Option Nat) => mb (mcall0 (fJ6_setColor g x55 1)) fun _ => mret ()) hr 5000 M C rt lo hi x hI hk0 hx (by omega)
  refine ⟨M', cs C' (some y) 1, rt', lo', hi', ?_, e3, okC_cs e4 (Or.inr rfl), e5, e6⟩
  unfold fJ6_fixAfterDeletion
  rw [e1]
  dsimp only
  rw [v_sco hr (sv_s e2) (Or.inr rfl)]
  rfl
theorem del2_ev (hr : ¬ S r) (hI : TI S M rt 0 nn pos lo hi) (hk0 : okC C) (hj : inj S pos) (hnn : nn ≤ 1000) {p : Nat} (hp : S p) (h1 : M 2 p = none ∨ M 3 p = none) :
    ∃ (M' : Nat → Nat → Option Nat) (C' : Nat → Int32) (rt' : Option Nat) (lo' hi' : Nat → Int) (c : hC), (mb (oR 19 2 (some p)) fun x5 => mjn (fun (x6 : Option Nat) => if x6 = none then (mb (oR 19 4 (some p)) fun x7 => if x7 = none then (mb (pR 18 3 (some r) none) fun _ => mret ()) else (mb (oI 19 5 (some p)) fun x8 => mjn0 ( mb (oR 19 4 (some p)) fun x9 => if x9 = none then (mret ()) else (mb (oR 19 4 (some p)) fun x10 => mb (oR 19 2 x10) fun x11 => mjn0 ( mb (pR 19 4 (some p) none) fun _ => mret ()) fun j240 => if (some p) = x11 then (mb (oR 19 4 (some p)) fun x15 => mb (pR 19 2 x15 none) fun _ => j240) else (mb (oR 19 4 (some p)) fun x12 => mb (oR 19 3 x12) fun x13 => if (some p) = x13 then (mb (oR 19 4 (some p)) fun x14 => mb (pR 19 3 x14 none) fun _ => j240) else (j240)))) fun j192 => if x8 = 1 then (mb (mon 18 (some r) (mcall0 (fJ6_fixAfterDeletion g (some r) (some p)))) fun _ => j192) else (j192))) else (mb (oR 19 4 (some p)) fun x16 => mb (pR 19 4 x6 x16) fun _ => mb (oR 19 4 (some p)) fun x17 => mjn0 ( mb (pR 19 4 (some p) none) fun _ => mb (pR 19 3 (some p) none) fun _ => mb (pR 19 2 (some p) none) fun _ => mb (oI 19 5 (some p)) fun x18 => if x18 = 1 then (mb (mon 18 (some r) (mcall0 (fJ6_fixAfterDeletion g (some r) x6))) fun _ => mret ()) else (mret ())) fun j133 => if x17 = none then (mb (pR 18 3 (some r) x6) fun _ => j133) else (mb (oR 19 4 (some p)) fun x19 => mb (oR 19 2 x19) fun x20 => if (some p) = x20 then (mb (oR 19 4 (some p)) fun x22 => mb (pR 19 2 x22 x6) fun _ => j133) else (mb (oR 19 4 (some p)) fun x21 => mb (pR 19 3 x21 x6) fun _ => j133)))) fun j75 => if x5 = none then (mb (oR 19 3 (some p)) fun x23 => j75 x23) else (mb (oR 19 2 (some p)) fun x24 => j75 x24)) (ov r S cmp ks h M C rt sz mc, n, 0) = some ((), (ov r (fun q => S q ∧ q ≠ p) cmp ks (hset h p c) M' C' rt' sz mc, n, 0)) ∧ TI (fun q => S q ∧ q ≠ p) M' rt' 0 (nn - 1) (pdn pos (pos p)) lo' hi' ∧ okC C' ∧ ∀ f, f < 2 → M' f = M f := by
  have gp := hI.1 p hp
  have key : ∀ v : Option Nat, v = (if M 2 p = none then M 3 p else M 2 p) → ∃ (M' : Nat → Nat → Option Nat) (C' : Nat → Int32) (rt' : Option Nat) (lo' hi' : Nat → Int) (c : hC), (fun (x6 : Option Nat) => if x6 = none then (mb (oR 19 4 (some p)) fun x7 => if x7 = none then (mb (pR 18 3 (some r) none) fun _ => mret ()) else (mb (oI 19 5 (some p)) fun x8 => mjn0 ( mb (oR 19 4 (some p)) fun x9 => if x9 = none then (mret ()) else (mb (oR 19 4 (some p)) fun x10 => mb (oR 19 2 x10) fun x11 => mjn0 ( mb (pR 19 4 (some p) none) fun _ => mret ()) fun j240 => if (some p) = x11 then (mb (oR 19 4 (some p)) fun x15 => mb (pR 19 2 x15 none) fun _ => j240) else (mb (oR 19 4 (some p)) fun x12 => mb (oR 19 3 x12) fun x13 => if (some p) = x13 then (mb (oR 19 4 (some p)) fun x14 => mb (pR 19 3 x14 none) fun _ => j240) else (j240)))) fun j192 => if x8 = 1 then (mb (mon 18 (some r) (mcall0 (fJ6_fixAfterDeletion g (some r) (some p)))) fun _ => j192) else (j192))) else (mb (oR 19 4 (some p)) fun x16 => mb (pR 19 4 x6 x16) fun _ => mb (oR 19 4 (some p)) fun x17 => mjn0 ( mb (pR 19 4 (some p) none) fun _ => mb (pR 19 3 (some p) none) fun _ => mb (pR 19 2 (some p) none) fun _ => mb (oI 19 5 (some p)) fun x18 => if x18 = 1 then (mb (mon 18 (some r) (mcall0 (fJ6_fixAfterDeletion g (some r) x6))) fun _ => mret ()) else (mret ())) fun j133 => if x17 = none then (mb (pR 18 3 (some r) x6) fun _ => j133) else (mb (oR 19 4 (some p)) fun x19 => mb (oR 19 2 x19) fun x20 => if (some p) = x20 then (mb (oR 19 4 (some p)) fun x22 => mb (pR 19 2 x22 x6) fun _ => j133) else (mb (oR 19 4 (some p)) fun x21 => mb (pR 19 3 x21 x6) fun _ => j133)))) v (ov r S cmp ks h M C rt sz mc, n, 0) = some ((), (ov r (fun q => S q ∧ q ≠ p) cmp ks (hset h p c) M' C' rt' sz mc, n, 0)) ∧ TI (fun q => S q ∧ q ≠ p) M' rt' 0 (nn - 1) (pdn pos (pos p)) lo' hi' ∧ okC C' ∧ ∀ f, f < 2 → M' f = M f := by
    intro v hv
    show ∃ (M' : Nat → Nat → Option Nat) (C' : Nat → Int32) (rt' : Option Nat) (lo' hi' : Nat → Int) (c : hC), (if v = none then (mb (oR 19 4 (some p)) fun x7 => if x7 = none then (mb (pR 18 3 (some r) none) fun _ => mret ()) else (mb (oI 19 5 (some p)) fun x8 => mjn0 ( mb (oR 19 4 (some p)) fun x9 => if x9 = none then (mret ()) else (mb (oR 19 4 (some p)) fun x10 => mb (oR 19 2 x10) fun x11 => mjn0 ( mb (pR 19 4 (some p) none) fun _ => mret ()) fun j240 => if (some p) = x11 then (mb (oR 19 4 (some p)) fun x15 => mb (pR 19 2 x15 none) fun _ => j240) else (mb (oR 19 4 (some p)) fun x12 => mb (oR 19 3 x12) fun x13 => if (some p) = x13 then (mb (oR 19 4 (some p)) fun x14 => mb (pR 19 3 x14 none) fun _ => j240) else (j240)))) fun j192 => if x8 = 1 then (mb (mon 18 (some r) (mcall0 (fJ6_fixAfterDeletion g (some r) (some p)))) fun _ => j192) else (j192))) else (mb (oR 19 4 (some p)) fun x16 => mb (pR 19 4 v x16) fun _ => mb (oR 19 4 (some p)) fun x17 => mjn0 ( mb (pR 19 4 (some p) none) fun _ => mb (pR 19 3 (some p) none) fun _ => mb (pR 19 2 (some p) none) fun _ => mb (oI 19 5 (some p)) fun x18 => if x18 = 1 then (mb (mon 18 (some r) (mcall0 (fJ6_fixAfterDeletion g (some r) v))) fun _ => mret ()) else (mret ())) fun j133 => if x17 = none then (mb (pR 18 3 (some r) v) fun _ => j133) else (mb (oR 19 4 (some p)) fun x19 => mb (oR 19 2 x19) fun x20 => if (some p) = x20 then (mb (oR 19 4 (some p)) fun x22 => mb (pR 19 2 x22 v) fun _ => j133) else (mb (oR 19 4 (some p)) fun x21 => mb (pR 19 3 x21 v) fun _ => j133)))) (ov r S cmp ks h M C rt sz mc, n, 0) = _ ∧ _
    cases hvc : v with
    | none =>
      rw [hvc] at hv
      have h2 : M 2 p = none := by
        cases q : M 2 p with
        | none => rfl
        | some c => rw [q, if_neg (fun w => by cases w)] at hv; cases hv
      have h3 : M 3 p = none := by rw [h2, if_pos rfl] at hv; exact hv.symm
      rw [if_pos rfl, v_e4 hr hp]
      cases h4 : M 4 p with
      | none =>
        obtain ⟨lo', hi', k⟩ := TI_delL (M' := M) hI hj hp h3
          (fun q hq _ => by rw [if_neg (fun w => by have := (TI_l hI hq w).2.1; rw [h4] at this; cases this)])
          (fun q hq _ => by rw [if_neg (fun w => by have := (TI_r hI hq w).2.1; rw [h4] at this; cases this)])
          (fun q hq _ => by rw [if_neg (fun w => by rw [h2] at w; cases w)])
        rw [if_pos h4, h2] at k
        refine ⟨M, C, none, lo', hi', eCell M C p, ?_, k, hk0, fun _ _ => rfl⟩
        rw [if_pos rfl, v_q3, ov_drop hr hp]
        rfl
      | some q =>
        obtain ⟨sq, cq⟩ := TI_p hI hp h4
        have gpq := TI_pn hI hp h4
        have gq := hI.1 q sq
        -- the last part: the leaf is unlinked
        have fin : ∀ (M1 : Nat → Nat → Option Nat) (C1 : Nat → Int32) (rt1 : Option Nat) (lo1 hi1 : Nat → Int), TI S M1 rt1 0 nn pos lo1 hi1 → okC C1 → (∀ f, f < 2 → M1 f = M f) → M1 2 p = none → M1 3 p = none →
            ∃ (M' : Nat → Nat → Option Nat) (C' : Nat → Int32) (rt' : Option Nat) (lo' hi' : Nat → Int) (c : hC), (mb (oR 19 4 (some p)) fun x9 => if x9 = none then (mret ()) else (mb (oR 19 4 (some p)) fun x10 => mb (oR 19 2 x10) fun x11 => mjn0 ( mb (pR 19 4 (some p) none) fun _ => mret ()) fun j240 => if (some p) = x11 then (mb (oR 19 4 (some p)) fun x15 => mb (pR 19 2 x15 none) fun _ => j240) else (mb (oR 19 4 (some p)) fun x12 => mb (oR 19 3 x12) fun x13 => if (some p) = x13 then (mb (oR 19 4 (some p)) fun x14 => mb (pR 19 3 x14 none) fun _ => j240) else (j240)))) (ov r S cmp ks h M1 C1 rt1 sz mc, n, 0) = some ((), (ov r (fun q => S q ∧ q ≠ p) cmp ks (hset h p c) M' C' rt' sz mc, n, 0)) ∧ TI (fun q => S q ∧ q ≠ p) M' rt' 0 (nn - 1) (pdn pos (pos p)) lo' hi' ∧ okC C' ∧ ∀ f, f < 2 → M' f = M f := by
          intro M1 C1 rt1 lo1 hi1 I1 hC1 hf1 l2 l3
          rw [v_e4 hr hp]
          cases m4 : M1 4 p with
          | none =>
            have b1 := TI_rt I1 (TI_p0 I1 hp m4)
            have b2 := TI_l0 I1 hp l2
            have b3 := TI_r0 I1 hp l3
            omega
          | some y =>
            obtain ⟨sy, cy⟩ := TI_p I1 hp m4
            have nyp : y ≠ p := fun w => (TI_pn I1 hp m4).1 w.symm
            rw [if_neg (fun w => by cases w), v_e4 hr hp, m4, v_e2 hr sy, mjn0_b]
            by_cases e2 : some p = M1 2 y
            · have e3 : M1 3 y ≠ some p := TI_lr I1 sy e2.symm
              obtain ⟨lo', hi', k⟩ := TI_delL (M' := mup (mup M1 2 y none) 4 p none) I1 hj hp l3
                (fun q hq hne => by
                  rw [mup_f (by decide), l2]
                  by_cases z : q = y
                  · rw [z, mup_s, if_pos e2.symm]
                  · rw [mup_o z, if_neg (fun w => by have := (TI_l I1 hq w).2.1; rw [m4] at this; exact z (Option.some.inj this).symm)])
                (fun q hq hne => by
                  rw [mup_f (by decide), mup_f (by decide), if_neg (fun w => by
                    have := (TI_r I1 hq w).2.1
                    rw [m4] at this
                    have z := Option.some.inj this
                    rw [← z] at w
                    exact e3 w)])
                (fun q hq hne => by rw [mup_o hne, mup_f (by decide), if_neg (fun w => by rw [l2] at w; cases w)])
              rw [m4, if_neg (fun w => by cases w)] at k
              refine ⟨mup (mup M1 2 y none) 4 p none, C1, rt1, lo', hi', eCell (mup (mup M1 2 y none) 4 p none) C1 p, ?_, k, hC1, fun f hf => by
                rw [← hf1 f hf]
                funext q
                rw [mup_f (by omega), mup_f (by omega)]⟩
              rw [if_pos e2, v_e4 hr hp, m4, v_p2 hr sy, v_p4 hr hp, ov_drop hr hp]
              rfl
            · have e3 : M1 3 y = some p := cy.resolve_left (fun w => e2 w.symm)
              obtain ⟨lo', hi', k⟩ := TI_delL (M' := mup (mup M1 3 y none) 4 p none) I1 hj hp l3
                (fun q hq hne => by
                  rw [mup_f (by decide), mup_f (by decide), if_neg (fun w => by
                    have := (TI_l I1 hq w).2.1
                    rw [m4] at this
                    have z := Option.some.inj this
                    rw [← z] at w
                    exact e2 w.symm)])
                (fun q hq hne => by
                  rw [mup_f (by decide), l2]
                  by_cases z : q = y
                  · rw [z, mup_s, if_pos e3]
                  · rw [mup_o z, if_neg (fun w => by have := (TI_r I1 hq w).2.1; rw [m4] at this; exact z (Option.some.inj this).symm)])
                (fun q hq hne => by rw [mup_o hne, mup_f (by decide), if_neg (fun w => by rw [l2] at w; cases w)])
              rw [m4, if_neg (fun w => by cases w)] at k
              refine ⟨mup (mup M1 3 y none) 4 p none, C1, rt1, lo', hi', eCell (mup (mup M1 3 y none) 4 p none) C1 p, ?_, k, hC1, fun f hf => by
                rw [← hf1 f hf]
                funext q
                rw [mup_f (by omega), mup_f (by omega)]⟩
              rw [if_neg e2, v_e4 hr hp, m4, v_e3 hr sy, if_pos e3.symm, v_e4 hr hp, m4, v_p3 hr sy, v_p4 hr hp, ov_drop hr hp]
              rfl
        rw [if_neg (fun w => by cases w), v_e5 hr hp, mjn0_b]
        by_cases c1 : C p = 1
        · obtain ⟨M1, C1, rt1, lo1, hi1, f1, f2, f3, f4, f5⟩ := fixD_top (cmp := cmp) (ks := ks) (h := h) (sz := sz) (mc := mc) (n := n) (g := g) hr hI hk0 hp (by omega)
          obtain ⟨l2, l3⟩ := f5 p hp h2 h3 (by omega) (by omega)
          obtain ⟨M', C', rt', lo', hi', c, k1, k2⟩ := fin M1 C1 rt1 lo1 hi1 f2 f3 f4 l2 l3
          refine ⟨M', C', rt', lo', hi', c, ?_, k2⟩
          rw [if_pos c1, v_mon, e_call0 f1]
          exact k1
        · obtain ⟨M', C', rt', lo', hi', c, k1, k2⟩ := fin M C rt lo hi hI hk0 (fun _ _ => rfl) h2 h3
          refine ⟨M', C', rt', lo', hi', c, ?_, k2⟩
          rw [if_neg c1]
          exact k1
    | some c =>
      rw [hvc] at hv
      -- the child c takes p's place
      have hc : S c ∧ M 4 c = some p ∧ ((M 2 p = some c ∧ M 3 p = none) ∨ (M 3 p = some c ∧ M 2 p = none)) := by
        by_cases q : M 2 p = none
        · rw [if_pos q] at hv
          have := TI_r hI hp hv.symm
          exact ⟨this.1, this.2.1, Or.inr ⟨hv.symm, q⟩⟩
        · rw [if_neg q] at hv
          have := TI_l hI hp hv.symm
          exact ⟨this.1, this.2.1, Or.inl ⟨hv.symm, h1.resolve_left q⟩⟩
      obtain ⟨sc, pc, hcc⟩ := hc
      have ncp : c ≠ p := (TI_pn hI sc pc).1
      have e4 : mup M 4 c (M 4 p) 4 p = M 4 p := mup_o (fun w => ncp w.symm)
      -- links behind the joining
      have lnk : ∃ (M2 : Nat → Nat → Option Nat) (rt2 : Option Nat) (lo' hi' : Nat → Int), TI (fun q => S q ∧ q ≠ p) (mup (mup (mup M2 4 p none) 3 p none) 2 p none) rt2 0 (nn - 1) (pdn pos (pos p)) lo' hi' ∧ (∀ f, f < 2 → M2 f = M f) ∧
          ∀ J : HM Unit, (mb (oR 19 4 (some p)) fun x17 => if x17 = none then (mb (pR 18 3 (some r) (some c)) fun _ => J) else (mb (oR 19 4 (some p)) fun x19 => mb (oR 19 2 x19) fun x20 => if (some p) = x20 then (mb (oR 19 4 (some p)) fun x22 => mb (pR 19 2 x22 (some c)) fun _ => J) else (mb (oR 19 4 (some p)) fun x21 => mb (pR 19 3 x21 (some c)) fun _ => J))) (ov r S cmp ks h (mup M 4 c (M 4 p)) C rt sz mc, n, 0) = J (ov r S cmp ks h M2 C rt2 sz mc, n, 0) := by
        cases h4 : M 4 p with
        | none =>
          have e5 : mup M 4 c none 4 p = none := by rw [← h4]; exact e4
          have kt : ∃ (lo' hi' : Nat → Int), TI (fun q => S q ∧ q ≠ p) (mup (mup (mup (mup M 4 c none) 4 p none) 3 p none) 2 p none) (some c) 0 (nn - 1) (pdn pos (pos p)) lo' hi' := by
            have pn : ∀ q, S q → M 2 q ≠ some p ∧ M 3 q ≠ some p := fun q hq => ⟨fun w => (by have := (TI_l hI hq w).2.1; rw [h4] at this; cases this), fun w => (by have := (TI_r hI hq w).2.1; rw [h4] at this; cases this)⟩
            rcases hcc with ⟨a, b⟩ | ⟨a, b⟩
            · obtain ⟨lo', hi', k⟩ := TI_delL (M' := mup (mup (mup (mup M 4 c none) 4 p none) 3 p none) 2 p none) hI hj hp b
                (fun q hq hne => by rw [mup_o hne, mup_o hne, mup_o hne, mup_f (by decide), if_neg (pn q hq).1])
                (fun q hq hne => by rw [mup_o hne, mup_o hne, mup_o hne, mup_f (by decide), if_neg (pn q hq).2])
                (fun q hq hne => by
                  rw [mup_o hne, mup_o hne, mup_o hne, a, h4]
                  by_cases z : q = c
                  · rw [z, mup_s, if_pos rfl]
                  · rw [mup_o z, if_neg (fun w => z (Option.some.inj w).symm)])
              rw [if_pos h4, a] at k
              exact ⟨lo', hi', k⟩
            · obtain ⟨lo', hi', k⟩ := TI_delR (M' := mup (mup (mup (mup M 4 c none) 4 p none) 3 p none) 2 p none) hI hj hp b
                (fun q hq hne => by rw [mup_o hne, mup_o hne, mup_o hne, mup_f (by decide), if_neg (pn q hq).2])
                (fun q hq hne => by rw [mup_o hne, mup_o hne, mup_o hne, mup_f (by decide), if_neg (pn q hq).1])
                (fun q hq hne => by
                  rw [mup_o hne, mup_o hne, mup_o hne, a, h4]
                  by_cases z : q = c
                  · rw [z, mup_s, if_pos rfl]
                  · rw [mup_o z, if_neg (fun w => z (Option.some.inj w).symm)])
              rw [if_pos h4, a] at k
              exact ⟨lo', hi', k⟩
          obtain ⟨lo', hi', k⟩ := kt
          refine ⟨_, _, lo', hi', k, fun f hf => by funext q; rw [mup_f (by omega)], fun J => ?_⟩
          rw [v_e4 hr hp, e5, if_pos rfl, v_q3]
        | some y =>
          obtain ⟨sy, cy⟩ := TI_p hI hp h4
          have nyp : y ≠ p := fun w => (TI_pn hI hp h4).1 w.symm
          have nyc : y ≠ c := fun w => by
            have a1 := TI_pn hI hp h4
            have a2 := TI_pn hI sc pc
            rw [w] at a1
            omega
          rw [h4] at e4
          have up : ∀ q, S q → (M 2 q = some p → q = y) ∧ (M 3 q = some p → q = y) := fun q hq => ⟨fun w => by
              have := (TI_l hI hq w).2.1
              rw [h4] at this
              exact (Option.some.inj this).symm, fun w => by
              have := (TI_r hI hq w).2.1
              rw [h4] at this
              exact (Option.some.inj this).symm⟩
          have e6 : mup M 4 c (some y) 2 y = M 2 y := mup_f (by decide)
          -- the parent's link is f0 (2 or 3)
          by_cases e2 : some p = M 2 y
          · have e3 : M 3 y ≠ some p := TI_lr hI sy e2.symm
            have kt : ∃ (lo' hi' : Nat → Int), TI (fun q => S q ∧ q ≠ p) (mup (mup (mup (mup (mup M 4 c (some y)) 2 y (some c)) 4 p none) 3 p none) 2 p none) rt 0 (nn - 1) (pdn pos (pos p)) lo' hi' := by
              have w2 : ∀ q, S q → q ≠ p → (mup (mup (mup (mup (mup M 4 c (some y)) 2 y (some c)) 4 p none) 3 p none) 2 p none) 2 q = if M 2 q = some p then some c else M 2 q := fun q hq hne => by
                rw [mup_o hne, mup_o hne, mup_o hne]
                by_cases z : q = y
                · rw [z, mup_s, if_pos e2.symm]
                · rw [mup_o z, mup_f (by decide), if_neg (fun w => z ((up q hq).1 w))]
              have w3 : ∀ q, S q → q ≠ p → (mup (mup (mup (mup (mup M 4 c (some y)) 2 y (some c)) 4 p none) 3 p none) 2 p none) 3 q = if M 3 q = some p then some c else M 3 q := fun q hq hne => by
                rw [mup_o hne, mup_o hne, mup_o hne, mup_f (by decide), mup_f (by decide), if_neg (fun w => by
                  have z := (up q hq).2 w
                  rw [z] at w
                  exact e3 w)]
              have w4 : ∀ q, S q → q ≠ p → (mup (mup (mup (mup (mup M 4 c (some y)) 2 y (some c)) 4 p none) 3 p none) 2 p none) 4 q = if some c = some q then some y else M 4 q := fun q hq hne => by
                rw [mup_o hne, mup_o hne, mup_o hne, mup_f (by decide)]
                by_cases z : q = c
                · rw [z, mup_s, if_pos rfl]
                · rw [mup_o z, if_neg (fun w => z (Option.some.inj w).symm)]
              rcases hcc with ⟨a, b⟩ | ⟨a, b⟩
              · obtain ⟨lo', hi', k⟩ := TI_delL hI hj hp b (fun q hq hne => by rw [a]; exact w2 q hq hne) (fun q hq hne => by rw [a]; exact w3 q hq hne) (fun q hq hne => by rw [a, h4]; exact w4 q hq hne)
                rw [h4, if_neg (fun w => by cases w)] at k
                exact ⟨lo', hi', k⟩
              · obtain ⟨lo', hi', k⟩ := TI_delR hI hj hp b (fun q hq hne => by rw [a]; exact w3 q hq hne) (fun q hq hne => by rw [a]; exact w2 q hq hne) (fun q hq hne => by rw [a, h4]; exact w4 q hq hne)
                rw [h4, if_neg (fun w => by cases w)] at k
                exact ⟨lo', hi', k⟩
            obtain ⟨lo', hi', k⟩ := kt
            refine ⟨_, _, lo', hi', k, fun f hf => by funext q; rw [mup_f (by omega), mup_f (by omega)], fun J => ?_⟩
            rw [v_e4 hr hp, e4, if_neg (fun w => by cases w), v_e4 hr hp, e4, v_e2 hr sy, e6, if_pos e2, v_e4 hr hp, e4, v_p2 hr sy]
          · have e3 : M 3 y = some p := cy.resolve_left (fun w => e2 w.symm)
            have kt : ∃ (lo' hi' : Nat → Int), TI (fun q => S q ∧ q ≠ p) (mup (mup (mup (mup (mup M 4 c (some y)) 3 y (some c)) 4 p none) 3 p none) 2 p none) rt 0 (nn - 1) (pdn pos (pos p)) lo' hi' := by
              have w2 : ∀ q, S q → q ≠ p → (mup (mup (mup (mup (mup M 4 c (some y)) 3 y (some c)) 4 p none) 3 p none) 2 p none) 3 q = if M 3 q = some p then some c else M 3 q := fun q hq hne => by
                rw [mup_o hne, mup_o hne, mup_o hne]
                by_cases z : q = y
                · rw [z, mup_s, if_pos e3]
                · rw [mup_o z, mup_f (by decide), if_neg (fun w => z ((up q hq).2 w))]
              have w3 : ∀ q, S q → q ≠ p → (mup (mup (mup (mup (mup M 4 c (some y)) 3 y (some c)) 4 p none) 3 p none) 2 p none) 2 q = if M 2 q = some p then some c else M 2 q := fun q hq hne => by
                rw [mup_o hne, mup_o hne, mup_o hne, mup_f (by decide), mup_f (by decide), if_neg (fun w => by
                  have z := (up q hq).1 w
                  rw [z] at w
                  exact e2 w.symm)]
              have w4 : ∀ q, S q → q ≠ p → (mup (mup (mup (mup (mup M 4 c (some y)) 3 y (some c)) 4 p none) 3 p none) 2 p none) 4 q = if some c = some q then some y else M 4 q := fun q hq hne => by
                rw [mup_o hne, mup_o hne, mup_o hne, mup_f (by decide)]
                by_cases z : q = c
                · rw [z, mup_s, if_pos rfl]
                · rw [mup_o z, if_neg (fun w => z (Option.some.inj w).symm)]
              rcases hcc with ⟨a, b⟩ | ⟨a, b⟩
              · obtain ⟨lo', hi', k⟩ := TI_delL hI hj hp b (fun q hq hne => by rw [a]; exact w3 q hq hne) (fun q hq hne => by rw [a]; exact w2 q hq hne) (fun q hq hne => by rw [a, h4]; exact w4 q hq hne)
                rw [h4, if_neg (fun w => by cases w)] at k
                exact ⟨lo', hi', k⟩
              · obtain ⟨lo', hi', k⟩ := TI_delR hI hj hp b (fun q hq hne => by rw [a]; exact w2 q hq hne) (fun q hq hne => by rw [a]; exact w3 q hq hne) (fun q hq hne => by rw [a, h4]; exact w4 q hq hne)
                rw [h4, if_neg (fun w => by cases w)] at k
                exact ⟨lo', hi', k⟩
            obtain ⟨lo', hi', k⟩ := kt
            refine ⟨_, _, lo', hi', k, fun f hf => by funext q; rw [mup_f (by omega), mup_f (by omega)], fun J => ?_⟩
            rw [v_e4 hr hp, e4, if_neg (fun w => by cases w), v_e4 hr hp, e4, v_e2 hr sy, e6, if_neg e2, v_e4 hr hp, e4, v_p3 hr sy]
      obtain ⟨M2, rt2, lo2, hi2, I2, m2, k2⟩ := lnk
      have hr' : ¬ ((fun q => S q ∧ q ≠ p) r) := fun w => hr w.1
      have hsc : (fun q => S q ∧ q ≠ p) c := ⟨sc, ncp⟩
      have m2' : ∀ f, f < 2 → mup (mup (mup M2 4 p none) 3 p none) 2 p none f = M f := fun f hf => by
        rw [← m2 f hf]
        funext q
        rw [mup_f (by omega), mup_f (by omega), mup_f (by omega)]
      rw [if_neg (fun w => by cases w), v_e4 hr hp, v_p4 hr sc]
      by_cases c1 : C p = 1
      · obtain ⟨M3, C3, rt3, lo3, hi3, f1, f2, f3, f4, -⟩ := fixD_top (cmp := cmp) (ks := ks) (h := hset h p (eCell (mup (mup (mup M2 4 p none) 3 p none) 2 p none) C p)) (sz := sz) (mc := mc) (n := n) (g := g) hr' I2 hk0 hsc (by omega)
        refine ⟨M3, C3, rt3, lo3, hi3, eCell (mup (mup (mup M2 4 p none) 3 p none) 2 p none) C p, ?_, f2, f3, fun f hf => by rw [f4 f hf, m2' f hf]⟩
        refine (k2 _).trans ?_
        rw [v_p4 hr hp, v_p3 hr hp, v_p2 hr hp, v_e5 hr hp, if_pos c1, ov_drop hr hp, v_mon, e_call0 f1]
        rfl
      · refine ⟨mup (mup (mup M2 4 p none) 3 p none) 2 p none, C, rt2, lo2, hi2, eCell (mup (mup (mup M2 4 p none) 3 p none) 2 p none) C p, ?_, I2, hk0, m2'⟩
        refine (k2 _).trans ?_
        rw [v_p4 hr hp, v_p3 hr hp, v_p2 hr hp, v_e5 hr hp, if_neg c1, ov_drop hr hp]
        rfl
  by_cases h2 : M 2 p = none
  · obtain ⟨M', C', rt', lo', hi', c, k1, k2⟩ := key (M 3 p) (by rw [if_pos h2])
    refine ⟨M', C', rt', lo', hi', c, ?_, k2⟩
    rw [v_e2 hr hp, mjn_b, if_pos h2, v_e3 hr hp]
    exact k1
  · obtain ⟨M', C', rt', lo', hi', c, k1, k2⟩ := key (M 2 p) (by rw [if_neg h2])
    refine ⟨M', C', rt', lo', hi', c, ?_, k2⟩
    rw [v_e2 hr hp, mjn_b, if_neg h2, v_e2 hr hp]
    exact k1
theorem TI_fld {M' : Nat → Nat → Option Nat} {i j : Int} (hI : TI S M rt i j pos lo hi) (h2 : M' 2 = M 2) (h3 : M' 3 = M 3) (h4 : M' 4 = M 4) : TI S M' rt i j pos lo hi := by
  unfold TI at *
  rw [h2, h3, h4]
  exact hI
theorem TI_min {i j : Int} (hI : TI S M rt i j pos lo hi) : ∀ (k a : Nat), S a → hi a - lo a < k → ∃ b, S b ∧ pos b = lo a ∧ M 2 b = none := by
  intro k
  induction k with
  | zero =>
    intro a ha hk
    have := hI.1 a ha
    omega
  | succ k ih =>
    intro a ha hk
    have ga := hI.1 a ha
    cases hc : M 2 a with
    | none => exact ⟨a, ha, (TI_l0 hI ha hc).symm, hc⟩
    | some c =>
      obtain ⟨c1, c2, c3, c4⟩ := TI_l hI ha hc
      obtain ⟨b, e1, e2, e3⟩ := ih c c1 (by omega)
      exact ⟨b, e1, by omega, e3⟩
def kdel (kk : Int → Nat) (p : Int) : Int → Nat := fun i => if i < p then kk i else kk (i + 1)
theorem TG_del {p : Nat} {k : Int} (hG : TG S M C rt nn pos lo hi e kk PV) (hp : S p) {M' : Nat → Nat → Option Nat} {C' : Nat → Int32} {rt' : Option Nat} {lo' hi' : Nat → Int} (hI : TI (fun q => S q ∧ q ≠ p) M' rt' 0 (nn - 1) (pdn pos (pos p)) lo' hi') (hk0 : okC C') (hm : ∀ a, S a → a ≠ p → M' 0 a = some (kdel kk k (pdn pos (pos p) a)) ∧ PV (M' 1 a)) :
    TG (fun q => S q ∧ q ≠ p) M' C' rt' (nn - 1) (pdn pos (pos p)) lo' hi' (fun i => if i < pos p then e i else e (i + 1)) (kdel kk k) PV := by
  have gp := TG_rg hG hp
  have hj := TG_inj hG
  refine ⟨hI, hk0, fun i i0 i1 => ?_, fun a ha => ?_, fun a ha => hm a ha.1 ha.2, by omega, by have := hG.2.2.2.2.2; omega⟩
  · by_cases q : i < pos p
    · obtain ⟨s1, s2⟩ := hG.2.2.1 i i0 (by omega)
      simp only [if_pos q]
      refine ⟨⟨s1, fun w => by rw [w] at s2; omega⟩, ?_⟩
      unfold pdn
      rw [s2, if_pos q]
    · obtain ⟨s1, s2⟩ := hG.2.2.1 (i + 1) (by omega) (by omega)
      simp only [if_neg q]
      refine ⟨⟨s1, fun w => by rw [w] at s2; omega⟩, ?_⟩
      unfold pdn
      rw [s2, if_neg (by omega)]
      omega
  · have na : pos a ≠ pos p := fun w => ha.2 (hj a p ha.1 hp w)
    have ea := hG.2.2.2.1 a ha.1
    unfold pdn
    by_cases q : pos a < pos p
    · simp only [if_pos q]
      exact ea
    · simp only [if_neg q]
      rw [if_neg (by omega), show pos a - 1 + 1 = pos a by omega]
      exact ea
theorem delE_ev (hr : ¬ S r) (hG : TG S M C rt nn pos lo hi e kk PV) {a : Nat} (ha : S a) :
    ∃ (p : Nat) (M' : Nat → Nat → Option Nat) (C' : Nat → Int32) (rt' : Option Nat) (pos' lo' hi' : Nat → Int) (e' : Int → Nat) (c : hC), S p ∧ fJ6_deleteEntry g (some r) (some a) (ov r S cmp ks h M C rt sz mc, n, 0) = some ((), (ov r (fun q => S q ∧ q ≠ p) cmp ks (hset h p c) M' C' rt' (sz - 1) (mc + 1), n, 0)) ∧ TG (fun q => S q ∧ q ≠ p) M' C' rt' (nn - 1) pos' lo' hi' e' (kdel kk (pos a)) PV := by
  have hI := hG.1
  have hj := TG_inj hG
  have hnn := hG.2.2.2.2.2
  have ga := hI.1 a ha
  have one : (M 2 a = none ∨ M 3 a = none) → (∀ (M' : Nat → Nat → Option Nat) (C' : Nat → Int32) (rt' : Option Nat) (c : hC), (mb (oR 19 2 (some a)) fun x5 => mjn (fun (x6 : Option Nat) => if x6 = none then (mb (oR 19 4 (some a)) fun x7 => if x7 = none then (mb (pR 18 3 (some r) none) fun _ => mret ()) else (mb (oI 19 5 (some a)) fun x8 => mjn0 ( mb (oR 19 4 (some a)) fun x9 => if x9 = none then (mret ()) else (mb (oR 19 4 (some a)) fun x10 => mb (oR 19 2 x10) fun x11 => mjn0 ( mb (pR 19 4 (some a) none) fun _ => mret ()) fun j240 => if (some a) = x11 then (mb (oR 19 4 (some a)) fun x15 => mb (pR 19 2 x15 none) fun _ => j240) else (mb (oR 19 4 (some a)) fun x12 => mb (oR 19 3 x12) fun x13 => if (some a) = x13 then (mb (oR 19 4 (some a)) fun x14 => mb (pR 19 3 x14 none) fun _ => j240) else (j240)))) fun j192 => if x8 = 1 then (mb (mon 18 (some r) (mcall0 (fJ6_fixAfterDeletion g (some r) (some a)))) fun _ => j192) else (j192))) else (mb (oR 19 4 (some a)) fun x16 => mb (pR 19 4 x6 x16) fun _ => mb (oR 19 4 (some a)) fun x17 => mjn0 ( mb (pR 19 4 (some a) none) fun _ => mb (pR 19 3 (some a) none) fun _ => mb (pR 19 2 (some a) none) fun _ => mb (oI 19 5 (some a)) fun x18 => if x18 = 1 then (mb (mon 18 (some r) (mcall0 (fJ6_fixAfterDeletion g (some r) x6))) fun _ => mret ()) else (mret ())) fun j133 => if x17 = none then (mb (pR 18 3 (some r) x6) fun _ => j133) else (mb (oR 19 4 (some a)) fun x19 => mb (oR 19 2 x19) fun x20 => if (some a) = x20 then (mb (oR 19 4 (some a)) fun x22 => mb (pR 19 2 x22 x6) fun _ => j133) else (mb (oR 19 4 (some a)) fun x21 => mb (pR 19 3 x21 x6) fun _ => j133)))) fun j75 => if x5 = none then (mb (oR 19 3 (some a)) fun x23 => j75 x23) else (mb (oR 19 2 (some a)) fun x24 => j75 x24)) (ov r S cmp ks h M C rt (sz - 1) (mc + 1), n, 0) = some ((), (ov r (fun q => S q ∧ q ≠ a) cmp ks (hset h a c) M' C' rt' (sz - 1) (mc + 1), n, 0)) → fJ6_deleteEntry g (some r) (some a) (ov r S cmp ks h M C rt sz mc, n, 0) = some ((), (ov r (fun q => S q ∧ q ≠ a) cmp ks (hset h a c) M' C' rt' (sz - 1) (mc + 1), n, 0))) →
      ∃ (p : Nat) (M' : Nat → Nat → Option Nat) (C' : Nat → Int32) (rt' : Option Nat) (pos' lo' hi' : Nat → Int) (e' : Int → Nat) (c : hC), S p ∧ fJ6_deleteEntry g (some r) (some a) (ov r S cmp ks h M C rt sz mc, n, 0) = some ((), (ov r (fun q => S q ∧ q ≠ p) cmp ks (hset h p c) M' C' rt' (sz - 1) (mc + 1), n, 0)) ∧ TG (fun q => S q ∧ q ≠ p) M' C' rt' (nn - 1) pos' lo' hi' e' (kdel kk (pos a)) PV := by
    intro h1 hrun
    obtain ⟨M', C', rt', lo', hi', c, k1, k2, k3, k4⟩ := del2_ev (cmp := cmp) (ks := ks) (h := h) (sz := sz - 1) (mc := mc + 1) (n := n) (g := g) hr hI hG.2.1 hj hnn.2 ha h1
    refine ⟨a, M', C', rt', _, lo', hi', _, c, ha, hrun M' C' rt' c k1, TG_del hG ha k2 k3 (fun q hq hne => ?_)⟩
    have nq : pos q ≠ pos a := fun w => hne (hj q a hq ha w)
    rw [k4 0 (by omega), k4 1 (by omega)]
    refine ⟨?_, (hG.2.2.2.2.1 q hq).2⟩
    rw [TG_key hG hq]
    unfold kdel pdn
    by_cases w : pos q < pos a
    · rw [if_pos w, if_pos w]
    · rw [if_neg w, if_neg (by omega), show pos q - 1 + 1 = pos q by omega]
  by_cases h2 : M 2 a = none
  · refine one (Or.inl h2) (fun M' C' rt' c hk => ?_)
    unfold fJ6_deleteEntry
    rw [v_m5, v_q5, v_m4, v_q4, v_e2 hr ha, mjn_b, if_pos h2]
    exact hk
  · by_cases h3 : M 3 a = none
    · refine one (Or.inr h3) (fun M' C' rt' c hk => ?_)
      unfold fJ6_deleteEntry
      rw [v_m5, v_q5, v_m4, v_q4, v_e2 hr ha, mjn_b, if_neg h2, v_e3 hr ha, if_pos h3]
      exact hk
    · obtain ⟨b, hb⟩ : ∃ b, M 3 a = some b := by
        cases q : M 3 a with
        | none => exact absurd q h3
        | some b => exact ⟨b, rfl⟩
      have gb := TI_r hI ha hb
      have gb1 := hI.1 b gb.1
      have hlt : pos a + 1 < nn := by omega
      obtain ⟨ss, sp⟩ := hG.2.2.1 (pos a + 1) (by omega) hlt
      generalize hs : e (pos a + 1) = s at ss sp
      have nsa : s ≠ a := fun w => by rw [w] at sp; omega
      -- the successor has no left child
      obtain ⟨b', q1, q2, q3⟩ := TI_min hI (hi b - lo b + 1).toNat b gb.1 (by omega)
      have eb : b' = s := hj b' s q1 ss (by omega)
      rw [eb] at q3
      have ga2 : ∀ f, 2 ≤ f → mup (mup M 0 a (M 0 s)) 1 a (M 1 s) f = M f := fun f hf => by
        funext q
        rw [mup_f (by omega), mup_f (by omega)]
      have I1 : TI S (mup (mup M 0 a (M 0 s)) 1 a (M 1 s)) rt 0 nn pos lo hi := TI_fld hI (ga2 2 (by omega)) (ga2 3 (by omega)) (ga2 4 (by omega))
      obtain ⟨M', C', rt', lo', hi', c, k1, k2, k3, k4⟩ := del2_ev (cmp := cmp) (ks := ks) (h := h) (sz := sz - 1) (mc := mc + 1) (n := n) (g := g) hr I1 hG.2.1 hj hnn.2 ss (Or.inl (by rw [ga2 2 (by omega)]; exact q3))
      refine ⟨s, M', C', rt', _, lo', hi', _, c, ss, ?_, TG_del hG ss k2 k3 (fun q hq hne => ?_)⟩
      · unfold fJ6_deleteEntry
        rw [v_m5, v_q5, v_m4, v_q4, v_e2 hr ha, mjn_b, if_neg h2, v_e3 hr ha, if_neg h3, v_suc hr hG ha, if_pos hlt, hs, v_e0 hr ss, v_p0 hr ha, v_e1 hr ss, mup_f (show (1 : Nat) ≠ 0 by decide), v_p1 hr ha]
        exact k1
      · have nq : pos q ≠ pos s := fun w => hne (hj q s hq ss w)
        rw [k4 0 (by omega), k4 1 (by omega)]
        have e0 : mup (mup M 0 a (M 0 s)) 1 a (M 1 s) 0 q = if q = a then M 0 s else M 0 q := by
          rw [mup_f (by decide)]
          by_cases w : q = a
          · rw [w, mup_s, if_pos rfl]
          · rw [mup_o w, if_neg w]
        have e1 : mup (mup M 0 a (M 0 s)) 1 a (M 1 s) 1 q = if q = a then M 1 s else M 1 q := by
          by_cases w : q = a
          · rw [w, mup_s, if_pos rfl]
          · rw [mup_o w, if_neg w, mup_f (by decide)]
        rw [e0, e1]
        unfold kdel pdn
        by_cases w : q = a
        · have z : pos a < pos s := by omega
          rw [if_pos w, if_pos w, w, TG_key hG ss, if_pos z, if_neg (Int.lt_irrefl (pos a)), sp]
          exact ⟨rfl, (hG.2.2.2.2.1 s ss).2⟩
        · have nqa : pos q ≠ pos a := fun z => w (hj q a hq ha z)
          rw [if_neg w, if_neg w, TG_key hG hq]
          refine ⟨?_, (hG.2.2.2.2.1 q hq).2⟩
          by_cases z : pos q < pos s
          · rw [if_pos z, if_pos (by omega)]
          · rw [if_neg z, if_neg (by omega), show pos q - 1 + 1 = pos q by omega]
end
