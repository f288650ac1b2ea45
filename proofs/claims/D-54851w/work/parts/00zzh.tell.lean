/-! ===== told anew ===== -/
theorem c_mcall {α β : Type} {f : HM α} {K : α → HM β} {h h' : Nat → Option hC} {n n' w w' L c : Nat} {x : α} (hf : f (h, n, 0) = some (x, (h', n', w'))) (hL : w + c ≤ L) : mb (mcall L c f) K (h, n, w) = K x (h', n', w + c) := by
  unfold mb mcall
  simp only [hL, if_true, hf]
theorem KPa_dr {g : Nat → Nat} {h h' : Nat → Option hC} {D : Nat → Nat} {n n' : Nat} {z : Int → Int} (d : dr_ok h h' D n n' z) (h4 : PA h (D 4)) (h5 : PA h (D 5)) (hn : h n = none) (hg : g 0 ≠ n) : KPa g h h' := by
  obtain ⟨-, -, df, -⟩ := d
  obtain ⟨F, hF⟩ := h4
  obtain ⟨T, hT⟩ := h5
  refine ⟨fun q c u v => ?_, fun u => ?_⟩
  · rw [df q (fun e => ?_) (fun e => ?_) (fun e => by rw [e, hn] at u; cases u)]
    · exact u
    · rw [e, hF] at u
      exact v _ _ (Option.some.inj u).symm
    · rw [e, hT] at u
      exact v _ _ (Option.some.inj u).symm
  · rw [df (g 0) (fun e => by rw [e, hF] at u; cases u) (fun e => by rw [e, hT] at u; cases u) hg]
    exact u
/-- what a change leaves be -/
def tl_ok (h h' : Nat → Option hC) (D : Nat → Nat) (n n' : Nat) : Prop := n ≤ n' ∧ n' ≤ n + 1 ∧ (∀ q, q ≠ D 4 → q ≠ D 5 → q ≠ D 6 → q ≠ n → h' q = h q) ∧ (n' = n → h' n = h n)
theorem X2_tellAnew_ev {g : Nat → Nat} {h : Nat → Option hC} {n a : Nat} {D : Nat → Nat} {tb gb : Int → Nat} {z : Int → Int} (hg : gD g) (hz : wZ z) (hd : HD g h a D tb z) (hs : GS g h D gb z) (h4 : PA h (D 4)) (h5 : PA h (D 5)) (h6 : PA h (D 6)) (hne : D 4 ≠ D 5 ∧ D 4 ≠ D 6 ∧ D 5 ≠ D 6) (hn : h n = none) (hg0 : g 0 ≠ n) :
    ∃ (h' : Nat → Option hC) (n' w' : Nat), fX2_tellAnew g (some a) (h, n, 0) = some (iv 0, (h', n', w')) ∧ ST g h' a D tb gb z ∧ tl_ok h h' D n n' := by
  have hp : pck z = 0 := hz.2.2.2.2.2.2
  have ho := hd.1
  unfold SO at ho
  obtain ⟨h1, n1, w1, e1, e2⟩ := X2_draw_ev hg hd h4 h5 hne.1 hn hz.1 (nd_play (wZ_nd hz))
  have k1 := KPa_dr e2 h4 h5 hn hg0
  have hd1 := HD_kp k1 hd
  have hs1 := GS_kp k1 hs
  obtain ⟨d1, d2, d3, d4, -, -, -, d8⟩ := e2
  obtain ⟨F, T, hF, hT, hF2, hT2⟩ := d8 hp
  have hn6 : D 6 ≠ n := fun e => by obtain ⟨W, hW⟩ := h6; rw [e, hn] at hW; cases hW
  have p6 : PA h1 (D 6) := by
    obtain ⟨W, hW⟩ := h6
    exact ⟨W, by rw [d3 _ (fun e => hne.2.1 e.symm) (fun e => hne.2.2 e.symm) hn6]; exact hW⟩
  obtain ⟨W, t1, t2⟩ := X2_tellSitting_ev (n := n1) (w := 0) hg hz hd1 hs1 p6
  have ho1 := hd1.1
  unfold SO at ho1
  rw [hp] at e1
  have k2 := KPa_sl (g := g) (W := W) p6
  refine ⟨sl h1 D W, n1, 193, ?_, ⟨HD_kp k2 hd1, GS_kp k2 hs1, hne, ⟨F, ?_, hF2⟩, ⟨T, ?_, hT2⟩, W, sl_at, t2⟩, d1, d2, fun q q4 q5 q6 qn => ?_, fun q => ?_⟩
  · unfold fX2_tellAnew
    rw [c_mon ho, c_mcall e1 (by decide), if_pos (show iv 0 = 0 by decide), c_mon ho1]
    unfold mb mcall0
    simp only [t1]
    rfl
  · unfold sl; rw [hset_ne hne.2.1]; exact hF
  · unfold sl; rw [hset_ne hne.2.2]; exact hT
  · unfold sl; rw [hset_ne q6]; exact d3 q q4 q5 qn
  · unfold sl; rw [hset_ne (fun e => hn6 e.symm)]; exact d4 q
