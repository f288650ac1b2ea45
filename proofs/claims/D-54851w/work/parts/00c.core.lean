/-! ===== ints: Int32 by Int ===== -/
def iv (x : Int) : Int32 := Int32.ofInt x
theorem iv_lit (n : Nat) : (OfNat.ofNat n : Int32) = iv (OfNat.ofNat n) := (Int32.ofInt_eq_ofNat (n := n)).symm
theorem iv_add (a b : Int) : iv a + iv b = iv (a + b) := (Int32.ofInt_add a b).symm
theorem iv_sub (a b : Int) : iv a - iv b = iv (a - b) := (Int32.ofInt_sub a b).symm
theorem iv_mul (a b : Int) : iv a * iv b = iv (a * b) := (Int32.ofInt_mul a b).symm
theorem iv_neg (a : Int) : - iv a = iv (-a) := (Int32.ofInt_neg a).symm
theorem iv_toInt {a : Int} (h : -2147483648 ≤ a ∧ a < 2147483648) : (iv a).toInt = a := Int32.toInt_ofInt_of_le (by omega) (by omega)
theorem iv_le {a b : Int} (ha : -2147483648 ≤ a ∧ a < 2147483648) (hb : -2147483648 ≤ b ∧ b < 2147483648) : iv a ≤ iv b ↔ a ≤ b := by
  rw [Int32.le_iff_toInt_le, iv_toInt ha, iv_toInt hb]
theorem iv_lt {a b : Int} (ha : -2147483648 ≤ a ∧ a < 2147483648) (hb : -2147483648 ≤ b ∧ b < 2147483648) : iv a < iv b ↔ a < b := by
  rw [Int32.lt_iff_toInt_lt, iv_toInt ha, iv_toInt hb]
theorem iv_eq {a b : Int} (ha : -2147483648 ≤ a ∧ a < 2147483648) (hb : -2147483648 ≤ b ∧ b < 2147483648) : iv a = iv b ↔ a = b :=
  ⟨fun h => by have h2 := congrArg Int32.toInt h; rwa [iv_toInt ha, iv_toInt hb] at h2, fun h => by rw [h]⟩
theorem iv_le_t {a b : Int} (h : a ≤ b) (ha : -2147483648 ≤ a) (hb : b < 2147483648) : (iv a ≤ iv b) = True := eq_true ((iv_le (by omega) (by omega)).2 h)
theorem iv_le_f {a b : Int} (h : b < a) (ha : a < 2147483648) (hb : -2147483648 ≤ b) : (iv a ≤ iv b) = False := eq_false (fun q => by have := (iv_le (by omega) (by omega)).1 q; omega)
theorem iv_lt_t {a b : Int} (h : a < b) (ha : -2147483648 ≤ a) (hb : b < 2147483648) : (iv a < iv b) = True := eq_true ((iv_lt (by omega) (by omega)).2 h)
theorem iv_lt_f {a b : Int} (h : b ≤ a) (ha : a < 2147483648) (hb : -2147483648 ≤ b) : (iv a < iv b) = False := eq_false (fun q => by have := (iv_lt (by omega) (by omega)).1 q; omega)
theorem iv_eq_t {a b : Int} (h : a = b) : (iv a = iv b) = True := eq_true (by rw [h])
theorem iv_eq_f {a b : Int} (h : a ≠ b) (ha : -2147483648 ≤ a ∧ a < 2147483648) (hb : -2147483648 ≤ b ∧ b < 2147483648) : (iv a = iv b) = False := eq_false (fun q => h ((iv_eq ha hb).1 q))
theorem iv_mx : Int32.minValue.toInt = -2147483648 ∧ Int32.maxValue.toInt = 2147483647 := by decide
theorem iv_tdiv {a b : Int} (ha : -2147483648 ≤ a ∧ a < 2147483648) (hb : -2147483648 ≤ b ∧ b < 2147483648) : iv a / iv b = iv (a.tdiv b) :=
  (Int32.ofInt_tdiv (by rw [iv_mx.1]; omega) (by rw [iv_mx.2]; omega) (by rw [iv_mx.1]; omega) (by rw [iv_mx.2]; omega)).symm
theorem iv_div {a b : Int} (ha : 0 ≤ a ∧ a < 2147483648) (hb : 0 < b ∧ b < 2147483648) : iv a / iv b = iv (a / b) := by
  rw [iv_tdiv (by omega) (by omega), Int.tdiv_eq_ediv_of_nonneg ha.1]
theorem iv_mod {a b : Int} (ha : 0 ≤ a ∧ a < 2147483648) (hb : 0 < b ∧ b < 2147483648) : imod (iv a) (iv b) = iv (a % b) := by
  unfold imod
  rw [iv_div ha hb, iv_mul, iv_sub, Int.emod_def, Int.mul_comm]
theorem iv_tnc {a : Int} (h : -2147483648 ≤ a ∧ a < 2147483648) : (iv a).toNatClampNeg = a.toNat := by
  rw [← Int32.toNat_toInt, iv_toInt h]
theorem iv_in {a : Int} {n : Nat} (h : 0 ≤ a ∧ a < n) (hn : n < 2147483648) : ¬ iv a < 0 ∧ (iv a).toNatClampNeg < n := by
  rw [iv_tnc (by omega)]
  refine ⟨fun q => ?_, by omega⟩
  have h2 : iv a < iv 0 := q
  rw [iv_lt (by omega) (by omega)] at h2
  omega
theorem iv_b0 {a : Int} (h : a = 0 ∨ a = 1) : iv a = 0 ∨ iv a = 1 := by
  rcases h with rfl | rfl
  · exact Or.inl rfl
  · exact Or.inr rfl
theorem mretT_b {a : Int} (h : a = 0 ∨ a = 1) : mretT .boolean (iv a) = mret (iv a) := by
  have e : vp_nar .boolean (iv a) = iv a := by
    rcases h with rfl | rfl <;> decide +kernel
  unfold mretT
  rw [if_pos e]
noncomputable def b2 (p : Prop) : Int := @ite Int p (Classical.propDecidable p) 1 0
theorem b2_t {p : Prop} (h : p) : b2 p = 1 := by unfold b2; exact if_pos h
theorem b2_f {p : Prop} (h : ¬ p) : b2 p = 0 := by unfold b2; exact if_neg h
theorem b2_T : b2 True = 1 := b2_t trivial
theorem b2_F : b2 False = 0 := b2_f id
theorem b2_or {p : Prop} : b2 p = 0 ∨ b2 p = 1 := by
  by_cases h : p
  · exact Or.inr (b2_t h)
  · exact Or.inl (b2_f h)
theorem b2_rg {p : Prop} : 0 ≤ b2 p ∧ b2 p ≤ 1 := by
  rcases b2_or (p := p) with h | h <;> omega
theorem b2_c {p q : Prop} (h : p ↔ q) : b2 p = b2 q := by rw [propext h]
theorem b2_z {p : Prop} : b2 p = 0 ↔ ¬ p := by
  by_cases h : p
  · rw [b2_t h]; simp [h]
  · rw [b2_f h]; simp [h]
theorem mretT_p {p : Prop} : mretT .boolean (iv (b2 p)) = mret (iv (b2 p)) := mretT_b b2_or
theorem iv_b2z {p : Prop} : (iv (b2 p) = iv 0) = ¬ p := by
  by_cases h : p
  · rw [b2_t h, iv_eq_f (by omega) (by omega) (by omega)]; simp [h]
  · rw [b2_f h, iv_eq_t rfl]; simp [h]
/-! ===== steps of the monad ===== -/
theorem e_mret {α : Type} {a : α} {σ : Hp} : mret a σ = some (a, σ) := Eq.trans rfl rfl
theorem e_bret {α β : Type} {a : α} {K : α → HM β} {σ : Hp} : mb (mret a) K σ = K a σ := Eq.trans rfl rfl
theorem mjn_b {α β : Type} {K : α → HM β} {body : (α → HM β) → HM β} : mjn K body = body K := Eq.trans rfl rfl
theorem mjn0_b {β : Type} {K : HM β} {body : HM β → HM β} : mjn0 K body = body K := Eq.trans rfl rfl
theorem mjn2_b {α γ β : Type} {K : α → γ → HM β} {body : (α → γ → HM β) → HM β} : mjn2 K body = body K := Eq.trans rfl rfl
theorem e_call0 {α β : Type} {f : HM α} {K : α → HM β} {h h' : Nat → Option hC} {n n' u u' : Nat} {a : α} (e : f (h, n, 0) = some (a, (h', n', u'))) : mb (mcall0 f) K (h, n, u) = K a (h', n', u) := by
  unfold mb mcall0
  show (match (match f (h, n, 0) with | none => none | some q => some (q.1, (q.2.1, q.2.2.1, u))) with | none => none | some q => K q.1 q.2) = _
  rw [e]
theorem e_call {α β : Type} {L c : Nat} {f : HM α} {K : α → HM β} {h h' : Nat → Option hC} {n n' u u' : Nat} {a : α} (hu : u + c ≤ L) (e : f (h, n, 0) = some (a, (h', n', u'))) : mb (mcall L c f) K (h, n, u) = K a (h', n', u + c) := by
  unfold mb mcall
  show (match (if u + c ≤ L then (match f (h, n, 0) with | none => none | some q => some (q.1, (q.2.1, q.2.2.1, u + c))) else none) with | none => none | some q => K q.1 q.2) = _
  rw [if_pos hu, e]
theorem e_mon {α β : Type} {ci : Nat} {r : Option Nat} {f : HM α} {K : α → HM β} {σ : Hp} (h : oC r σ = some ci) : mb (mon ci r f) K σ = mb f K σ := by
  unfold mb mon
  rw [if_pos h]
theorem e_mnz {β : Type} {y : Int32} {K : Unit → HM β} {σ : Hp} (h : y ≠ 0) : mb (mnz y) K σ = K () σ := by
  unfold mb mnz
  rw [if_neg h]
theorem iv_ne0 {a : Int} (h : a ≠ 0) (ha : -2147483648 ≤ a ∧ a < 2147483648) : iv a ≠ 0 := by
  intro q
  have h2 : iv a = iv 0 := q
  rw [iv_eq ha (by omega)] at h2
  exact h h2
theorem e_mnzv {β : Type} {a : Int} {K : Unit → HM β} {σ : Hp} (h : a ≠ 0) (ha : -2147483648 ≤ a ∧ a < 2147483648) : mb (mnz (iv a)) K σ = K () σ := e_mnz (iv_ne0 h ha)
/-! ===== memories: banks of ints ===== -/
abbrev Mm : Type := Nat → Int → Int
def mu (M : Mm) (b : Nat) (i x : Int) : Mm := fun b' i' => if b' = b ∧ i' = i then x else M b' i'
theorem mu_eq {M : Mm} {b : Nat} {i x : Int} : mu M b i x b i = x := if_pos ⟨rfl, rfl⟩
theorem mu_at {M : Mm} {b : Nat} {i x j : Int} (h : j = i) : mu M b i x b j = x := if_pos ⟨rfl, h⟩
theorem mu_nb {M : Mm} {b c : Nat} {i x j : Int} (h : c ≠ b) : mu M b i x c j = M c j := if_neg (fun q => h q.1)
theorem mu_ni {M : Mm} {b c : Nat} {i x j : Int} (h : j ≠ i) : mu M b i x c j = M c j := if_neg (fun q => h q.2)
def bk (r : Nat) : Nat := [0, 1, 2, 4, 6, 8, 9, 10].getD r 0
def ln (r : Nat) : Nat := [18, 631, 3155, 631, 60, 192, 192, 192].getD r 0
def mcell (m : Nat) (M : Mm) (r : Nat) : hC := if r = 0 then .inr (12, [.int (iv (M 0 0)), .ref (m + 1), .ref (m + 2), .int (iv (M 0 3)), .ref (m + 3), .int (iv (M 0 5)), .ref (m + 4), .int (iv (M 0 7)), .ref (m + 5), .ref (m + 6), .ref (m + 7), .int (iv (M 0 11)), .int (iv (M 0 12)), .int (iv (M 0 13)), .int (iv (M 0 14)), .int (iv (M 0 15)), .int (iv (M 0 16)), .int (iv (M 0 17))])
  else .inl (0, ln r, .inl (fun i => iv (M (bk r) (i : Int))))
/-- the model at m, its memory M, laid over a heap -/
def md (m : Nat) (M : Mm) (h : Nat → Option hC) : Nat → Option hC := fun q => if m ≤ q ∧ q < m + 8 then some (mcell m M (q - m)) else h q
theorem md_at {m : Nat} {M : Mm} {h : Nat → Option hC} {r : Nat} (hr : r < 8) : md m M h (m + r) = some (mcell m M r) := by
  unfold md
  rw [if_pos (by omega), Nat.add_sub_cancel_left]
theorem md_0 {m : Nat} {M : Mm} {h : Nat → Option hC} : md m M h m = some (mcell m M 0) := md_at (r := 0) (by omega)
theorem md_set {m : Nat} {M M' : Mm} {h : Nat → Option hC} {r : Nat} {e : hC} (hr : r < 8) (he : e = mcell m M' r) (hne : ∀ r', r' < 8 → r' ≠ r → mcell m M' r' = mcell m M r') : hset (md m M h) (m + r) e = md m M' h := by
  funext q
  unfold hset
  by_cases hq : q = m + r
  · rw [if_pos hq, hq, md_at hr, he]
  · rw [if_neg hq]
    unfold md
    by_cases h8 : m ≤ q ∧ q < m + 8
    · rw [if_pos h8, if_pos h8, hne _ (by omega) (by omega)]
    · rw [if_neg h8, if_neg h8]
theorem bk_inj {r s : Nat} (hr : r < 8) (hs : s < 8) (h : bk r = bk s) : r = s := by
  rcases r with _ | _ | _ | _ | _ | _ | _ | _ | r <;> rcases s with _ | _ | _ | _ | _ | _ | _ | _ | s <;> first | rfl | omega | (simp [bk] at h)
theorem mcell_mu {m : Nat} {M : Mm} {r : Nat} {i x : Int} (hr : r < 8) : ∀ r', r' < 8 → r' ≠ r → mcell m (mu M (bk r) i x) r' = mcell m M r' := by
  intro r' h8 hne
  have hb : bk r' ≠ bk r := fun q => hne (bk_inj h8 hr q)
  unfold mcell
  by_cases h0 : r' = 0
  · subst h0
    have hb : (0 : Nat) ≠ bk r := hb
    simp only [if_true, mu_nb hb]
  · simp only [if_neg h0, mu_nb hb]
theorem md_oC {m : Nat} {M : Mm} {h : Nat → Option hC} {n u : Nat} : oC (some m) (md m M h, n, u) = some 12 := by
  unfold oC
  simp only [md_0]
  rfl
theorem m_mon {α β : Type} {m : Nat} {M : Mm} {h : Nat → Option hC} {n u : Nat} {f : HM α} {K : α → HM β} : mb (mon 12 (some m) f) K (md m M h, n, u) = mb f K (md m M h, n, u) := e_mon md_oC
theorem md_oV {m : Nat} {M : Mm} {h : Nat → Option hC} {n u k : Nat} : oV 12 k (some m) (md m M h, n, u) = (match mcell m M 0 with | .inr o => o.2[k]? | _ => none) := by
  unfold oV
  simp only [md_0]
  rfl
theorem md_pV {m : Nat} {M M' : Mm} {h : Nat → Option hC} {n u k : Nat} {x : Int} (hk : k < 18) (hM : M' = mu M 0 k x) (hc : (match mcell m M 0 with | .inr o => o.2.set k (.int (iv x)) | _ => []) = (match mcell m M' 0 with | .inr o => o.2 | _ => [])) : pV 12 k (some m) (.int (iv x)) (md m M h, n, u) = some ((), (md m M' h, n, u)) := by
  unfold pV
  simp only [md_0]
  show (if 12 = 12 ∧ k < 18 then some ((), (hset (md m M h) m _, n, u)) else none) = _
  rw [if_pos ⟨rfl, hk⟩]
  have e : hset (md m M h) (m + 0) (.inr (12, (match mcell m M 0 with | .inr o => o.2.set k (.int (iv x)) | _ => []))) = md m M' h := by
    refine md_set (by omega) ?_ ?_
    · rw [hc]; rfl
    · intro r' h8 hne
      rw [hM]
      exact mcell_mu (r := 0) (by omega) r' h8 hne
  exact congrArg some (congrArg (Prod.mk ()) (congrArg (fun z => (z, n, u)) e))
theorem md_aI {β : Type} {m : Nat} {M : Mm} {h : Nat → Option hC} {n u r : Nat} {K : Int32 → HM β} {i : Int} (hr : 0 < r ∧ r < 8) (hl : ln r < 2147483648) (hi : 0 ≤ i ∧ i < ln r) : mb (aI 0 (some (m + r)) (iv i)) K (md m M h, n, u) = K (iv (M (bk r) i)) (md m M h, n, u) := by
  have e : aI 0 (some (m + r)) (iv i) (md m M h, n, u) = some (iv (M (bk r) i), (md m M h, n, u)) := by
    unfold aI
    simp only [md_at hr.2]
    unfold mcell
    simp only [if_neg (show ¬ r = 0 by omega)]
    obtain ⟨h1, h2⟩ := iv_in hi hl
    rw [if_pos ⟨trivial, h1, h2⟩, iv_tnc (by omega)]
    rw [show ((i.toNat : Nat) : Int) = i by omega]
  exact mb_eq e
theorem md_sI {β : Type} {m : Nat} {M : Mm} {h : Nat → Option hC} {n u r : Nat} {K : Unit → HM β} {i x : Int} (hr : 0 < r ∧ r < 8) (hl : ln r < 2147483648) (hi : 0 ≤ i ∧ i < ln r) : mb (sI (some (m + r)) (iv i) (iv x)) K (md m M h, n, u) = K () (md m (mu M (bk r) i x) h, n, u) := by
  have e : sI (some (m + r)) (iv i) (iv x) (md m M h, n, u) = some ((), (md m (mu M (bk r) i x) h, n, u)) := by
    unfold sI sIx
    simp only [md_at hr.2]
    unfold mcell
    simp only [if_neg (show ¬ r = 0 by omega)]
    obtain ⟨h1, h2⟩ := iv_in hi hl
    rw [if_pos ⟨trivial, h1, h2⟩, iv_tnc (by omega)]
    have e2 : hset (md m M h) (m + r) (.inl (0, ln r, .inl (upd (fun j => iv (M (bk r) (j : Int))) i.toNat (iv x)))) = md m (mu M (bk r) i x) h := by
      refine md_set hr.2 ?_ (mcell_mu hr.2)
      unfold mcell
      rw [if_neg (show ¬ r = 0 by omega)]
      have e3 : upd (fun j => iv (M (bk r) (j : Int))) i.toNat (iv x) = fun j : Nat => iv (mu M (bk r) i x (bk r) (j : Int)) := by
        funext j
        unfold upd mu
        by_cases hj : j = i.toNat
        · rw [if_pos hj, if_pos ⟨rfl, by omega⟩]
        · rw [if_neg hj, if_neg (fun q => hj (by omega))]
      rw [e3]
    rw [e2]
  exact mb_eq e
theorem m_oI0 {β : Type} {m : Nat} {M : Mm} {h : Nat → Option hC} {n u : Nat} {K : Int32 → HM β} : mb (oI 12 0 (some m)) K (md m M h, n, u) = K (iv (M 0 0)) (md m M h, n, u) := by
  have e : oI 12 0 (some m) (md m M h, n, u) = some (iv (M 0 0), (md m M h, n, u)) := by
    unfold oI; rw [md_oV]; rfl
  exact mb_eq e
theorem m_pI0 {β : Type} {m : Nat} {M : Mm} {h : Nat → Option hC} {n u : Nat} {K : Unit → HM β} {x : Int} : mb (pI 12 0 (some m) (iv x)) K (md m M h, n, u) = K () (md m (mu M 0 0 x) h, n, u) := by
  have e : pI 12 0 (some m) (iv x) (md m M h, n, u) = some ((), (md m (mu M 0 0 x) h, n, u)) := by
    unfold pI
    exact md_pV (by omega) rfl rfl
  exact mb_eq e
theorem m_oI3 {β : Type} {m : Nat} {M : Mm} {h : Nat → Option hC} {n u : Nat} {K : Int32 → HM β} : mb (oI 12 3 (some m)) K (md m M h, n, u) = K (iv (M 0 3)) (md m M h, n, u) := by
  have e : oI 12 3 (some m) (md m M h, n, u) = some (iv (M 0 3), (md m M h, n, u)) := by
    unfold oI; rw [md_oV]; rfl
  exact mb_eq e
theorem m_pI3 {β : Type} {m : Nat} {M : Mm} {h : Nat → Option hC} {n u : Nat} {K : Unit → HM β} {x : Int} : mb (pI 12 3 (some m) (iv x)) K (md m M h, n, u) = K () (md m (mu M 0 3 x) h, n, u) := by
  have e : pI 12 3 (some m) (iv x) (md m M h, n, u) = some ((), (md m (mu M 0 3 x) h, n, u)) := by
    unfold pI
    exact md_pV (by omega) rfl rfl
  exact mb_eq e
theorem m_oI5 {β : Type} {m : Nat} {M : Mm} {h : Nat → Option hC} {n u : Nat} {K : Int32 → HM β} : mb (oI 12 5 (some m)) K (md m M h, n, u) = K (iv (M 0 5)) (md m M h, n, u) := by
  have e : oI 12 5 (some m) (md m M h, n, u) = some (iv (M 0 5), (md m M h, n, u)) := by
    unfold oI; rw [md_oV]; rfl
  exact mb_eq e
theorem m_pI5 {β : Type} {m : Nat} {M : Mm} {h : Nat → Option hC} {n u : Nat} {K : Unit → HM β} {x : Int} : mb (pI 12 5 (some m) (iv x)) K (md m M h, n, u) = K () (md m (mu M 0 5 x) h, n, u) := by
  have e : pI 12 5 (some m) (iv x) (md m M h, n, u) = some ((), (md m (mu M 0 5 x) h, n, u)) := by
    unfold pI
    exact md_pV (by omega) rfl rfl
  exact mb_eq e
theorem m_oI7 {β : Type} {m : Nat} {M : Mm} {h : Nat → Option hC} {n u : Nat} {K : Int32 → HM β} : mb (oI 12 7 (some m)) K (md m M h, n, u) = K (iv (M 0 7)) (md m M h, n, u) := by
  have e : oI 12 7 (some m) (md m M h, n, u) = some (iv (M 0 7), (md m M h, n, u)) := by
    unfold oI; rw [md_oV]; rfl
  exact mb_eq e
theorem m_pI7 {β : Type} {m : Nat} {M : Mm} {h : Nat → Option hC} {n u : Nat} {K : Unit → HM β} {x : Int} : mb (pI 12 7 (some m) (iv x)) K (md m M h, n, u) = K () (md m (mu M 0 7 x) h, n, u) := by
  have e : pI 12 7 (some m) (iv x) (md m M h, n, u) = some ((), (md m (mu M 0 7 x) h, n, u)) := by
    unfold pI
    exact md_pV (by omega) rfl rfl
  exact mb_eq e
theorem m_oI11 {β : Type} {m : Nat} {M : Mm} {h : Nat → Option hC} {n u : Nat} {K : Int32 → HM β} : mb (oI 12 11 (some m)) K (md m M h, n, u) = K (iv (M 0 11)) (md m M h, n, u) := by
  have e : oI 12 11 (some m) (md m M h, n, u) = some (iv (M 0 11), (md m M h, n, u)) := by
    unfold oI; rw [md_oV]; rfl
  exact mb_eq e
theorem m_pI11 {β : Type} {m : Nat} {M : Mm} {h : Nat → Option hC} {n u : Nat} {K : Unit → HM β} {x : Int} : mb (pI 12 11 (some m) (iv x)) K (md m M h, n, u) = K () (md m (mu M 0 11 x) h, n, u) := by
  have e : pI 12 11 (some m) (iv x) (md m M h, n, u) = some ((), (md m (mu M 0 11 x) h, n, u)) := by
    unfold pI
    exact md_pV (by omega) rfl rfl
  exact mb_eq e
theorem m_oI12 {β : Type} {m : Nat} {M : Mm} {h : Nat → Option hC} {n u : Nat} {K : Int32 → HM β} : mb (oI 12 12 (some m)) K (md m M h, n, u) = K (iv (M 0 12)) (md m M h, n, u) := by
  have e : oI 12 12 (some m) (md m M h, n, u) = some (iv (M 0 12), (md m M h, n, u)) := by
    unfold oI; rw [md_oV]; rfl
  exact mb_eq e
theorem m_pI12 {β : Type} {m : Nat} {M : Mm} {h : Nat → Option hC} {n u : Nat} {K : Unit → HM β} {x : Int} : mb (pI 12 12 (some m) (iv x)) K (md m M h, n, u) = K () (md m (mu M 0 12 x) h, n, u) := by
  have e : pI 12 12 (some m) (iv x) (md m M h, n, u) = some ((), (md m (mu M 0 12 x) h, n, u)) := by
    unfold pI
    exact md_pV (by omega) rfl rfl
  exact mb_eq e
theorem m_oI13 {β : Type} {m : Nat} {M : Mm} {h : Nat → Option hC} {n u : Nat} {K : Int32 → HM β} : mb (oI 12 13 (some m)) K (md m M h, n, u) = K (iv (M 0 13)) (md m M h, n, u) := by
  have e : oI 12 13 (some m) (md m M h, n, u) = some (iv (M 0 13), (md m M h, n, u)) := by
    unfold oI; rw [md_oV]; rfl
  exact mb_eq e
theorem m_pI13 {β : Type} {m : Nat} {M : Mm} {h : Nat → Option hC} {n u : Nat} {K : Unit → HM β} {x : Int} : mb (pI 12 13 (some m) (iv x)) K (md m M h, n, u) = K () (md m (mu M 0 13 x) h, n, u) := by
  have e : pI 12 13 (some m) (iv x) (md m M h, n, u) = some ((), (md m (mu M 0 13 x) h, n, u)) := by
    unfold pI
    exact md_pV (by omega) rfl rfl
  exact mb_eq e
theorem m_oI14 {β : Type} {m : Nat} {M : Mm} {h : Nat → Option hC} {n u : Nat} {K : Int32 → HM β} : mb (oI 12 14 (some m)) K (md m M h, n, u) = K (iv (M 0 14)) (md m M h, n, u) := by
  have e : oI 12 14 (some m) (md m M h, n, u) = some (iv (M 0 14), (md m M h, n, u)) := by
    unfold oI; rw [md_oV]; rfl
  exact mb_eq e
theorem m_pI14 {β : Type} {m : Nat} {M : Mm} {h : Nat → Option hC} {n u : Nat} {K : Unit → HM β} {x : Int} : mb (pI 12 14 (some m) (iv x)) K (md m M h, n, u) = K () (md m (mu M 0 14 x) h, n, u) := by
  have e : pI 12 14 (some m) (iv x) (md m M h, n, u) = some ((), (md m (mu M 0 14 x) h, n, u)) := by
    unfold pI
    exact md_pV (by omega) rfl rfl
  exact mb_eq e
theorem m_oI15 {β : Type} {m : Nat} {M : Mm} {h : Nat → Option hC} {n u : Nat} {K : Int32 → HM β} : mb (oI 12 15 (some m)) K (md m M h, n, u) = K (iv (M 0 15)) (md m M h, n, u) := by
  have e : oI 12 15 (some m) (md m M h, n, u) = some (iv (M 0 15), (md m M h, n, u)) := by
    unfold oI; rw [md_oV]; rfl
  exact mb_eq e
theorem m_pI15 {β : Type} {m : Nat} {M : Mm} {h : Nat → Option hC} {n u : Nat} {K : Unit → HM β} {x : Int} : mb (pI 12 15 (some m) (iv x)) K (md m M h, n, u) = K () (md m (mu M 0 15 x) h, n, u) := by
  have e : pI 12 15 (some m) (iv x) (md m M h, n, u) = some ((), (md m (mu M 0 15 x) h, n, u)) := by
    unfold pI
    exact md_pV (by omega) rfl rfl
  exact mb_eq e
theorem m_oI16 {β : Type} {m : Nat} {M : Mm} {h : Nat → Option hC} {n u : Nat} {K : Int32 → HM β} : mb (oI 12 16 (some m)) K (md m M h, n, u) = K (iv (M 0 16)) (md m M h, n, u) := by
  have e : oI 12 16 (some m) (md m M h, n, u) = some (iv (M 0 16), (md m M h, n, u)) := by
    unfold oI; rw [md_oV]; rfl
  exact mb_eq e
theorem m_pI16 {β : Type} {m : Nat} {M : Mm} {h : Nat → Option hC} {n u : Nat} {K : Unit → HM β} {x : Int} : mb (pI 12 16 (some m) (iv x)) K (md m M h, n, u) = K () (md m (mu M 0 16 x) h, n, u) := by
  have e : pI 12 16 (some m) (iv x) (md m M h, n, u) = some ((), (md m (mu M 0 16 x) h, n, u)) := by
    unfold pI
    exact md_pV (by omega) rfl rfl
  exact mb_eq e
theorem m_oI17 {β : Type} {m : Nat} {M : Mm} {h : Nat → Option hC} {n u : Nat} {K : Int32 → HM β} : mb (oI 12 17 (some m)) K (md m M h, n, u) = K (iv (M 0 17)) (md m M h, n, u) := by
  have e : oI 12 17 (some m) (md m M h, n, u) = some (iv (M 0 17), (md m M h, n, u)) := by
    unfold oI; rw [md_oV]; rfl
  exact mb_eq e
theorem m_pI17 {β : Type} {m : Nat} {M : Mm} {h : Nat → Option hC} {n u : Nat} {K : Unit → HM β} {x : Int} : mb (pI 12 17 (some m) (iv x)) K (md m M h, n, u) = K () (md m (mu M 0 17 x) h, n, u) := by
  have e : pI 12 17 (some m) (iv x) (md m M h, n, u) = some ((), (md m (mu M 0 17 x) h, n, u)) := by
    unfold pI
    exact md_pV (by omega) rfl rfl
  exact mb_eq e
theorem m_pZ5 {β : Type} {m : Nat} {M : Mm} {h : Nat → Option hC} {n u : Nat} {K : Unit → HM β} {x : Int} (hx : x = 0 ∨ x = 1) : mb (pZ 12 5 (some m) (iv x)) K (md m M h, n, u) = K () (md m (mu M 0 5 x) h, n, u) := by
  have e : pZ 12 5 (some m) (iv x) (md m M h, n, u) = some ((), (md m (mu M 0 5 x) h, n, u)) := by
    unfold pZ
    rw [if_pos (iv_b0 hx)]
    exact md_pV (by omega) rfl rfl
  exact mb_eq e
theorem m_pZ12 {β : Type} {m : Nat} {M : Mm} {h : Nat → Option hC} {n u : Nat} {K : Unit → HM β} {x : Int} (hx : x = 0 ∨ x = 1) : mb (pZ 12 12 (some m) (iv x)) K (md m M h, n, u) = K () (md m (mu M 0 12 x) h, n, u) := by
  have e : pZ 12 12 (some m) (iv x) (md m M h, n, u) = some ((), (md m (mu M 0 12 x) h, n, u)) := by
    unfold pZ
    rw [if_pos (iv_b0 hx)]
    exact md_pV (by omega) rfl rfl
  exact mb_eq e
theorem m_oR1 {β : Type} {m : Nat} {M : Mm} {h : Nat → Option hC} {n u : Nat} {K : Option Nat → HM β} : mb (oR 12 1 (some m)) K (md m M h, n, u) = K (some (m + 1)) (md m M h, n, u) := by
  have e : oR 12 1 (some m) (md m M h, n, u) = some (some (m + 1), (md m M h, n, u)) := by
    unfold oR; rw [md_oV]; rfl
  exact mb_eq e
theorem m_aI1 {β : Type} {m : Nat} {M : Mm} {h : Nat → Option hC} {n u : Nat} {K : Int32 → HM β} {i : Int} (hi : 0 ≤ i ∧ i < 631) : mb (aI 0 (some (m + 1)) (iv i)) K (md m M h, n, u) = K (iv (M 1 i)) (md m M h, n, u) := md_aI (r := 1) (by omega) (by decide) hi
theorem m_sI1 {β : Type} {m : Nat} {M : Mm} {h : Nat → Option hC} {n u : Nat} {K : Unit → HM β} {i x : Int} (hi : 0 ≤ i ∧ i < 631) : mb (sI (some (m + 1)) (iv i) (iv x)) K (md m M h, n, u) = K () (md m (mu M 1 i x) h, n, u) := md_sI (r := 1) (by omega) (by decide) hi
theorem m_oR2 {β : Type} {m : Nat} {M : Mm} {h : Nat → Option hC} {n u : Nat} {K : Option Nat → HM β} : mb (oR 12 2 (some m)) K (md m M h, n, u) = K (some (m + 2)) (md m M h, n, u) := by
  have e : oR 12 2 (some m) (md m M h, n, u) = some (some (m + 2), (md m M h, n, u)) := by
    unfold oR; rw [md_oV]; rfl
  exact mb_eq e
theorem m_aI2 {β : Type} {m : Nat} {M : Mm} {h : Nat → Option hC} {n u : Nat} {K : Int32 → HM β} {i : Int} (hi : 0 ≤ i ∧ i < 3155) : mb (aI 0 (some (m + 2)) (iv i)) K (md m M h, n, u) = K (iv (M 2 i)) (md m M h, n, u) := md_aI (r := 2) (by omega) (by decide) hi
theorem m_sI2 {β : Type} {m : Nat} {M : Mm} {h : Nat → Option hC} {n u : Nat} {K : Unit → HM β} {i x : Int} (hi : 0 ≤ i ∧ i < 3155) : mb (sI (some (m + 2)) (iv i) (iv x)) K (md m M h, n, u) = K () (md m (mu M 2 i x) h, n, u) := md_sI (r := 2) (by omega) (by decide) hi
theorem m_oR4 {β : Type} {m : Nat} {M : Mm} {h : Nat → Option hC} {n u : Nat} {K : Option Nat → HM β} : mb (oR 12 4 (some m)) K (md m M h, n, u) = K (some (m + 3)) (md m M h, n, u) := by
  have e : oR 12 4 (some m) (md m M h, n, u) = some (some (m + 3), (md m M h, n, u)) := by
    unfold oR; rw [md_oV]; rfl
  exact mb_eq e
theorem m_aI4 {β : Type} {m : Nat} {M : Mm} {h : Nat → Option hC} {n u : Nat} {K : Int32 → HM β} {i : Int} (hi : 0 ≤ i ∧ i < 631) : mb (aI 0 (some (m + 3)) (iv i)) K (md m M h, n, u) = K (iv (M 4 i)) (md m M h, n, u) := md_aI (r := 3) (by omega) (by decide) hi
theorem m_sI4 {β : Type} {m : Nat} {M : Mm} {h : Nat → Option hC} {n u : Nat} {K : Unit → HM β} {i x : Int} (hi : 0 ≤ i ∧ i < 631) : mb (sI (some (m + 3)) (iv i) (iv x)) K (md m M h, n, u) = K () (md m (mu M 4 i x) h, n, u) := md_sI (r := 3) (by omega) (by decide) hi
theorem m_oR6 {β : Type} {m : Nat} {M : Mm} {h : Nat → Option hC} {n u : Nat} {K : Option Nat → HM β} : mb (oR 12 6 (some m)) K (md m M h, n, u) = K (some (m + 4)) (md m M h, n, u) := by
  have e : oR 12 6 (some m) (md m M h, n, u) = some (some (m + 4), (md m M h, n, u)) := by
    unfold oR; rw [md_oV]; rfl
  exact mb_eq e
theorem m_aI6 {β : Type} {m : Nat} {M : Mm} {h : Nat → Option hC} {n u : Nat} {K : Int32 → HM β} {i : Int} (hi : 0 ≤ i ∧ i < 60) : mb (aI 0 (some (m + 4)) (iv i)) K (md m M h, n, u) = K (iv (M 6 i)) (md m M h, n, u) := md_aI (r := 4) (by omega) (by decide) hi
theorem m_sI6 {β : Type} {m : Nat} {M : Mm} {h : Nat → Option hC} {n u : Nat} {K : Unit → HM β} {i x : Int} (hi : 0 ≤ i ∧ i < 60) : mb (sI (some (m + 4)) (iv i) (iv x)) K (md m M h, n, u) = K () (md m (mu M 6 i x) h, n, u) := md_sI (r := 4) (by omega) (by decide) hi
theorem m_oR8 {β : Type} {m : Nat} {M : Mm} {h : Nat → Option hC} {n u : Nat} {K : Option Nat → HM β} : mb (oR 12 8 (some m)) K (md m M h, n, u) = K (some (m + 5)) (md m M h, n, u) := by
  have e : oR 12 8 (some m) (md m M h, n, u) = some (some (m + 5), (md m M h, n, u)) := by
    unfold oR; rw [md_oV]; rfl
  exact mb_eq e
theorem m_aI8 {β : Type} {m : Nat} {M : Mm} {h : Nat → Option hC} {n u : Nat} {K : Int32 → HM β} {i : Int} (hi : 0 ≤ i ∧ i < 192) : mb (aI 0 (some (m + 5)) (iv i)) K (md m M h, n, u) = K (iv (M 8 i)) (md m M h, n, u) := md_aI (r := 5) (by omega) (by decide) hi
theorem m_sI8 {β : Type} {m : Nat} {M : Mm} {h : Nat → Option hC} {n u : Nat} {K : Unit → HM β} {i x : Int} (hi : 0 ≤ i ∧ i < 192) : mb (sI (some (m + 5)) (iv i) (iv x)) K (md m M h, n, u) = K () (md m (mu M 8 i x) h, n, u) := md_sI (r := 5) (by omega) (by decide) hi
theorem m_oR9 {β : Type} {m : Nat} {M : Mm} {h : Nat → Option hC} {n u : Nat} {K : Option Nat → HM β} : mb (oR 12 9 (some m)) K (md m M h, n, u) = K (some (m + 6)) (md m M h, n, u) := by
  have e : oR 12 9 (some m) (md m M h, n, u) = some (some (m + 6), (md m M h, n, u)) := by
    unfold oR; rw [md_oV]; rfl
  exact mb_eq e
theorem m_aI9 {β : Type} {m : Nat} {M : Mm} {h : Nat → Option hC} {n u : Nat} {K : Int32 → HM β} {i : Int} (hi : 0 ≤ i ∧ i < 192) : mb (aI 0 (some (m + 6)) (iv i)) K (md m M h, n, u) = K (iv (M 9 i)) (md m M h, n, u) := md_aI (r := 6) (by omega) (by decide) hi
theorem m_sI9 {β : Type} {m : Nat} {M : Mm} {h : Nat → Option hC} {n u : Nat} {K : Unit → HM β} {i x : Int} (hi : 0 ≤ i ∧ i < 192) : mb (sI (some (m + 6)) (iv i) (iv x)) K (md m M h, n, u) = K () (md m (mu M 9 i x) h, n, u) := md_sI (r := 6) (by omega) (by decide) hi
theorem m_oR10 {β : Type} {m : Nat} {M : Mm} {h : Nat → Option hC} {n u : Nat} {K : Option Nat → HM β} : mb (oR 12 10 (some m)) K (md m M h, n, u) = K (some (m + 7)) (md m M h, n, u) := by
  have e : oR 12 10 (some m) (md m M h, n, u) = some (some (m + 7), (md m M h, n, u)) := by
    unfold oR; rw [md_oV]; rfl
  exact mb_eq e
theorem m_aI10 {β : Type} {m : Nat} {M : Mm} {h : Nat → Option hC} {n u : Nat} {K : Int32 → HM β} {i : Int} (hi : 0 ≤ i ∧ i < 192) : mb (aI 0 (some (m + 7)) (iv i)) K (md m M h, n, u) = K (iv (M 10 i)) (md m M h, n, u) := md_aI (r := 7) (by omega) (by decide) hi
theorem m_sI10 {β : Type} {m : Nat} {M : Mm} {h : Nat → Option hC} {n u : Nat} {K : Unit → HM β} {i x : Int} (hi : 0 ≤ i ∧ i < 192) : mb (sI (some (m + 7)) (iv i) (iv x)) K (md m M h, n, u) = K () (md m (mu M 10 i x) h, n, u) := md_sI (r := 7) (by omega) (by decide) hi
