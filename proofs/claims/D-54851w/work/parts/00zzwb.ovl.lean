/-! ===== a tree laid over a heap: its map's cell at r, its entries S ===== -/
def mCell (cmp rt ks : Option Nat) (sz mc : Int32) : hC := .inr (18, [.null, .null, va_rf cmp, va_rf rt, .int sz, .int mc, .null, va_rf ks, .null])
def eCell (M : Nat → Nat → Option Nat) (C : Nat → Int32) (q : Nat) : hC := .inr (19, [va_rf (M 0 q), va_rf (M 1 q), va_rf (M 2 q), va_rf (M 3 q), va_rf (M 4 q), .int (C q)])
noncomputable def ov (r : Nat) (S : Nat → Prop) (cmp ks : Option Nat) (h : Nat → Option hC) (M : Nat → Nat → Option Nat) (C : Nat → Int32) (rt : Option Nat) (sz mc : Int32) : Nat → Option hC :=
  fun q => if q = r then some (mCell cmp rt ks sz mc) else @ite _ (S q) (Classical.propDecidable _) (some (eCell M C q)) (h q)
theorem ov_r {r : Nat} {S : Nat → Prop} {cmp ks : Option Nat} {h : Nat → Option hC} {M : Nat → Nat → Option Nat} {C : Nat → Int32} {rt : Option Nat} {sz mc : Int32} : ov r S cmp ks h M C rt sz mc r = some (mCell cmp rt ks sz mc) := if_pos rfl
theorem ov_s {r : Nat} {S : Nat → Prop} {cmp ks : Option Nat} {h : Nat → Option hC} {M : Nat → Nat → Option Nat} {C : Nat → Int32} {rt : Option Nat} {sz mc : Int32} (hr : ¬ S r) {a : Nat} (ha : S a) : ov r S cmp ks h M C rt sz mc a = some (eCell M C a) := by
  unfold ov
  rw [if_neg (fun e => hr (by rw [← e]; exact ha)), if_pos ha]
theorem ov_o {r : Nat} {S : Nat → Prop} {cmp ks : Option Nat} {h : Nat → Option hC} {M : Nat → Nat → Option Nat} {C : Nat → Int32} {rt : Option Nat} {sz mc : Int32} {q : Nat} (hr : q ≠ r) (hs : ¬ S q) : ov r S cmp ks h M C rt sz mc q = h q := by
  unfold ov
  rw [if_neg hr, if_neg hs]
theorem rf_get {β : Type} {K : Option Nat → HM β} {h : Nat → Option hC} {n w a ci k : Nat} {fs : List Value} {v : Option Nat} (hc : h a = some (.inr (ci, fs))) (hk : fs[k]? = some (va_rf v)) : mb (oR ci k (some a)) K (h, n, w) = K v (h, n, w) := by
  cases v with
  | none => exact c_oN hc hk
  | some b => exact c_oR hc hk
def cup (C : Nat → Int32) (a : Nat) (x : Int32) : Nat → Int32 := fun q => if q = a then x else C q
section
variable {β : Type} {r : Nat} {S : Nat → Prop} {cmp ks : Option Nat} {h : Nat → Option hC} {M : Nat → Nat → Option Nat} {C : Nat → Int32} {rt : Option Nat} {sz mc : Int32} {n w : Nat}
theorem v_mon {α : Type} {F : HM α} {K : α → HM β} : mb (mon 18 (some r) F) K (ov r S cmp ks h M C rt sz mc, n, w) = mb F K (ov r S cmp ks h M C rt sz mc, n, w) := c_mon (ov_r (M := M) (S := S))
theorem v_m2 {K : Option Nat → HM β} : mb (oR 18 2 (some r)) K (ov r S cmp ks h M C rt sz mc, n, w) = K cmp (ov r S cmp ks h M C rt sz mc, n, w) := rf_get ov_r rfl
theorem v_m3 {K : Option Nat → HM β} : mb (oR 18 3 (some r)) K (ov r S cmp ks h M C rt sz mc, n, w) = K rt (ov r S cmp ks h M C rt sz mc, n, w) := rf_get ov_r rfl
theorem v_m4 {K : Int32 → HM β} : mb (oI 18 4 (some r)) K (ov r S cmp ks h M C rt sz mc, n, w) = K sz (ov r S cmp ks h M C rt sz mc, n, w) := c_oI ov_r rfl
theorem v_m5 {K : Int32 → HM β} : mb (oI 18 5 (some r)) K (ov r S cmp ks h M C rt sz mc, n, w) = K mc (ov r S cmp ks h M C rt sz mc, n, w) := c_oI ov_r rfl
theorem v_m7 {K : Option Nat → HM β} : mb (oR 18 7 (some r)) K (ov r S cmp ks h M C rt sz mc, n, w) = K ks (ov r S cmp ks h M C rt sz mc, n, w) := rf_get ov_r rfl
theorem ov_setr {rt' ks' : Option Nat} {sz' mc' : Int32} : hset (ov r S cmp ks h M C rt sz mc) r (mCell cmp rt' ks' sz' mc') = ov r S cmp ks' h M C rt' sz' mc' := by
  funext q
  unfold hset ov
  by_cases e : q = r
  · rw [if_pos e, if_pos e]
  · rw [if_neg e, if_neg e, if_neg e]
theorem v_q3 {K : Unit → HM β} {v : Option Nat} : mb (pR 18 3 (some r) v) K (ov r S cmp ks h M C rt sz mc, n, w) = K () (ov r S cmp ks h M C v sz mc, n, w) := by
  rw [c_pR (ov_r (M := M) (S := S)) (show (3 : Nat) < 9 by decide)]
  exact congrArg (fun z => K () (z, n, w)) (ov_setr (M := M) (S := S))
theorem v_q7 {K : Unit → HM β} {v : Option Nat} : mb (pR 18 7 (some r) v) K (ov r S cmp ks h M C rt sz mc, n, w) = K () (ov r S cmp v h M C rt sz mc, n, w) := by
  rw [c_pR (ov_r (M := M) (S := S)) (show (7 : Nat) < 9 by decide)]
  exact congrArg (fun z => K () (z, n, w)) (ov_setr (M := M) (S := S))
theorem v_q4 {K : Unit → HM β} {x : Int32} : mb (pI 18 4 (some r) x) K (ov r S cmp ks h M C rt sz mc, n, w) = K () (ov r S cmp ks h M C rt x mc, n, w) := by
  rw [c_pI (ov_r (M := M) (S := S)) (show (4 : Nat) < 9 by decide)]
  exact congrArg (fun z => K () (z, n, w)) (ov_setr (M := M) (S := S))
theorem v_q5 {K : Unit → HM β} {x : Int32} : mb (pI 18 5 (some r) x) K (ov r S cmp ks h M C rt sz mc, n, w) = K () (ov r S cmp ks h M C rt sz x, n, w) := by
  rw [c_pI (ov_r (M := M) (S := S)) (show (5 : Nat) < 9 by decide)]
  exact congrArg (fun z => K () (z, n, w)) (ov_setr (M := M) (S := S))
theorem v_e0 {K : Option Nat → HM β} (hr : ¬ S r) {a : Nat} (ha : S a) : mb (oR 19 0 (some a)) K (ov r S cmp ks h M C rt sz mc, n, w) = K (M 0 a) (ov r S cmp ks h M C rt sz mc, n, w) := rf_get (ov_s hr ha) rfl
theorem v_e1 {K : Option Nat → HM β} (hr : ¬ S r) {a : Nat} (ha : S a) : mb (oR 19 1 (some a)) K (ov r S cmp ks h M C rt sz mc, n, w) = K (M 1 a) (ov r S cmp ks h M C rt sz mc, n, w) := rf_get (ov_s hr ha) rfl
theorem v_e2 {K : Option Nat → HM β} (hr : ¬ S r) {a : Nat} (ha : S a) : mb (oR 19 2 (some a)) K (ov r S cmp ks h M C rt sz mc, n, w) = K (M 2 a) (ov r S cmp ks h M C rt sz mc, n, w) := rf_get (ov_s hr ha) rfl
theorem v_e3 {K : Option Nat → HM β} (hr : ¬ S r) {a : Nat} (ha : S a) : mb (oR 19 3 (some a)) K (ov r S cmp ks h M C rt sz mc, n, w) = K (M 3 a) (ov r S cmp ks h M C rt sz mc, n, w) := rf_get (ov_s hr ha) rfl
theorem v_e4 {K : Option Nat → HM β} (hr : ¬ S r) {a : Nat} (ha : S a) : mb (oR 19 4 (some a)) K (ov r S cmp ks h M C rt sz mc, n, w) = K (M 4 a) (ov r S cmp ks h M C rt sz mc, n, w) := rf_get (ov_s hr ha) rfl
theorem v_e5 {K : Int32 → HM β} (hr : ¬ S r) {a : Nat} (ha : S a) : mb (oI 19 5 (some a)) K (ov r S cmp ks h M C rt sz mc, n, w) = K (C a) (ov r S cmp ks h M C rt sz mc, n, w) := c_oI (ov_s hr ha) rfl
theorem ov_sets (hr : ¬ S r) {a : Nat} (ha : S a) {M' : Nat → Nat → Option Nat} {C' : Nat → Int32} (hM : ∀ f q, q ≠ a → M' f q = M f q) (hC : ∀ q, q ≠ a → C' q = C q) : hset (ov r S cmp ks h M C rt sz mc) a (eCell M' C' a) = ov r S cmp ks h M' C' rt sz mc := by
  have hne : a ≠ r := fun e => hr (by rw [← e]; exact ha)
  funext q
  unfold hset ov
  by_cases e : q = a
  · rw [if_pos e, if_neg (by rw [e]; exact hne), if_pos (by rw [e]; exact ha), e]
  · rw [if_neg e]
    have ec : eCell M' C' q = eCell M C q := by
      unfold eCell
      rw [hM 0 q e, hM 1 q e, hM 2 q e, hM 3 q e, hM 4 q e, hC q e]
    rw [ec]
theorem mup_o {f a : Nat} {v : Option Nat} {f' q : Nat} (hq : q ≠ a) : mup M f a v f' q = M f' q := if_neg (fun e => hq e.2)
theorem mup_f {f a : Nat} {v : Option Nat} {f' q : Nat} (hf : f' ≠ f) : mup M f a v f' q = M f' q := if_neg (fun e => hf e.1)
theorem mup_s {f a : Nat} {v : Option Nat} : mup M f a v f a = v := if_pos ⟨rfl, rfl⟩
theorem v_p0 {K : Unit → HM β} (hr : ¬ S r) {a : Nat} (ha : S a) {v : Option Nat} : mb (pR 19 0 (some a) v) K (ov r S cmp ks h M C rt sz mc, n, w) = K () (ov r S cmp ks h (mup M 0 a v) C rt sz mc, n, w) := by
  rw [c_pR (ov_s hr ha) (show (0 : Nat) < 6 by decide)]
  have e : (Sum.inr (19, [va_rf (M 0 a), va_rf (M 1 a), va_rf (M 2 a), va_rf (M 3 a), va_rf (M 4 a), Value.int (C a)].set 0 (va_rf v)) : hC) = eCell (mup M 0 a v) C a := by
    unfold eCell
    rw [mup_s, mup_f (by decide), mup_f (by decide), mup_f (by decide), mup_f (by decide)]
    rfl
  rw [e, ov_sets hr ha (fun f q hq => mup_o hq) (fun _ _ => rfl)]
theorem v_p1 {K : Unit → HM β} (hr : ¬ S r) {a : Nat} (ha : S a) {v : Option Nat} : mb (pR 19 1 (some a) v) K (ov r S cmp ks h M C rt sz mc, n, w) = K () (ov r S cmp ks h (mup M 1 a v) C rt sz mc, n, w) := by
  rw [c_pR (ov_s hr ha) (show (1 : Nat) < 6 by decide)]
  have e : (Sum.inr (19, [va_rf (M 0 a), va_rf (M 1 a), va_rf (M 2 a), va_rf (M 3 a), va_rf (M 4 a), Value.int (C a)].set 1 (va_rf v)) : hC) = eCell (mup M 1 a v) C a := by
    unfold eCell
    rw [mup_s, mup_f (by decide), mup_f (by decide), mup_f (by decide), mup_f (by decide)]
    rfl
  rw [e, ov_sets hr ha (fun f q hq => mup_o hq) (fun _ _ => rfl)]
theorem v_p2 {K : Unit → HM β} (hr : ¬ S r) {a : Nat} (ha : S a) {v : Option Nat} : mb (pR 19 2 (some a) v) K (ov r S cmp ks h M C rt sz mc, n, w) = K () (ov r S cmp ks h (mup M 2 a v) C rt sz mc, n, w) := by
  rw [c_pR (ov_s hr ha) (show (2 : Nat) < 6 by decide)]
  have e : (Sum.inr (19, [va_rf (M 0 a), va_rf (M 1 a), va_rf (M 2 a), va_rf (M 3 a), va_rf (M 4 a), Value.int (C a)].set 2 (va_rf v)) : hC) = eCell (mup M 2 a v) C a := by
    unfold eCell
    rw [mup_s, mup_f (by decide), mup_f (by decide), mup_f (by decide), mup_f (by decide)]
    rfl
  rw [e, ov_sets hr ha (fun f q hq => mup_o hq) (fun _ _ => rfl)]
theorem v_p3 {K : Unit → HM β} (hr : ¬ S r) {a : Nat} (ha : S a) {v : Option Nat} : mb (pR 19 3 (some a) v) K (ov r S cmp ks h M C rt sz mc, n, w) = K () (ov r S cmp ks h (mup M 3 a v) C rt sz mc, n, w) := by
  rw [c_pR (ov_s hr ha) (show (3 : Nat) < 6 by decide)]
  have e : (Sum.inr (19, [va_rf (M 0 a), va_rf (M 1 a), va_rf (M 2 a), va_rf (M 3 a), va_rf (M 4 a), Value.int (C a)].set 3 (va_rf v)) : hC) = eCell (mup M 3 a v) C a := by
    unfold eCell
    rw [mup_s, mup_f (by decide), mup_f (by decide), mup_f (by decide), mup_f (by decide)]
    rfl
  rw [e, ov_sets hr ha (fun f q hq => mup_o hq) (fun _ _ => rfl)]
theorem v_p4 {K : Unit → HM β} (hr : ¬ S r) {a : Nat} (ha : S a) {v : Option Nat} : mb (pR 19 4 (some a) v) K (ov r S cmp ks h M C rt sz mc, n, w) = K () (ov r S cmp ks h (mup M 4 a v) C rt sz mc, n, w) := by
  rw [c_pR (ov_s hr ha) (show (4 : Nat) < 6 by decide)]
  have e : (Sum.inr (19, [va_rf (M 0 a), va_rf (M 1 a), va_rf (M 2 a), va_rf (M 3 a), va_rf (M 4 a), Value.int (C a)].set 4 (va_rf v)) : hC) = eCell (mup M 4 a v) C a := by
    unfold eCell
    rw [mup_s, mup_f (by decide), mup_f (by decide), mup_f (by decide), mup_f (by decide)]
    rfl
  rw [e, ov_sets hr ha (fun f q hq => mup_o hq) (fun _ _ => rfl)]
theorem v_p5 {K : Unit → HM β} (hr : ¬ S r) {a : Nat} (ha : S a) {x : Int32} (hx : x = 0 ∨ x = 1) : mb (pZ 19 5 (some a) x) K (ov r S cmp ks h M C rt sz mc, n, w) = K () (ov r S cmp ks h M (cup C a x) rt sz mc, n, w) := by
  have e1 : pZ 19 5 (some a) x = pI 19 5 (some a) x := by unfold pZ pI; rw [if_pos hx]
  rw [e1, c_pI (ov_s hr ha) (show (5 : Nat) < 6 by decide)]
  have e : (Sum.inr (19, [va_rf (M 0 a), va_rf (M 1 a), va_rf (M 2 a), va_rf (M 3 a), va_rf (M 4 a), Value.int (C a)].set 5 (.int x)) : hC) = eCell M (cup C a x) a := by
    unfold eCell cup
    rw [if_pos rfl]
    rfl
  rw [e, ov_sets (C' := cup C a x) hr ha (fun _ _ _ => rfl) (fun q hq => if_neg hq)]
/-! ===== the helpers that bear null ===== -/
def bn (M : Nat → Nat → Option Nat) (f : Nat) (v : Option Nat) : Option Nat := match v with
  | none => none
  | some a => M f a
def cl (C : Nat → Int32) (v : Option Nat) : Int32 := match v with
  | none => 1
  | some a => C a
def cs (C : Nat → Int32) (v : Option Nat) (x : Int32) : Nat → Int32 := match v with
  | none => C
  | some a => cup C a x
def sv (S : Nat → Prop) (v : Option Nat) : Prop := ∀ a, v = some a → S a
theorem bn_s {f a : Nat} : bn M f (some a) = M f a := rfl
theorem bn_n {f : Nat} : bn M f none = none := rfl
theorem cl_s {a : Nat} : cl C (some a) = C a := rfl
theorem cs_s {a : Nat} {x : Int32} : cs C (some a) x = cup C a x := rfl
theorem cs_n {x : Int32} : cs C none x = C := rfl
theorem sv_s {a : Nat} (ha : S a) : sv S (some a) := fun b e => by cases e; exact ha
theorem sv_n : sv S none := fun b e => by cases e
def okC (C : Nat → Int32) : Prop := ∀ q, C q = 0 ∨ C q = 1
theorem okC_up (hC : okC C) {a : Nat} {x : Int32} (hx : x = 0 ∨ x = 1) : okC (cup C a x) := fun q => by
  unfold cup
  by_cases e : q = a
  · rw [if_pos e]; exact hx
  · rw [if_neg e]; exact hC q
theorem okC_cs (hC : okC C) {v : Option Nat} {x : Int32} (hx : x = 0 ∨ x = 1) : okC (cs C v x) := by
  cases v with
  | none => exact hC
  | some a => exact okC_up hC hx
theorem okC_cl (hC : okC C) (v : Option Nat) : cl C v = 0 ∨ cl C v = 1 := by
  cases v with
  | none => exact Or.inr rfl
  | some a => exact hC a
theorem bool_ret {x : Int32} (hx : x = 0 ∨ x = 1) : mretT .boolean x = mret x := by
  have e : vp_nar .boolean x = x := by
    rcases hx with rfl | rfl <;> decide +kernel
  unfold mretT
  rw [if_pos e]
variable {g : Nat → Nat}
theorem v_par {K : Option Nat → HM β} (hr : ¬ S r) {v : Option Nat} (hv : sv S v) : mb (mcall0 (fJ6_parentOf g v)) K (ov r S cmp ks h M C rt sz mc, n, w) = K (bn M 4 v) (ov r S cmp ks h M C rt sz mc, n, w) := by
  refine e_call0 (u' := 0) ?_
  unfold fJ6_parentOf
  cases v with
  | none => rw [if_pos rfl]; rfl
  | some a => rw [if_neg (fun e => by cases e), v_e4 hr (hv a rfl)]; rfl
theorem v_lft {K : Option Nat → HM β} (hr : ¬ S r) {v : Option Nat} (hv : sv S v) : mb (mcall0 (fJ6_leftOf g v)) K (ov r S cmp ks h M C rt sz mc, n, w) = K (bn M 2 v) (ov r S cmp ks h M C rt sz mc, n, w) := by
  refine e_call0 (u' := 0) ?_
  unfold fJ6_leftOf
  cases v with
  | none => rw [if_pos rfl]; rfl
  | some a => rw [if_neg (fun e => by cases e), v_e2 hr (hv a rfl)]; rfl
theorem v_rgt {K : Option Nat → HM β} (hr : ¬ S r) {v : Option Nat} (hv : sv S v) : mb (mcall0 (fJ6_rightOf g v)) K (ov r S cmp ks h M C rt sz mc, n, w) = K (bn M 3 v) (ov r S cmp ks h M C rt sz mc, n, w) := by
  refine e_call0 (u' := 0) ?_
  unfold fJ6_rightOf
  cases v with
  | none => rw [if_pos rfl]; rfl
  | some a => rw [if_neg (fun e => by cases e), v_e3 hr (hv a rfl)]; rfl
theorem v_col {K : Int32 → HM β} (hr : ¬ S r) (hC : okC C) {v : Option Nat} (hv : sv S v) : mb (mcall0 (fJ6_colorOf g v)) K (ov r S cmp ks h M C rt sz mc, n, w) = K (cl C v) (ov r S cmp ks h M C rt sz mc, n, w) := by
  refine e_call0 (u' := 0) ?_
  unfold fJ6_colorOf
  cases v with
  | none => rw [if_pos rfl, bool_ret (Or.inr rfl)]; rfl
  | some a => rw [if_neg (fun e => by cases e), v_e5 hr (hv a rfl), bool_ret (hC a)]; rfl
theorem v_sco {K : Unit → HM β} (hr : ¬ S r) {v : Option Nat} (hv : sv S v) {x : Int32} (hx : x = 0 ∨ x = 1) : mb (mcall0 (fJ6_setColor g v x)) K (ov r S cmp ks h M C rt sz mc, n, w) = K () (ov r S cmp ks h M (cs C v x) rt sz mc, n, w) := by
  refine e_call0 (u' := 0) ?_
  unfold fJ6_setColor
  cases v with
  | none => rw [if_pos rfl]; rfl
  | some a => rw [if_neg (fun e => by cases e), v_p5 hr (hv a rfl) hx]; rfl
end
