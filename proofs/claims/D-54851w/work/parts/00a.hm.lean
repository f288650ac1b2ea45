/-! ===== the abstract heap and the monad of shallow functions ===== -/
abbrev hAr : Type := (Nat → Int32) ⊕ (Nat → Int64) ⊕ (Nat → Option Nat)
abbrev hC : Type := (Nat × Nat × hAr) ⊕ (Nat × List Value)
abbrev Hp : Type := (Nat → Option hC) × Nat × Nat
abbrev HM (α : Type) : Type := Hp → Option (α × Hp)
def mb {α β : Type} (m : HM α) (k : α → HM β) : HM β := fun σ => match m σ with
  | none => none
  | some q => k q.1 q.2
def mret {α : Type} (a : α) : HM α := fun σ => some (a, σ)
def mfail {α : Type} : HM α := fun _ => none
def mjn {α β : Type} (K : α → HM β) (body : (α → HM β) → HM β) : HM β := body K
def mjn2 {α γ β : Type} (K : α → γ → HM β) (body : (α → γ → HM β) → HM β) : HM β := body K
def hset (h : Nat → Option hC) (a : Nat) (e : hC) : Nat → Option hC := fun q => if q = a then some e else h q
def mcall {α : Type} (L c : Nat) (f : HM α) : HM α := fun σ => if σ.2.2 + c ≤ L then (match f (σ.1, σ.2.1, 0) with
  | none => none
  | some q => some (q.1, (q.2.1, q.2.2.1, σ.2.2 + c))) else none
/-- a call of a method that makes nothing -/
def mcall0 {α : Type} (f : HM α) : HM α := fun σ => match f (σ.1, σ.2.1, 0) with
  | none => none
  | some q => some (q.1, (q.2.1, q.2.2.1, σ.2.2))
def oV (ci k : Nat) (r : Option Nat) (σ : Hp) : Option Value := match r with
  | none => none
  | some a => match σ.1 a with
    | some (.inr o) => if o.1 = ci then o.2[k]? else none
    | _ => none
def oI (ci k : Nat) (r : Option Nat) : HM Int32 := fun σ => match oV ci k r σ with
  | some (.int x) => some (x, σ)
  | _ => none
def oR (ci k : Nat) (r : Option Nat) : HM (Option Nat) := fun σ => match oV ci k r σ with
  | some (.ref b) => some (some b, σ)
  | some .null => some (none, σ)
  | _ => none
def pV (ci k : Nat) (r : Option Nat) (v : Value) : HM Unit := fun σ => match r with
  | none => none
  | some a => match σ.1 a with
    | some (.inr o) => if o.1 = ci ∧ k < o.2.length then some ((), (hset σ.1 a (.inr (ci, o.2.set k v)), σ.2)) else none
    | _ => none
def pI (ci k : Nat) (r : Option Nat) (x : Int32) : HM Unit := pV ci k r (.int x)
def pR (ci k : Nat) (r : Option Nat) (v : Option Nat) : HM Unit := pV ci k r (va_rf v)
/-- a boolean field -/
def pZ (ci k : Nat) (r : Option Nat) (x : Int32) : HM Unit := if x = 0 ∨ x = 1 then pV ci k r (.int x) else mfail
/-- a byte field -/
def pB (ci k : Nat) (r : Option Nat) (x : Int32) : HM Unit := if x.toInt8.toInt32 = x then pV ci k r (.int x) else mfail
def aI (tag : Nat) (r : Option Nat) (i : Int32) : HM Int32 := fun σ => match r with
  | none => none
  | some a => match σ.1 a with
    | some (.inl (t, n, .inl f)) => if t = tag ∧ ¬ i < 0 ∧ i.toNatClampNeg < n then some (f i.toNatClampNeg, σ) else none
    | _ => none
def aL (r : Option Nat) (i : Int32) : HM Int64 := fun σ => match r with
  | none => none
  | some a => match σ.1 a with
    | some (.inl (t, n, .inr (.inl f))) => if t = 3 ∧ ¬ i < 0 ∧ i.toNatClampNeg < n then some (f i.toNatClampNeg, σ) else none
    | _ => none
def aQ (r : Option Nat) (i : Int32) : HM (Option Nat) := fun σ => match r with
  | none => none
  | some a => match σ.1 a with
    | some (.inl (t, n, .inr (.inr f))) => if (t = 4 ∨ t = 5) ∧ ¬ i < 0 ∧ i.toNatClampNeg < n then some (f i.toNatClampNeg, σ) else none
    | _ => none
def sIx (tag : Nat) (r : Option Nat) (i x : Int32) : HM Unit := fun σ => match r with
  | none => none
  | some a => match σ.1 a with
    | some (.inl (t, n, .inl f)) => if t = tag ∧ ¬ i < 0 ∧ i.toNatClampNeg < n then some ((), (hset σ.1 a (.inl (tag, n, .inl (upd f i.toNatClampNeg x))), σ.2)) else none
    | _ => none
def sI (r : Option Nat) (i x : Int32) : HM Unit := sIx 0 r i x
def sZ (r : Option Nat) (i x : Int32) : HM Unit := if x = 0 ∨ x = 1 then sIx 1 r i x else mfail
def sB (r : Option Nat) (i x : Int32) : HM Unit := if x.toInt8.toInt32 = x then sIx 2 r i x else mfail
def sL (r : Option Nat) (i : Int32) (x : Int64) : HM Unit := fun σ => match r with
  | none => none
  | some a => match σ.1 a with
    | some (.inl (t, n, .inr (.inl f))) => if t = 3 ∧ ¬ i < 0 ∧ i.toNatClampNeg < n then some ((), (hset σ.1 a (.inl (3, n, .inr (.inl (vp_updL f i.toNatClampNeg x)))), σ.2)) else none
    | _ => none
/-- which objects an array of references may take: any of ours an Object[], lambdas an Order[] -/
def okA (t ci : Nat) : Bool := (t == 4 && decide (ci < 24)) || (t == 5 && decide (100 ≤ ci) && decide (ci < 107))
def okV (t : Nat) (v : Option Nat) (σ : Hp) : Bool := match v with
  | none => true
  | some b => match σ.1 b with
    | some (.inr o) => okA t o.1
    | _ => false
def sQ (r : Option Nat) (i : Int32) (v : Option Nat) : HM Unit := fun σ => match r with
  | none => none
  | some a => match σ.1 a with
    | some (.inl (t, n, .inr (.inr f))) => if (t = 4 ∨ t = 5) ∧ (¬ i < 0 ∧ i.toNatClampNeg < n) ∧ okV t v σ = true then some ((), (hset σ.1 a (.inl (t, n, .inr (.inr (va_up f i.toNatClampNeg v)))), σ.2)) else none
    | _ => none
def nO (L ci : Nat) (fs : List Value) : HM (Option Nat) := fun σ => if σ.2.2 + (1 + fs.length) ≤ L then some (some σ.2.1, (hset σ.1 σ.2.1 (.inr (ci, fs)), σ.2.1 + 1, σ.2.2 + (1 + fs.length))) else none
def zAr (tag : Nat) : hAr := if tag ≤ 2 then .inl (fun _ => 0) else if tag = 3 then .inr (.inl (fun _ => 0)) else .inr (.inr (fun _ => none))
def nA (L tag : Nat) (n : Int32) : HM (Option Nat) := fun σ => if ¬ n < 0 ∧ σ.2.2 + (1 + n.toNatClampNeg) ≤ L then some (some σ.2.1, (hset σ.1 σ.2.1 (.inl (tag, n.toNatClampNeg, zAr tag)), σ.2.1 + 1, σ.2.2 + (1 + n.toNatClampNeg))) else none
/-- an array's length; g 0, g 1: ArrayList's two empty arrays, that lie outside -/
def aN (g : Nat → Nat) (r : Option Nat) : HM Int32 := fun σ => match r with
  | none => none
  | some a => match σ.1 a with
    | some (.inl (_, n, _)) => some (Int32.ofNat n, σ)
    | some (.inr _) => none
    | none => if a = g 0 then some (0, σ) else none
/-- the number of a cell's class -/
def oC (r : Option Nat) (σ : Hp) : Option Nat := match r with
  | none => none
  | some a => match σ.1 a with
    | some (.inr o) => some o.1
    | _ => none
def mnn (r : Option Nat) : HM Unit := fun σ => match r with
  | none => none
  | some _ => some ((), σ)
/-- a cast of an object of one of the classes cs -/
def mcst (cs : List Nat) (r : Option Nat) : HM Unit := fun σ => match r with
  | none => some ((), σ)
  | some _ => match oC r σ with
    | none => none
    | some ci => if ci ∈ cs then some ((), σ) else none
/-- a cast of an array -/
def mcstA (t : Nat) (r : Option Nat) : HM Unit := fun σ => match r with
  | none => none
  | some a => match σ.1 a with
    | some (.inl x) => if x.1 = t then some ((), σ) else none
    | _ => none
def mins (yes no : List Nat) (r : Option Nat) : HM Int32 := fun σ => match r with
  | none => some (0, σ)
  | some _ => match oC r σ with
    | none => none
    | some ci => if ci ∈ yes then some (1, σ) else if ci ∈ no then some (0, σ) else none
/-- a call on a receiver of class ci -/
def mon {α : Type} (ci : Nat) (r : Option Nat) (f : HM α) : HM α := fun σ => if oC r σ = some ci then f σ else none
/-- what is answered as boolean, char .. is of that range -/
def mretT (ty : FieldType) (x : Int32) : HM Int32 := if vp_nar ty x = x then mret x else mfail
def mjn0 {β : Type} (K : HM β) (body : HM β → HM β) : HM β := body K
def mjn3 {α γ δ β : Type} (K : α → γ → δ → HM β) (body : (α → γ → δ → HM β) → HM β) : HM β := body K
def mjn4 {α γ δ ε β : Type} (K : α → γ → δ → ε → HM β) (body : (α → γ → δ → ε → HM β) → HM β) : HM β := body K
/-- division: none by 0 -/
def mnz (y : Int32) : HM Unit := fun σ => if y = 0 then none else some ((), σ)
abbrev imod (x y : Int32) : Int32 := x - x / y * y
abbrev ishl (x y : Int32) : Int32 := x <<< (y &&& 31)
abbrev ishr (x y : Int32) : Int32 := x >>> (y &&& 31)
abbrev iushr (x y : Int32) : Int32 := (x.toUInt32 >>> (y.toUInt32 &&& Int32.toUInt32 31)).toInt32
abbrev i2c (x : Int32) : Int32 := (x.toUInt32 % 65536).toInt32
def hTab (k : Nat) : List Int32 := match k with
  | 6 => [0, 2, 1, -1]
  | 7 => [-1, 0, 2, 1]
  | 8 => [1, 2, 0, -1]
  | _ => [-1, 1, 2, 0]
/-- a place of a static table of ints -/
def sT (k : Nat) (i : Int32) : HM Int32 := fun σ => if ¬ i < 0 ∧ i.toNatClampNeg < 4 then some ((hTab k).getD i.toNatClampNeg 0, σ) else none
def mdsp {α : Type} (r : Option Nat) : List (Nat × HM α) → HM α
  | [] => mfail
  | x :: l => fun σ => if oC r σ = some x.1 then x.2 σ else mdsp r l σ
def msd {α : Type} (g : Nat → Nat) (r : Option Nat) : List (Nat × HM α) → HM α
  | [] => mfail
  | x :: l => fun σ => if r = some (g x.1) then x.2 σ else msd g r l σ
/-- a division of doubles that isn't NaN by a new NaN -/
noncomputable def mdv (x y : UInt64) : HM Unit := fun σ => @ite _ (vf_n64 (FP.ddiv x y)) (Classical.propDecidable _) (some ((), σ)) none
/-- IntegerCache's array -/
def sC (g : Nat → Nat) (i : Int32) : HM (Option Nat) := fun σ => if ¬ i < 0 ∧ i.toNatClampNeg < 256 then some (some (g (1000 + i.toNatClampNeg)), σ) else none
/-- System.arraycopy, int-like -/
def mcpI (t : Nat) (r : Option Nat) (sp : Int32) (r2 : Option Nat) (dp n : Int32) : HM Unit := fun σ => match r, r2 with
  | some a0, some a => match σ.1 a0, σ.1 a with
    | some (.inl (t0, n0, .inl f)), some (.inl (t1, n1, .inl g)) => if (t0 = t ∧ t1 = t) ∧ (¬ sp < 0 ∧ ¬ dp < 0 ∧ ¬ n < 0) ∧ (sp.toNatClampNeg + n.toNatClampNeg ≤ n0 ∧ dp.toNatClampNeg + n.toNatClampNeg ≤ n1) ∧ (∀ i, i < n.toNatClampNeg → (f (sp.toNatClampNeg + i)).toInt8.toInt32 = f (sp.toNatClampNeg + i)) then
        some ((), (hset σ.1 a (.inl (t, n1, .inl (va_cpy f g sp.toNatClampNeg dp.toNatClampNeg n.toNatClampNeg))), σ.2)) else none
    | _, _ => none
  | _, _ => none
/-- System.arraycopy of references -/
def mcpQ (r : Option Nat) (sp : Int32) (r2 : Option Nat) (dp n : Int32) : HM Unit := fun σ => match r, r2 with
  | some a0, some a => match σ.1 a0, σ.1 a with
    | some (.inl (t0, n0, .inr (.inr f))), some (.inl (t1, n1, .inr (.inr g))) => if (t0 = 4 ∧ t1 = 4) ∧ (¬ sp < 0 ∧ ¬ dp < 0 ∧ ¬ n < 0) ∧ (sp.toNatClampNeg + n.toNatClampNeg ≤ n0 ∧ dp.toNatClampNeg + n.toNatClampNeg ≤ n1) ∧ (∀ i, i < n.toNatClampNeg → okV 4 (f (sp.toNatClampNeg + i)) σ = true) then
        some ((), (hset σ.1 a (.inl (4, n1, .inr (.inr (va_cpy f g sp.toNatClampNeg dp.toNatClampNeg n.toNatClampNeg)))), σ.2)) else none
    | _, _ => none
  | _, _ => none
/-- an array's clone(): boolean[] (1), int[] (0) -/
def mclone (L t : Nat) (r : Option Nat) : HM (Option Nat) := fun σ => match r with
  | none => none
  | some a => match σ.1 a with
    | some (.inl (t0, n, .inl f)) => if t0 = t ∧ (t = 1 → ∀ i, i < n → f i = 0 ∨ f i = 1) ∧ σ.2.2 + (1 + n) ≤ L then some (some σ.2.1, (hset σ.1 σ.2.1 (.inl (t, n, .inl f)), σ.2.1 + 1, σ.2.2 + (1 + n))) else none
    | _ => none
/-- getClass() of an Object[] -/
def mgc (g : Nat → Nat) (r : Option Nat) : HM (Option Nat) := fun σ => match r with
  | none => none
  | some a => match σ.1 a with
    | some (.inl (t0, _, _)) => if t0 = 4 then some (some (g 12), σ) else none
    | _ => none
/-- results of methods that may throw: .inl (the exception's number), .inr (the value) -/
def minr {α : Type} (m : HM α) : HM (Nat ⊕ α) := fun σ => match m σ with
  | none => none
  | some q => some (.inr q.1, q.2)
def mthr {α : Type} (L k : Nat) : HM (Nat ⊕ α) := fun σ => if σ.2.2 + 7 ≤ L then some (.inl k, σ) else none
def mbx {α β : Type} (m : HM (Nat ⊕ α)) (K : α → HM (Nat ⊕ β)) : HM (Nat ⊕ β) := fun σ => match m σ with
  | none => none
  | some (.inl e, τ) => some (.inl e, τ)
  | some (.inr a, τ) => K a τ
def mxr {α β : Type} (K : β → HM (Nat ⊕ α)) (z : Nat ⊕ β) (τ : Hp) : Option ((Nat ⊕ α) × Hp) := match z with
  | .inl e => some (.inl e, τ)
  | .inr x => K x τ
theorem mb_some {α β : Type} {m : HM α} {k : α → HM β} {σ : Hp} {q : β × Hp} (h : mb m k σ = some q) : ∃ (a : α) (τ : Hp), m σ = some (a, τ) ∧ k a τ = some q := by
  unfold mb at h
  cases hm : m σ with
  | none => rw [hm] at h; cases h
  | some p => rw [hm] at h; exact ⟨p.1, p.2, rfl, h⟩
theorem mb_eq {α β : Type} {m : HM α} {k : α → HM β} {σ τ : Hp} {a : α} (h : m σ = some (a, τ)) : mb m k σ = k a τ := by
  unfold mb; rw [h]
theorem mb_ret {α β : Type} {a : α} {k : α → HM β} : mb (mret a) k = k a := rfl
theorem mb_assoc {α β γ : Type} {m : HM α} {k : α → HM β} {j : β → HM γ} : mb (mb m k) j = mb m (fun a => mb (k a) j) := by
  funext σ
  unfold mb
  cases m σ <;> rfl
theorem hset_self {h : Nat → Option hC} {a : Nat} {e : hC} : hset h a e a = some e := if_pos rfl
theorem hset_ne {h : Nat → Option hC} {a b : Nat} {e : hC} (n : b ≠ a) : hset h a e b = h b := if_neg n
/-- a lambda's captured ints -/
def vints : List Value → Option (List Int32)
  | [] => some []
  | v :: l => match v with
    | .int x => (vints l).map (fun t => x :: t)
    | _ => none
/-- a call on the lambda k, of m captured ints -/
def mlm (L k m c : Nat) (r : Option Nat) (f : List Int32 → HM Int32) (els : HM Int32) : HM Int32 := fun σ => match r with
  | none => none
  | some b => match σ.1 b with
    | some (.inr o) => if o.1 = 100 + k then (match vints o.2 with
      | some vs => if vs.length = m then mb (mcall L c (f vs)) (fun x => mretT .boolean x) σ else none
      | none => none) else els σ
    | _ => none
theorem vints_eq {fs : List Value} {vs : List Int32} (h : vints fs = some vs) : fs = vs.map Value.int := by
  induction fs generalizing vs with
  | nil => cases h; rfl
  | cons v l ih =>
    cases v with
    | int x =>
      simp only [vints] at h
      cases hl : vints l with
      | none => rw [hl] at h; cases h
      | some t =>
        rw [hl] at h
        cases h
        rw [ih hl]; rfl
    | _ => cases h
