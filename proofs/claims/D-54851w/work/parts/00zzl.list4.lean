/-! ===== ArrayList: an array copied ===== -/
theorem J30_copyOf_2_ev {g : Nat → Nat} {h : Nat → Option hC} {n r2 : Nat} {cap m : Nat} {q : Nat → Option Nat} (ha : h r2 = some (arq cap q)) (hn : h n = none) (hcm : cap ≤ m) (hm : m ≤ 22) (hok : ∀ i : Nat, i < cap → okV 4 (q i) (hset h n (arq m (fun _ => none)), n + 1, 1 + m) = true) :
    fJ30_copyOf_2 g (some r2) (iv m) (h, n, 0) = some (some n, (hset h n (arq m (fun i => if i < cap then q i else none)), n + 1, 23)) := by
  have hne : r2 ≠ n := fun e => by rw [e, hn] at ha; cases ha
  have en := fun (K : Option Nat → HM (Option Nat)) => c_nQ (K := K) (h := h) (n := n) (w := 0) (L := 23) (k := (m : Int)) (by omega) (by omega)
  rw [Int.toNat_natCast, Nat.zero_add] at en
  have ha1 : hset h n (arq m (fun _ => none)) r2 = some (arq cap q) := by rw [hset_ne hne]; exact ha
  have hn1 : hset h n (arq m (fun _ => none)) n = some (arq m (fun _ => none)) := hset_at
  have emin : fJ31_min g (iv cap) (iv m) (hset h n (arq m (fun _ => none)), n + 1, 0) = some (iv cap, (hset h n (arq m (fun _ => none)), n + 1, 0)) := by
    unfold fJ31_min
    rw [if_neg (fun e => by rw [iv_lt (by omega) (by omega)] at e; omega)]
    rfl
  have ec := fun (K : Unit → HM (Option Nat)) => c_cpQ (K := K) (n := n + 1) (w := 1 + m) (sp := 0) (dp := 0) (k := (cap : Int)) ha1 hn1 (by omega) (by omega) (by omega) (by omega) (by omega) (fun i hi => by
    rw [show (0 : Int).toNat + i = i from Nat.zero_add i]
    exact hok i (by omega))
  have hcp : va_cpy q (fun _ => none) (0 : Int).toNat (0 : Int).toNat ((cap : Nat) : Int).toNat = fun i => if i < cap then q i else none := by
    funext i
    unfold va_cpy
    rw [Int.toNat_natCast]
    by_cases e : i < cap
    · rw [if_pos ⟨Nat.zero_le _, by show i < 0 + cap; omega⟩, if_pos e]
      exact congrArg q (by show 0 + (i - 0) = i; omega)
    · rw [if_neg (fun w => e (by have := w.2; have h0 : (0 : Int).toNat = 0 := rfl; omega)), if_neg e]
  rw [hcp, hset_hset] at ec
  have e3 : fJ30_copyOf_3 g (some r2) (iv m) (some (g 12)) (h, n, 0) = some (some n, (hset h n (arq m (fun i => if i < cap then q i else none)), n + 1, 1 + m)) := by
    unfold fJ30_copyOf_3
    rw [mjn_b, if_pos rfl, en]
    show mb (aN g (some r2)) _ (hset h n (arq m (fun _ => none)), n + 1, 1 + m) = _
    rw [c_aN ha1, e_call0 emin]
    show mb (mcpQ (some r2) (iv 0) (some n) (iv 0) (iv cap)) _ _ = _
    rw [ec]
    rfl
  have eg : ∀ K : Option Nat → HM (Option Nat), mb (mgc g (some r2)) K (h, n, 0) = K (some (g 12)) (h, n, 0) := fun K => by
    unfold mb mgc
    simp only [ha, arq, if_true]
  unfold fJ30_copyOf_2
  rw [eg, c_mcall e3 (by decide)]
  rfl
