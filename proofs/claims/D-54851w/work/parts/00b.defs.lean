def fX6_init (g : Nat → Nat) (v0 : Option Nat) : HM (Unit) :=
  mb (mnn v0) fun _ =>
  mret ()
def fX6_cells (g : Nat → Nat) (v0 : Option Nat) : HM (Int32) :=
  mret 4
def fX6_chairs (g : Nat → Nat) (v0 : Option Nat) : HM (Int32) :=
  mret 4
def fX6_cellAcross (g : Nat → Nat) (v0 : Option Nat) (v1 : Int32) (v2 : Int32) : HM (Int32) :=
  mret (imod v1 2)
def fX6_cellDown (g : Nat → Nat) (v0 : Option Nat) (v1 : Int32) (v2 : Int32) : HM (Int32) :=
  mret (v1 / 2)
def fX6_chairAcross (g : Nat → Nat) (v0 : Option Nat) (v1 : Int32) (v2 : Int32) : HM (Int32) :=
  if (imod v2 2) = 0 then
  (mb (sT 6 v1) fun x2 =>
  mret x2)
  else
  (mb (sT 8 v1) fun x1 =>
  mret x1)
def fX6_chairDown (g : Nat → Nat) (v0 : Option Nat) (v1 : Int32) (v2 : Int32) : HM (Int32) :=
  if (imod v2 2) = 0 then
  (mb (sT 7 v1) fun x2 =>
  mret x2)
  else
  (mb (sT 9 v1) fun x1 =>
  mret x1)
def fX5_init (g : Nat → Nat) (v0 : Option Nat) : HM (Unit) :=
  mb (mnn v0) fun _ =>
  mret ()
def fX5_cells (g : Nat → Nat) (v0 : Option Nat) : HM (Int32) :=
  mret 4
def fX5_chairs (g : Nat → Nat) (v0 : Option Nat) : HM (Int32) :=
  mret 8
def fX5_cellAcross (g : Nat → Nat) (v0 : Option Nat) (v1 : Int32) (v2 : Int32) : HM (Int32) :=
  if (imod v2 2) = 0 then
  (mret v1)
  else
  (mret 0)
def fX5_cellDown (g : Nat → Nat) (v0 : Option Nat) (v1 : Int32) (v2 : Int32) : HM (Int32) :=
  if (imod v2 2) = 0 then
  (mret 0)
  else
  (mret v1)
def fX5_beside (g : Nat → Nat) (v0 : Int32) : HM (Int32) :=
  if 4 ≤ v0 then
  (mret 1)
  else
  (mret (-1))
def fX5_chairAcross (g : Nat → Nat) (v0 : Option Nat) (v1 : Int32) (v2 : Int32) : HM (Int32) :=
  if (imod v2 2) = 0 then
  (mret (imod v1 4))
  else
  (mb (mcall0 (fX5_beside g v1)) fun x1 =>
  mret x1)
def fX5_chairDown (g : Nat → Nat) (v0 : Option Nat) (v1 : Int32) (v2 : Int32) : HM (Int32) :=
  if (imod v2 2) = 0 then
  (mb (mcall0 (fX5_beside g v1)) fun x1 =>
  mret x1)
  else
  (mret (imod v1 4))
def fX9_init (g : Nat → Nat) (v0 : Option Nat) : HM (Unit) :=
  mb (mnn v0) fun _ =>
  mret ()
def fX9_cells (g : Nat → Nat) (v0 : Option Nat) : HM (Int32) :=
  mret 3
def fX9_chairs (g : Nat → Nat) (v0 : Option Nat) : HM (Int32) :=
  mret 3
def fX9_cellAcross (g : Nat → Nat) (v0 : Option Nat) (v1 : Int32) (v2 : Int32) : HM (Int32) :=
  if (imod v2 2) = 0 then
  (mret v1)
  else
  (mret 0)
def fX9_cellDown (g : Nat → Nat) (v0 : Option Nat) (v1 : Int32) (v2 : Int32) : HM (Int32) :=
  if (imod v2 2) = 0 then
  (mret 0)
  else
  (mret v1)
def fX3_init (g : Nat → Nat) (v0 : Option Nat) (v1 : Option Nat) (v2 : Int32) (v3 : Int32) (v4 : Int32) : HM (Unit) :=
  mb (mnn v0) fun _ =>
  mb (pR 2 0 v0 v1) fun _ =>
  mb (pI 2 1 v0 v2) fun _ =>
  mb (pI 2 2 v0 v3) fun _ =>
  mb (pI 2 3 v0 v4) fun _ =>
  mret ()
def fX3_copy (g : Nat → Nat) (v0 : Option Nat) : HM (Option Nat) :=
  mb (nO 6 2 [.null, .int 0, .int 0, .int 0, .int 0]) fun x1 =>
  mb (oR 2 0 v0) fun x2 =>
  mb (oI 2 1 v0) fun x3 =>
  mb (oI 2 2 v0) fun x4 =>
  mb (oI 2 3 v0) fun x5 =>
  mb (mnn x1) fun _ => mb (mcall0 (fX3_init g x1 x2 x3 x4 x5)) fun _ =>
  mb (oI 2 4 v0) fun x7 =>
  mb (pI 2 4 x1 x7) fun _ =>
  mret x1
def fX3_isInside (g : Nat → Nat) (v0 : Int32) (v1 : Int32) : HM (Int32) :=
  if v0 < 0 then
  (mretT .boolean 0)
  else
  (if 16 ≤ v0 then
  (mretT .boolean 0)
  else
  (if v1 < 0 then
  (mretT .boolean 0)
  else
  (if 12 ≤ v1 then
  (mretT .boolean 0)
  else
  (mretT .boolean 1))))
def fX4_of (g : Nat → Nat) (v0 : Int32) : HM (Option Nat) :=
  if v0 = 0 then
  (mret (some ( g 2)))
  else
  if v0 = 1 then
  (mret (some ( g 3)))
  else
  if v0 = 2 then
  (mret (some ( g 4)))
  else
  (mret (some ( g 5)))
def fX15_across (g : Nat → Nat) (v0 : Option Nat) (v1 : Int32) : HM (Int32) :=
  mret v1
def fX16_across (g : Nat → Nat) (v0 : Option Nat) (v1 : Int32) : HM (Int32) :=
  mret (-1)
def fX17_across (g : Nat → Nat) (v0 : Option Nat) (v1 : Int32) : HM (Int32) :=
  mret v1
def fX18_across (g : Nat → Nat) (v0 : Option Nat) (v1 : Int32) : HM (Int32) :=
  mret 1
def fX9_chairAcross (g : Nat → Nat) (v0 : Option Nat) (v1 : Int32) (v2 : Int32) : HM (Int32) :=
  mb (mcall0 (fX4_of g v2)) fun x1 =>
  mb (msd g x1 [(2, mcall0 (fX15_across g x1 v1)), (3, mcall0 (fX16_across g x1 v1)), (4, mcall0 (fX17_across g x1 v1)), (5, mcall0 (fX18_across g x1 v1))]) fun x2 =>
  mret x2
def fX15_down (g : Nat → Nat) (v0 : Option Nat) (v1 : Int32) : HM (Int32) :=
  mret 1
def fX16_down (g : Nat → Nat) (v0 : Option Nat) (v1 : Int32) : HM (Int32) :=
  mret v1
def fX17_down (g : Nat → Nat) (v0 : Option Nat) (v1 : Int32) : HM (Int32) :=
  mret (-1)
def fX18_down (g : Nat → Nat) (v0 : Option Nat) (v1 : Int32) : HM (Int32) :=
  mret v1
def fX9_chairDown (g : Nat → Nat) (v0 : Option Nat) (v1 : Int32) (v2 : Int32) : HM (Int32) :=
  mb (mcall0 (fX4_of g v2)) fun x1 =>
  mb (msd g x1 [(2, mcall0 (fX15_down g x1 v1)), (3, mcall0 (fX16_down g x1 v1)), (4, mcall0 (fX17_down g x1 v1)), (5, mcall0 (fX18_down g x1 v1))]) fun x2 =>
  mret x2
def fX3_isInHall_L81 (g : Nat → Nat) : Nat → Option Nat → Int32 → Int32 → HM (Int32)
  | 0, _, _, _ => mfail
  | n + 1, v0, v2, v3 =>
  if v2 ≤ v3 then
  (mretT .boolean 1)
  else
  (mb (oI 2 1 v0) fun x1 =>
  mb (oR 2 0 v0) fun x2 =>
  mb (oI 2 3 v0) fun x3 =>
  mb (mdsp x2 [(7, mcall0 (fX5_chairAcross g x2 v3 x3)), (6, mcall0 (fX6_chairAcross g x2 v3 x3)), (8, mcall0 (fX9_chairAcross g x2 v3 x3))]) fun x4 =>
  mb (oI 2 2 v0) fun x5 =>
  mb (oR 2 0 v0) fun x6 =>
  mb (oI 2 3 v0) fun x7 =>
  mb (mdsp x6 [(7, mcall0 (fX5_chairDown g x6 v3 x7)), (6, mcall0 (fX6_chairDown g x6 v3 x7)), (8, mcall0 (fX9_chairDown g x6 v3 x7))]) fun x8 =>
  mb (mcall0 (fX3_isInside g (x1 + x4) (x5 + x8))) fun x9 =>
  if x9 = 0 then
  (mretT .boolean 0)
  else
  (fX3_isInHall_L81 g n v0 v2 (v3 + 1)))
def fX3_isInHall_L12 (g : Nat → Nat) : Nat → Option Nat → Int32 → Int32 → (HM (Int32)) → HM (Int32)
  | 0, _, _, _, _ => mfail
  | n + 1, v0, v1, v2, K0 =>
  if v1 ≤ v2 then
  (K0)
  else
  (mb (oI 2 1 v0) fun x10 =>
  mb (oR 2 0 v0) fun x11 =>
  mb (oI 2 3 v0) fun x12 =>
  mb (mdsp x11 [(7, mcall0 (fX5_cellAcross g x11 v2 x12)), (6, mcall0 (fX6_cellAcross g x11 v2 x12)), (8, mcall0 (fX9_cellAcross g x11 v2 x12))]) fun x13 =>
  mb (oI 2 2 v0) fun x14 =>
  mb (oR 2 0 v0) fun x15 =>
  mb (oI 2 3 v0) fun x16 =>
  mb (mdsp x15 [(7, mcall0 (fX5_cellDown g x15 v2 x16)), (6, mcall0 (fX6_cellDown g x15 v2 x16)), (8, mcall0 (fX9_cellDown g x15 v2 x16))]) fun x17 =>
  mb (mcall0 (fX3_isInside g (x10 + x13) (x14 + x17))) fun x18 =>
  if x18 = 0 then
  (mretT .boolean 0)
  else
  (fX3_isInHall_L12 g n v0 v1 (v2 + 1) K0))
def fX3_isInHall (g : Nat → Nat) (v0 : Option Nat) : HM (Int32) :=
  mb (oR 2 0 v0) fun x19 =>
  mb (mdsp x19 [(7, mcall0 (fX5_cells g x19)), (6, mcall0 (fX6_cells g x19)), (8, mcall0 (fX9_cells g x19))]) fun x20 =>
  fX3_isInHall_L12 g 5000 v0 x20 0 (mb (oR 2 0 v0) fun x21 =>
  mb (mdsp x21 [(7, mcall0 (fX5_chairs g x21)), (6, mcall0 (fX6_chairs g x21)), (8, mcall0 (fX9_chairs g x21))]) fun x22 =>
  fX3_isInHall_L81 g 5000 v0 x22 0)
def fX3_cell (g : Nat → Nat) (v0 : Option Nat) (v1 : Int32) : HM (Int32) :=
  mb (oI 2 2 v0) fun x1 =>
  mb (oR 2 0 v0) fun x2 =>
  mb (oI 2 3 v0) fun x3 =>
  mb (mdsp x2 [(7, mcall0 (fX5_cellDown g x2 v1 x3)), (6, mcall0 (fX6_cellDown g x2 v1 x3)), (8, mcall0 (fX9_cellDown g x2 v1 x3))]) fun x4 =>
  mb (oI 2 1 v0) fun x5 =>
  mb (oR 2 0 v0) fun x6 =>
  mb (oI 2 3 v0) fun x7 =>
  mb (mdsp x6 [(7, mcall0 (fX5_cellAcross g x6 v1 x7)), (6, mcall0 (fX6_cellAcross g x6 v1 x7)), (8, mcall0 (fX9_cellAcross g x6 v1 x7))]) fun x8 =>
  mret (((16 * (x1 + x4)) + x5) + x8)
def fX3_chair (g : Nat → Nat) (v0 : Option Nat) (v1 : Int32) : HM (Int32) :=
  mb (oI 2 2 v0) fun x1 =>
  mb (oR 2 0 v0) fun x2 =>
  mb (oI 2 3 v0) fun x3 =>
  mb (mdsp x2 [(7, mcall0 (fX5_chairDown g x2 v1 x3)), (6, mcall0 (fX6_chairDown g x2 v1 x3)), (8, mcall0 (fX9_chairDown g x2 v1 x3))]) fun x4 =>
  mb (oI 2 1 v0) fun x5 =>
  mb (oR 2 0 v0) fun x6 =>
  mb (oI 2 3 v0) fun x7 =>
  mb (mdsp x6 [(7, mcall0 (fX5_chairAcross g x6 v1 x7)), (6, mcall0 (fX6_chairAcross g x6 v1 x7)), (8, mcall0 (fX9_chairAcross g x6 v1 x7))]) fun x8 =>
  mret (((16 * (x1 + x4)) + x5) + x8)
def fJ0_init (g : Nat → Nat) (v0 : Option Nat) : HM (Unit) :=
  mb (mnn v0) fun _ =>
  mret ()
def fJ1_init (g : Nat → Nat) (v0 : Option Nat) : HM (Unit) :=
  mb (mnn v0) fun _ => mb (mcall0 (fJ0_init g v0)) fun _ =>
  mb (pI 13 0 v0 0) fun _ =>
  mret ()
def fJ2_init (g : Nat → Nat) (v0 : Option Nat) : HM (Unit) :=
  mb (mnn v0) fun _ => mb (mcall0 (fJ1_init g v0)) fun _ =>
  mb (pR 13 1 v0 (some ( g 0))) fun _ =>
  mret ()
def fJ2_size (g : Nat → Nat) (v0 : Option Nat) : HM (Int32) :=
  mb (oI 13 2 v0) fun x1 =>
  mret x1
def fJ8_checkIndex (g : Nat → Nat) (v0 : Int32) (v1 : Int32) (v2 : Option Nat) : HM (Int32) :=
  mjn0 (mfail) fun j9 =>
  if v0 < 0 then
  (j9)
  else
  (if v0 < v1 then
  (mret v0)
  else
  (j9))
def fJ7_checkIndex (g : Nat → Nat) (v0 : Int32) (v1 : Int32) : HM (Int32) :=
  mb (mcall0 (fJ8_checkIndex g v0 v1 none)) fun x1 =>
  mret x1
def fJ2_elementData (g : Nat → Nat) (v0 : Option Nat) (v1 : Int32) : HM (Option Nat) :=
  mb (oR 13 1 v0) fun x1 =>
  mb (aQ x1 v1) fun x2 =>
  mret x2
def fJ2_get (g : Nat → Nat) (v0 : Option Nat) (v1 : Int32) : HM (Option Nat) :=
  mb (oI 13 2 v0) fun x1 =>
  mb (mcall0 (fJ7_checkIndex g v1 x1)) fun x2 =>
  mb (mon 13 v0 (mcall0 (fJ2_elementData g v0 v1))) fun x3 =>
  mret x3
def fJ31_max (g : Nat → Nat) (v0 : Int32) (v1 : Int32) : HM (Int32) :=
  if v0 < v1 then
  (mret v1)
  else
  (mret v0)
def fJ32_newLength (g : Nat → Nat) (v0 : Int32) (v1 : Int32) (v2 : Int32) : HM (Int32) :=
  mb (mcall0 (fJ31_max g v1 v2)) fun x1 =>
  mjn0 (mfail) fun j21 =>
  if (v0 + x1) ≤ (0 : Int32) then
  (j21)
  else
  (if 2147483639 < (v0 + x1) then
  (j21)
  else
  (mret (v0 + x1)))
def fJ31_min (g : Nat → Nat) (v0 : Int32) (v1 : Int32) : HM (Int32) :=
  if v1 < v0 then
  (mret v1)
  else
  (mret v0)
def fJ30_copyOf_3 (g : Nat → Nat) (v0 : Option Nat) (v1 : Int32) (v2 : Option Nat) : HM (Option Nat) :=
  mjn (fun (x1 : Option Nat) =>
  mb (aN g v0) fun x2 =>
  mb (mcall0 (fJ31_min g x2 v1)) fun x3 =>
  mb (mcpQ v0 0 x1 0 x3) fun _ =>
  mret x1) fun j24 =>
  if v2 = (some ( g 12)) then
  (mb (nA 23 4 v1) fun x4 =>
  j24 x4)
  else
  (mfail)
def fJ30_copyOf_2 (g : Nat → Nat) (v0 : Option Nat) (v1 : Int32) : HM (Option Nat) :=
  mb (mgc g v0) fun x1 =>
  mb (mcall 23 23 (fJ30_copyOf_3 g v0 v1 x1)) fun x2 =>
  mret x2
def fJ2_grow_2 (g : Nat → Nat) (v0 : Option Nat) (v1 : Int32) : HM (Option Nat) :=
  mb (oR 13 1 v0) fun x1 =>
  mb (aN g x1) fun x2 =>
  mjn0 (  mb (mcall0 (fJ32_newLength g x2 (v1 - x2) (ishr x2 1))) fun x3 =>
  mb (oR 13 1 v0) fun x4 =>
  mb (mcall 34 23 (fJ30_copyOf_2 g x4 x3)) fun x5 =>
  mb (pR 13 1 v0 x5) fun _ =>
  mret x5) fun j20 =>
  if 0 < x2 then
  (j20)
  else
  (mb (oR 13 1 v0) fun x6 =>
  if x6 = (some ( g 0)) then
  (mb (mcall0 (fJ31_max g 10 v1)) fun x7 =>
  mb (nA 34 4 x7) fun x8 =>
  mb (pR 13 1 v0 x8) fun _ =>
  mret x8)
  else
  (j20))
def fJ2_grow (g : Nat → Nat) (v0 : Option Nat) : HM (Option Nat) :=
  mb (oI 13 2 v0) fun x1 =>
  mb (mon 13 v0 (mcall 34 34 (fJ2_grow_2 g v0 (x1 + 1)))) fun x2 =>
  mret x2
def fJ2_add_2 (g : Nat → Nat) (v0 : Option Nat) (v1 : Option Nat) (v2 : Option Nat) (v3 : Int32) : HM (Unit) :=
  mb (aN g v2) fun x1 =>
  mjn (fun (x2 : Option Nat) =>
  mb (sQ x2 v3 v1) fun _ =>
  mb (pI 13 2 v0 (v3 + 1)) fun _ =>
  mret ()) fun j11 =>
  if v3 = x1 then
  (mb (mon 13 v0 (mcall 34 34 (fJ2_grow g v0))) fun x3 =>
  j11 x3)
  else
  (j11 v2)
def fJ2_add (g : Nat → Nat) (v0 : Option Nat) (v1 : Option Nat) : HM (Int32) :=
  mb (oI 13 0 v0) fun x1 =>
  mb (pI 13 0 v0 (x1 + 1)) fun _ =>
  mb (oR 13 1 v0) fun x2 =>
  mb (oI 13 2 v0) fun x3 =>
  mb (mon 13 v0 (mcall 34 34 (fJ2_add_2 g v0 v1 x2 x3))) fun _ =>
  mretT .boolean 1
def fJ2_fastRemove (g : Nat → Nat) (v0 : Option Nat) (v1 : Option Nat) (v2 : Int32) : HM (Unit) :=
  mb (oI 13 0 v0) fun x1 =>
  mb (pI 13 0 v0 (x1 + 1)) fun _ =>
  mb (oI 13 2 v0) fun x2 =>
  mjn0 (  mb (pI 13 2 v0 (x2 - 1)) fun _ =>
  mb (sQ v1 (x2 - 1) none) fun _ =>
  mret ()) fun j34 =>
  if (x2 - 1) ≤ v2 then
  (j34)
  else
  (mb (mcpQ v1 (v2 + 1) v1 v2 ((x2 - 1) - v2)) fun _ =>
  j34)
def fJ2_remove (g : Nat → Nat) (v0 : Option Nat) (v1 : Int32) : HM (Option Nat) :=
  mb (oI 13 2 v0) fun x1 =>
  mb (mcall0 (fJ7_checkIndex g v1 x1)) fun x2 =>
  mb (oR 13 1 v0) fun x3 =>
  mb (aQ x3 v1) fun x4 =>
  mb (mon 13 v0 (mcall0 (fJ2_fastRemove g v0 x3 v1))) fun _ =>
  mret x4
def fJ10_init (g : Nat → Nat) (v0 : Option Nat) : HM (Unit) :=
  mb (mnn v0) fun _ => mb (mcall0 (fJ0_init g v0)) fun _ =>
  mb (nA 18 4 17) fun x2 =>
  mb (pR 14 0 v0 x2) fun _ =>
  mret ()
def fJ10_sub (g : Nat → Nat) (v0 : Int32) (v1 : Int32) (v2 : Int32) : HM (Int32) :=
  if 0 ≤ (v0 - v1) then
  (mret (v0 - v1))
  else
  (mret ((v0 - v1) + v2))
def fJ10_size (g : Nat → Nat) (v0 : Option Nat) : HM (Int32) :=
  mb (oI 14 2 v0) fun x1 =>
  mb (oI 14 1 v0) fun x2 =>
  mb (oR 14 0 v0) fun x3 =>
  mb (aN g x3) fun x4 =>
  mb (mcall0 (fJ10_sub g x1 x2 x4)) fun x5 =>
  mret x5
def fJ10_isEmpty (g : Nat → Nat) (v0 : Option Nat) : HM (Int32) :=
  mb (oI 14 1 v0) fun x1 =>
  mb (oI 14 2 v0) fun x2 =>
  if x1 = x2 then
  (mretT .boolean 1)
  else
  (mretT .boolean 0)
def fJ10_inc (g : Nat → Nat) (v0 : Int32) (v1 : Int32) : HM (Int32) :=
  if (v0 + 1) < v1 then
  (mret (v0 + 1))
  else
  (mret 0)
def fJ10_newCapacity (g : Nat → Nat) (v0 : Option Nat) (v1 : Int32) (v2 : Int32) : HM (Int32) :=
  mb (oR 14 0 v0) fun x1 =>
  mb (aN g x1) fun x2 =>
  if ((x2 + v1) - 2147483639) ≤ 0 then
  (if v1 ≤ v2 then
  (if 0 ≤ ((x2 + v2) - 2147483639) then
  (mret 2147483639)
  else
  (mret (x2 + v2)))
  else
  (mret (x2 + v1)))
  else
  (if 0 ≤ (x2 + v1) then
  (mret 2147483647)
  else
  (mfail))
def fJ10_grow_L145 (g : Nat → Nat) : Nat → Option Nat → Int32 → Int32 → HM (Unit)
  | 0, _, _, _ => mfail
  | n + 1, v5, v7, v8 =>
  if v8 ≤ v7 then
  (mret ())
  else
  (mb (sQ v5 v7 none) fun _ =>
  fJ10_grow_L145 g n v5 (v7 + 1) v8)
def fJ10_grow (g : Nat → Nat) (v0 : Option Nat) (v1 : Int32) : HM (Unit) :=
  mb (oR 14 0 v0) fun x1 =>
  mb (aN g x1) fun x2 =>
  mjn (fun (x3 : Int32) =>
  mjn (fun (x4 : Int32) =>
  mb (oR 14 0 v0) fun x5 =>
  mb (mcall 23 23 (fJ30_copyOf_2 g x5 x4)) fun x6 =>
  mb (pR 14 0 v0 x6) fun _ =>
  mb (oI 14 2 v0) fun x7 =>
  mb (oI 14 1 v0) fun x8 =>
  mjn0 (  mb (oI 14 1 v0) fun x9 =>
  mb (oI 14 1 v0) fun x10 =>
  mb (oI 14 1 v0) fun x11 =>
  mb (mcpQ x6 x9 x6 (x10 + (x4 - x2)) (x2 - x11)) fun _ =>
  mb (oI 14 1 v0) fun x12 =>
  mb (oI 14 1 v0) fun x13 =>
  mb (pI 14 1 v0 (x13 + (x4 - x2))) fun _ =>
  fJ10_grow_L145 g 5000 x6 x12 (x13 + (x4 - x2)) ) fun j96 =>
  if x7 < x8 then
  (j96)
  else
  (mb (oI 14 2 v0) fun x14 =>
  mb (oI 14 1 v0) fun x15 =>
  if x14 = x15 then
  (mb (oI 14 1 v0) fun x16 =>
  mb (aQ x6 x16) fun x17 =>
  if x17 = none then
  (mret ())
  else
  (j96))
  else
  (mret ()))) fun j49 =>
  mjn0 (  mb (mon 14 v0 (mcall0 (fJ10_newCapacity g v0 v1 x3))) fun x18 =>
  j49 x18) fun j41 =>
  if x3 < v1 then
  (j41)
  else
  (if ((x2 + x3) - 2147483639) ≤ 0 then
  (j49 (x2 + x3))
  else
  (j41))) fun j21 =>
  if 64 ≤ x2 then
  (j21 (ishr x2 1))
  else
  (j21 (x2 + 2))
def fJ10_addLast (g : Nat → Nat) (v0 : Option Nat) (v1 : Option Nat) : HM (Unit) :=
  if v1 = none then
  (mfail)
  else
  (mb (oR 14 0 v0) fun x1 =>
  mb (oI 14 2 v0) fun x2 =>
  mb (sQ x1 x2 v1) fun _ =>
  mb (oI 14 1 v0) fun x3 =>
  mb (oI 14 2 v0) fun x4 =>
  mb (aN g x1) fun x5 =>
  mb (mcall0 (fJ10_inc g x4 x5)) fun x6 =>
  mb (pI 14 2 v0 x6) fun _ =>
  if x3 = x6 then
  (mb (mon 14 v0 (mcall 23 23 (fJ10_grow g v0 1))) fun _ =>
  mret ())
  else
  (mret ()))
def fJ10_elementAt (g : Nat → Nat) (v0 : Option Nat) (v1 : Int32) : HM (Option Nat) :=
  mb (aQ v0 v1) fun x1 =>
  mret x1
def fJ10_pollFirst (g : Nat → Nat) (v0 : Option Nat) : HM (Option Nat) :=
  mb (oR 14 0 v0) fun x1 =>
  mb (oI 14 1 v0) fun x2 =>
  mb (mcall0 (fJ10_elementAt g x1 x2)) fun x3 =>
  if x3 = none then
  (mret x3)
  else
  (mb (sQ x1 x2 none) fun _ =>
  mb (aN g x1) fun x4 =>
  mb (mcall0 (fJ10_inc g x2 x4)) fun x5 =>
  mb (pI 14 1 v0 x5) fun _ =>
  mret x3)
def fJ10_removeFirst (g : Nat → Nat) (v0 : Option Nat) : HM (Option Nat) :=
  mb (mon 14 v0 (mcall0 (fJ10_pollFirst g v0))) fun x1 =>
  if x1 = none then
  (mfail)
  else
  (mret x1)
def fJ10_dec (g : Nat → Nat) (v0 : Int32) (v1 : Int32) : HM (Int32) :=
  if 0 ≤ (v0 + (-1)) then
  (mret (v0 + (-1)))
  else
  (mret (v1 - 1))
def fJ10_pollLast (g : Nat → Nat) (v0 : Option Nat) : HM (Option Nat) :=
  mb (oR 14 0 v0) fun x1 =>
  mb (oI 14 2 v0) fun x2 =>
  mb (aN g x1) fun x3 =>
  mb (mcall0 (fJ10_dec g x2 x3)) fun x4 =>
  mb (mcall0 (fJ10_elementAt g x1 x4)) fun x5 =>
  if x5 = none then
  (mret x5)
  else
  (mb (pI 14 2 v0 x4) fun _ =>
  mb (sQ x1 x4 none) fun _ =>
  mret x5)
def fJ10_removeLast (g : Nat → Nat) (v0 : Option Nat) : HM (Option Nat) :=
  mb (mon 14 v0 (mcall0 (fJ10_pollLast g v0))) fun x1 =>
  if x1 = none then
  (mfail)
  else
  (mret x1)
def fJ11_init (g : Nat → Nat) (v0 : Option Nat) (v1 : Int32) : HM (Unit) :=
  mb (mnn v0) fun _ =>
  if (1 : Int32) = 0 then
  (mfail)
  else
  (mb (nA 17 2 v1) fun x1 =>
  mb (pR 15 0 v0 x1) fun _ =>
  mb (pB 15 1 v0 0) fun _ =>
  mret ())
def fJ12_init (g : Nat → Nat) (v0 : Option Nat) : HM (Unit) :=
  mb (mnn v0) fun _ => mb (mcall 17 17 (fJ11_init g v0 16)) fun _ =>
  mret ()
def fJ11_newCapacity (g : Nat → Nat) (v0 : Option Nat) (v1 : Int32) : HM (Int32) :=
  mb (oR 15 0 v0) fun x1 =>
  mb (aN g x1) fun x2 =>
  mb (oI 15 1 v0) fun x3 =>
  mb (oI 15 1 v0) fun x4 =>
  mb (mcall0 (fJ32_newLength g x2 ((ishl v1 x3) - x2) (x2 + (ishl 2 x4)))) fun x5 =>
  if x5 = 2147483647 then
  (mfail)
  else
  (mb (oI 15 1 v0) fun x6 =>
  mret (ishr x5 x6))
def fJ30_copyOf (g : Nat → Nat) (v0 : Option Nat) (v1 : Int32) : HM (Option Nat) :=
  mb (aN g v0) fun x1 =>
  if v1 = x1 then
  (mfail)
  else
  (mb (nA 51 2 v1) fun x2 =>
  mb (aN g v0) fun x3 =>
  mb (mcall0 (fJ31_min g x3 v1)) fun x4 =>
  mb (mcpI 2 v0 0 x2 0 x4) fun _ =>
  mret x2)
def fJ11_ensureCapacityInternal (g : Nat → Nat) (v0 : Option Nat) (v1 : Int32) : HM (Unit) :=
  mb (oR 15 0 v0) fun x1 =>
  mb (aN g x1) fun x2 =>
  mb (oI 15 1 v0) fun x3 =>
  if (v1 - (ishr x2 x3)) ≤ 0 then
  (mret ())
  else
  (mb (oR 15 0 v0) fun x4 =>
  mb (mon 15 v0 (mcall0 (fJ11_newCapacity g v0 v1))) fun x5 =>
  mb (oI 15 1 v0) fun x6 =>
  mb (mcall 51 51 (fJ30_copyOf g x4 (ishl x5 x6))) fun x7 =>
  mb (pR 15 0 v0 x7) fun _ =>
  mret ())
def fJ11_isLatin1 (g : Nat → Nat) (v0 : Option Nat) : HM (Int32) :=
  if (1 : Int32) = 0 then
  (mretT .boolean 0)
  else
  (mb (oI 15 1 v0) fun x1 =>
  if x1 = 0 then
  (mretT .boolean 1)
  else
  (mretT .boolean 0))
def fJ19_canEncode (g : Nat → Nat) (v0 : Int32) : HM (Int32) :=
  if 255 < v0 then
  (mretT .boolean 0)
  else
  (mretT .boolean 1)
def fJ11_append_3 (g : Nat → Nat) (v0 : Option Nat) (v1 : Int32) : HM (Option Nat) :=
  mb (oI 15 3 v0) fun x1 =>
  mb (mon 15 v0 (mcall 51 51 (fJ11_ensureCapacityInternal g v0 (x1 + 1)))) fun _ =>
  mb (mon 15 v0 (mcall0 (fJ11_isLatin1 g v0))) fun x2 =>
  mjn0 (  mb (mon 15 v0 (mcall0 (fJ11_isLatin1 g v0))) fun x3 =>
  mjn0 (  mb (oR 15 0 v0) fun x4 =>
  mb (oI 15 3 v0) fun x5 =>
  mb (pI 15 3 v0 (x5 + 1)) fun _ =>
mfail) fun j56 =>
  if x3 = 0 then
  (j56)
  else
  (mfail)) fun j45 =>
  if x2 = 0 then
  (j45)
  else
  (mb (mcall0 (fJ19_canEncode g v1)) fun x6 =>
  if x6 = 0 then
  (j45)
  else
  (mb (oR 15 0 v0) fun x7 =>
  mb (oI 15 3 v0) fun x8 =>
  mb (pI 15 3 v0 (x8 + 1)) fun _ =>
  mb (sB x7 x8 (v1.toInt8.toInt32)) fun _ =>
  mret v0))
def fJ12_append_3 (g : Nat → Nat) (v0 : Option Nat) (v1 : Int32) : HM (Option Nat) :=
  mb (mon 15 v0 (mcall 51 51 (fJ11_append_3 g v0 v1))) fun x1 =>
  mret v0
def fJ13_checkIndex (g : Nat → Nat) (v0 : Int32) (v1 : Int32) : HM (Unit) :=
  mb (mcall0 (fJ8_checkIndex g v0 v1 (some ( g 1)))) fun x1 =>
  mret ()
def fJ11_charAt (g : Nat → Nat) (v0 : Option Nat) (v1 : Int32) : HM (Int32) :=
  mb (oI 15 1 v0) fun x1 =>
  mb (oR 15 0 v0) fun x2 =>
  mb (oI 15 3 v0) fun x3 =>
  mb (aN g x2) fun x4 =>
  mb (mcall0 (fJ31_min g x3 (ishr x4 x1))) fun x5 =>
  mb (mcall0 (fJ13_checkIndex g v1 x5)) fun _ =>
  if x1 = 0 then
  (mb (aI 2 x2 v1) fun x6 =>
  mretT .char (i2c (x6 &&& 255)))
  else
  (mfail)
def fJ12_charAt (g : Nat → Nat) (v0 : Option Nat) (v1 : Int32) : HM (Int32) :=
  mb (mon 15 v0 (mcall0 (fJ11_charAt g v0 v1))) fun x1 =>
  mretT .char x1
def fJ11_length (g : Nat → Nat) (v0 : Option Nat) : HM (Int32) :=
  mb (oI 15 3 v0) fun x1 =>
  mret x1
def fJ12_length (g : Nat → Nat) (v0 : Option Nat) : HM (Int32) :=
  mb (mon 15 v0 (mcall0 (fJ11_length g v0))) fun x1 =>
  mret x1
def fJ30_rangeCheck (g : Nat → Nat) (v0 : Int32) (v1 : Int32) (v2 : Int32) : HM (Unit) :=
  if v1 ≤ v2 then
  (if 0 ≤ v1 then
  (if v2 ≤ v0 then
  (mret ())
  else
  (mfail))
  else
  (mfail))
  else
  (mfail)
def fJ30_fill_L10 (g : Nat → Nat) : Nat → Option Nat → Int32 → Int32 → Int32 → HM (Unit)
  | 0, _, _, _, _ => mfail
  | n + 1, v0, v2, v3, v4 =>
  if v2 ≤ v4 then
  (mret ())
  else
  (mb (sB v0 v4 v3) fun _ =>
  fJ30_fill_L10 g n v0 v2 v3 (v4 + 1))
def fJ30_fill (g : Nat → Nat) (v0 : Option Nat) (v1 : Int32) (v2 : Int32) (v3 : Int32) : HM (Unit) :=
  mb (aN g v0) fun x1 =>
  mb (mcall0 (fJ30_rangeCheck g x1 v1 v2)) fun _ =>
  fJ30_fill_L10 g 5000 v0 v2 v3 v1 
def fJ19_fillNull (g : Nat → Nat) (v0 : Option Nat) (v1 : Int32) (v2 : Int32) : HM (Unit) :=
  mb (mcall0 (fJ30_fill g v0 v1 v2 0)) fun _ =>
  mret ()
def fJ11_setLength (g : Nat → Nat) (v0 : Option Nat) (v1 : Int32) : HM (Unit) :=
  if 0 ≤ v1 then
  (mb (mon 15 v0 (mcall 51 51 (fJ11_ensureCapacityInternal g v0 v1))) fun _ =>
  mb (oI 15 3 v0) fun x1 =>
  mjn0 (  mb (pI 15 3 v0 v1) fun _ =>
  mret ()) fun j76 =>
  if v1 ≤ x1 then
  (mb (oI 15 3 v0) fun x2 =>
  if x2 ≤ v1 then
  (j76)
  else
  (mb (pZ 15 2 v0 1) fun _ =>
  j76))
  else
  (mb (mon 15 v0 (mcall0 (fJ11_isLatin1 g v0))) fun x3 =>
  if x3 = 0 then
  (mb (oR 15 0 v0) fun x4 =>
  mb (oI 15 3 v0) fun x5 =>
mfail)
  else
  (mb (oR 15 0 v0) fun x6 =>
  mb (oI 15 3 v0) fun x7 =>
  mb (mcall0 (fJ19_fillNull g x6 x7 v1)) fun _ =>
  j76)))
  else
  (mfail)
def fJ12_setLength (g : Nat → Nat) (v0 : Option Nat) (v1 : Int32) : HM (Unit) :=
  mb (mon 15 v0 (mcall 51 51 (fJ11_setLength g v0 v1))) fun _ =>
  mret ()
def fJ11_getValue (g : Nat → Nat) (v0 : Option Nat) : HM (Option Nat) :=
  mb (oR 15 0 v0) fun x1 =>
  mret x1
def fJ30_checkLength (g : Nat → Nat) (v0 : Int32) (v1 : Int32) : HM (Unit) :=
  if v0 ≤ v1 then
  (mret ())
  else
  (mfail)
def fJ30_copyOfRangeByte (g : Nat → Nat) (v0 : Option Nat) (v1 : Int32) (v2 : Int32) : HM (Option Nat) :=
  mb (mcall0 (fJ30_checkLength g v1 v2)) fun _ =>
  mb (nA 27 2 (v2 - v1)) fun x1 =>
  mb (aN g v0) fun x2 =>
  mb (mcall0 (fJ31_min g (x2 - v1) (v2 - v1))) fun x3 =>
  mb (mcpI 2 v0 v1 x1 0 x3) fun _ =>
  mret x1
def fJ30_copyOfRange (g : Nat → Nat) (v0 : Option Nat) (v1 : Int32) (v2 : Int32) : HM (Option Nat) :=
  mjn0 (  mb (mcall 27 27 (fJ30_copyOfRangeByte g v0 v1 v2)) fun x1 =>
  mret x1) fun j10 =>
  if v1 = 0 then
  (mb (aN g v0) fun x2 =>
  if v2 = x2 then
  (mfail)
  else
  (j10))
  else
  (j10)
def fJ13_init_2 (g : Nat → Nat) (v0 : Option Nat) (v1 : Option Nat) (v2 : Option Nat) : HM (Unit) :=
  mb (mnn v0) fun _ =>
  mb (mon 15 v1 (mcall0 (fJ11_getValue g v1))) fun x1 =>
  mb (mon 15 v1 (mcall0 (fJ12_length g v1))) fun x2 =>
  mb (mon 15 v1 (mcall0 (fJ11_isLatin1 g v1))) fun x3 =>
  if x3 = 0 then
  (mjn0 (  mb (pB 16 1 v0 1) fun _ =>
  mb (mcall 54 27 (fJ30_copyOfRange g x1 0 (ishl x2 1))) fun x4 =>
  mb (pR 16 0 v0 x4) fun _ =>
  mret ()) fun j79 =>
  if (1 : Int32) = 0 then
  (j79)
  else
  (mb (oI 15 2 v1) fun x5 =>
  if x5 = 0 then
  (j79)
  else
  (mfail)))
  else
  (mb (pB 16 1 v0 0) fun _ =>
  mb (mcall 54 27 (fJ30_copyOfRange g x1 0 x2)) fun x6 =>
  mb (pR 16 0 v0 x6) fun _ =>
  mret ())
def fJ13_init (g : Nat → Nat) (v0 : Option Nat) (v1 : Option Nat) : HM (Unit) :=
  mb (mnn v0) fun _ => mb (mcall 54 54 (fJ13_init_2 g v0 v1 none)) fun _ =>
  mret ()
def fJ12_toString (g : Nat → Nat) (v0 : Option Nat) : HM (Option Nat) :=
  mb (nO 59 16 [.null, .int 0, .int 0, .int 0]) fun x1 =>
  mb (mnn x1) fun _ => mb (mcall 59 54 (fJ13_init g x1 v0)) fun _ =>
  mret x1
def fJ13_coder (g : Nat → Nat) (v0 : Option Nat) : HM (Int32) :=
  if (1 : Int32) = 0 then
  (mretT .byte 1)
  else
  (mb (oI 16 1 v0) fun x1 =>
  mretT .byte x1)
def fJ13_length (g : Nat → Nat) (v0 : Option Nat) : HM (Int32) :=
  mb (oR 16 0 v0) fun x1 =>
  mb (aN g x1) fun x2 =>
  mb (mon 16 v0 (mcall0 (fJ13_coder g v0))) fun x3 =>
  mret (ishr x2 x3)
def fJ13_isLatin1 (g : Nat → Nat) (v0 : Option Nat) : HM (Int32) :=
  if (1 : Int32) = 0 then
  (mretT .boolean 0)
  else
  (mb (oI 16 1 v0) fun x1 =>
  if x1 = 0 then
  (mretT .boolean 1)
  else
  (mretT .boolean 0))
def fJ19_charAt (g : Nat → Nat) (v0 : Option Nat) (v1 : Int32) : HM (Int32) :=
  mb (aN g v0) fun x1 =>
  mb (mcall0 (fJ13_checkIndex g v1 x1)) fun _ =>
  mb (aI 2 v0 v1) fun x2 =>
  mretT .char (i2c (x2 &&& 255))
def fJ13_charAt (g : Nat → Nat) (v0 : Option Nat) (v1 : Int32) : HM (Int32) :=
  mb (mon 16 v0 (mcall0 (fJ13_isLatin1 g v0))) fun x1 =>
  if x1 = 0 then
  (mb (oR 16 0 v0) fun x2 =>
mfail)
  else
  (mb (oR 16 0 v0) fun x3 =>
  mb (mcall0 (fJ19_charAt g x3 v1)) fun x4 =>
  mretT .char x4)
def fX8_init (g : Nat → Nat) (v0 : Option Nat) (v1 : Int32) (v2 : Option Nat) (v3 : Int32) : HM (Unit) :=
  mb (mnn v0) fun _ =>
  mb (pI 3 3 v0 (-1)) fun _ =>
  mb (pI 3 4 v0 (-1)) fun _ =>
  mb (pI 3 0 v0 v1) fun _ =>
  mb (pR 3 1 v0 v2) fun _ =>
  mb (pI 3 2 v0 v3) fun _ =>
  mret ()
def fX8_copy (g : Nat → Nat) (v0 : Option Nat) : HM (Option Nat) :=
  mb (nO 6 3 [.int 0, .null, .int 0, .int 0, .int 0]) fun x1 =>
  mb (oI 3 0 v0) fun x2 =>
  mb (oR 3 1 v0) fun x3 =>
  mb (oI 3 2 v0) fun x4 =>
  mb (mnn x1) fun _ => mb (mcall0 (fX8_init g x1 x2 x3 x4)) fun _ =>
  mb (oI 3 3 v0) fun x6 =>
  mb (pI 3 3 x1 x6) fun _ =>
  mb (oI 3 4 v0) fun x7 =>
  mb (pI 3 4 x1 x7) fun _ =>
  mret x1
def fX8_sits (g : Nat → Nat) (v0 : Option Nat) : HM (Int32) :=
  mb (oI 3 3 v0) fun x1 =>
  if x1 = (-1) then
  (mretT .boolean 0)
  else
  (mretT .boolean 1)
def fX8_width (g : Nat → Nat) (v0 : Int32) : HM (Int32) :=
  if v0 = 32 then
  (mret 2)
  else
  if v0 = 102 then
  (mret 3)
  else
  if v0 = 105 then
  (mret 2)
  else
  if v0 = 106 then
  (mret 2)
  else
  if v0 = 108 then
  (mret 2)
  else
  if v0 = 109 then
  (mret 6)
  else
  if v0 = 114 then
  (mret 3)
  else
  if v0 = 116 then
  (mret 3)
  else
  if v0 = 119 then
  (mret 6)
  else
  (mret 4)
def fX8_nameWidth_L12 (g : Nat → Nat) : Nat → Option Nat → Int32 → Int32 → Int32 → HM (Int32)
  | 0, _, _, _, _ => mfail
  | n + 1, v0, v1, v2, v3 =>
  if v2 ≤ v3 then
  (mret v1)
  else
  (mb (oR 3 1 v0) fun x1 =>
  mb (mon 16 x1 (mcall0 (fJ13_charAt g x1 v3))) fun x2 =>
  mb (mcall0 (fX8_width g x2)) fun x3 =>
  fX8_nameWidth_L12 g n v0 (v1 + x3) v2 (v3 + 1))
def fX8_nameWidth (g : Nat → Nat) (v0 : Option Nat) : HM (Int32) :=
  mb (oR 3 1 v0) fun x4 =>
  mb (mon 16 x4 (mcall0 (fJ13_length g x4))) fun x5 =>
  fX8_nameWidth_L12 g 5000 v0 0 x5 0 
def fX11_init (g : Nat → Nat) (v0 : Option Nat) : HM (Unit) :=
  mb (mnn v0) fun _ =>
  mret ()
def fX11_compare_2_L38 (g : Nat → Nat) : Nat → Option Nat → Option Nat → Int32 → Int32 → (HM (Int32)) → (Int32 → HM (Int32)) → HM (Int32)
  | 0, _, _, _, _, _, _ => mfail
  | n + 1, v1, v2, v3, v4, K0, K1 =>
  if v3 ≤ v4 then
  (K0)
  else
  (mb (oR 3 1 v1) fun x1 =>
  mb (mon 16 x1 (mcall0 (fJ13_charAt g x1 v4))) fun x2 =>
  mb (oR 3 1 v2) fun x3 =>
  mb (mon 16 x3 (mcall0 (fJ13_charAt g x3 v4))) fun x4 =>
  if x2 = x4 then
  (fX11_compare_2_L38 g n v1 v2 v3 (v4 + 1) K0 K1)
  else
  (K1 v4))
def fX11_compare_2 (g : Nat → Nat) (v0 : Option Nat) (v1 : Option Nat) (v2 : Option Nat) : HM (Int32) :=
  mb (oR 3 1 v1) fun x5 =>
  mb (mon 16 x5 (mcall0 (fJ13_length g x5))) fun x6 =>
  mb (oR 3 1 v2) fun x7 =>
  mb (mon 16 x7 (mcall0 (fJ13_length g x7))) fun x8 =>
  mjn (fun (x9 : Int32) =>
  fX11_compare_2_L38 g 5000 v1 v2 x9 0 (mb (oR 3 1 v1) fun x10 =>
  mb (mon 16 x10 (mcall0 (fJ13_length g x10))) fun x11 =>
  mb (oR 3 1 v2) fun x12 =>
  mb (mon 16 x12 (mcall0 (fJ13_length g x12))) fun x13 =>
  if (x11 - x13) = 0 then
  (mb (oI 3 0 v1) fun x14 =>
  mb (oI 3 0 v2) fun x15 =>
  mret (x14 - x15))
  else
  (mret (x11 - x13))) (fun (x16 : Int32) =>
  mb (oR 3 1 v1) fun x17 =>
  mb (mon 16 x17 (mcall0 (fJ13_charAt g x17 x16))) fun x18 =>
  mb (oR 3 1 v2) fun x19 =>
  mb (mon 16 x19 (mcall0 (fJ13_charAt g x19 x16))) fun x20 =>
  mret (x18 - x20))) fun j34 =>
  if x8 ≤ x6 then
  (mb (oR 3 1 v2) fun x21 =>
  mb (mon 16 x21 (mcall0 (fJ13_length g x21))) fun x22 =>
  j34 x22)
  else
  (mb (oR 3 1 v1) fun x23 =>
  mb (mon 16 x23 (mcall0 (fJ13_length g x23))) fun x24 =>
  j34 x24)
def fX11_compare (g : Nat → Nat) (v0 : Option Nat) (v1 : Option Nat) (v2 : Option Nat) : HM (Int32) :=
  mb (mcst [3] v1) fun _ =>
  mb (mcst [3] v2) fun _ =>
  mb (mon 9 v0 (mcall0 (fX11_compare_2 g v0 v1 v2))) fun x1 =>
  mret x1
def fX12_init (g : Nat → Nat) (v0 : Option Nat) : HM (Unit) :=
  mb (mnn v0) fun _ =>
  mret ()
def fX12_compare_2 (g : Nat → Nat) (v0 : Option Nat) (v1 : Option Nat) (v2 : Option Nat) : HM (Int32) :=
  mb (oI 5 1 v1) fun x1 =>
  mb (oI 5 1 v2) fun x2 =>
  if x1 = x2 then
  (mb (oI 5 0 v1) fun x3 =>
  mb (oI 5 0 v2) fun x4 =>
  mret (x3 - x4))
  else
  (mb (oI 5 1 v1) fun x5 =>
  mb (oI 5 1 v2) fun x6 =>
  mret (x5 - x6))
def fX12_compare (g : Nat → Nat) (v0 : Option Nat) (v1 : Option Nat) (v2 : Option Nat) : HM (Int32) :=
  mb (mcst [5] v1) fun _ =>
  mb (mcst [5] v2) fun _ =>
  mb (mon 10 v0 (mcall0 (fX12_compare_2 g v0 v1 v2))) fun x1 =>
  mret x1
def fX13_init (g : Nat → Nat) (v0 : Option Nat) (v1 : Int32) (v2 : Int32) : HM (Unit) :=
  mb (mnn v0) fun _ =>
  mb (pI 5 0 v0 v1) fun _ =>
  mb (pI 5 1 v0 v2) fun _ =>
  mret ()
def fX10_init (g : Nat → Nat) (v0 : Option Nat) (v1 : Int32) (v2 : Int32) : HM (Unit) :=
  mb (mnn v0) fun _ =>
  mjn (fun (x1 : Int32) =>
  mb (pI 4 0 v0 x1) fun _ =>
  mjn (fun (x2 : Int32) =>
  mb (pI 4 1 v0 x2) fun _ =>
  mret ()) fun j29 =>
  if v2 ≤ v1 then
  (j29 v1)
  else
  (j29 v2)) fun j15 =>
  if v2 ≤ v1 then
  (j15 v2)
  else
  (j15 v1)
def fX10_compareTo_2 (g : Nat → Nat) (v0 : Option Nat) (v1 : Option Nat) : HM (Int32) :=
  mb (oI 4 0 v0) fun x1 =>
  mb (oI 4 0 v1) fun x2 =>
  if x1 = x2 then
  (mb (oI 4 1 v0) fun x3 =>
  mb (oI 4 1 v1) fun x4 =>
  mret (x3 - x4))
  else
  (mb (oI 4 0 v0) fun x5 =>
  mb (oI 4 0 v1) fun x6 =>
  mret (x5 - x6))
def fX10_compareTo (g : Nat → Nat) (v0 : Option Nat) (v1 : Option Nat) : HM (Int32) :=
  mb (mcst [4] v1) fun _ =>
  mb (mon 4 v0 (mcall0 (fX10_compareTo_2 g v0 v1))) fun x1 =>
  mret x1
def fJ33_init (g : Nat → Nat) (v0 : Option Nat) : HM (Unit) :=
  mb (mnn v0) fun _ => mb (mcall0 (fJ0_init g v0)) fun _ =>
  mret ()
def fJ34_init_2 (g : Nat → Nat) (v0 : Option Nat) (v1 : Int32) (v2 : Option Nat) : HM (Unit) :=
  mb (mnn v0) fun _ => mb (mcall0 (fJ33_init g v0)) fun _ =>
  if 1 ≤ v1 then
  (mb (nA 12 4 v1) fun x2 =>
  mb (pR 22 0 v0 x2) fun _ =>
  mb (pR 22 2 v0 v2) fun _ =>
  mret ())
  else
  (mfail)
def fJ34_grow (g : Nat → Nat) (v0 : Option Nat) (v1 : Int32) : HM (Unit) :=
  mb (oR 22 0 v0) fun x1 =>
  mb (aN g x1) fun x2 =>
  mjn (fun (x3 : Int32) =>
  mb (mcall0 (fJ32_newLength g x2 (v1 - x2) x3)) fun x4 =>
  mb (oR 22 0 v0) fun x5 =>
  mb (mcall 23 23 (fJ30_copyOf_2 g x5 x4)) fun x6 =>
  mb (pR 22 0 v0 x6) fun _ =>
  mret ()) fun j25 =>
  if 64 ≤ x2 then
  (j25 (ishr x2 1))
  else
  (j25 (x2 + 2))
def fJ34_siftUpUsingComparator_L0 (g : Nat → Nat) : Nat → Int32 → Option Nat → Option Nat → Option Nat → (Int32 → HM (Unit)) → (Int32 → HM (Unit)) → HM (Unit)
  | 0, _, _, _, _, _, _ => mfail
  | n + 1, v0, v1, v2, v3, K0, K1 =>
  if v0 ≤ 0 then
  (K0 v0)
  else
  (mb (aQ v2 (iushr (v0 - 1) 1)) fun x1 =>
  mb (mdsp v3 [(9, mcall0 (fX11_compare g v3 v1 x1)), (10, mcall0 (fX12_compare g v3 v1 x1))]) fun x2 =>
  if x2 < 0 then
  (mb (sQ v2 v0 x1) fun _ =>
  fJ34_siftUpUsingComparator_L0 g n (iushr (v0 - 1) 1) v1 v2 v3 K0 K1)
  else
  (K1 v0))
def fJ34_siftUpUsingComparator (g : Nat → Nat) (v0 : Int32) (v1 : Option Nat) (v2 : Option Nat) (v3 : Option Nat) : HM (Unit) :=
  fJ34_siftUpUsingComparator_L0 g 5000 v0 v1 v2 v3 (fun (x3 : Int32) =>
  mb (sQ v2 x3 v1) fun _ =>
  mret ()) (fun (x4 : Int32) =>
  mb (sQ v2 x4 v1) fun _ =>
  mret ())
def fJ34_siftUpComparable_L5 (g : Nat → Nat) : Nat → Int32 → Option Nat → Option Nat → (Int32 → HM (Unit)) → (Int32 → HM (Unit)) → HM (Unit)
  | 0, _, _, _, _, _ => mfail
  | n + 1, v0, v2, v3, K0, K1 =>
  if v0 ≤ 0 then
  (K0 v0)
  else
  (mb (aQ v2 (iushr (v0 - 1) 1)) fun x1 =>
  mb (mon 4 v3 (mcall0 (fX10_compareTo g v3 x1))) fun x2 =>
  if x2 < 0 then
  (mb (sQ v2 v0 x1) fun _ =>
  fJ34_siftUpComparable_L5 g n (iushr (v0 - 1) 1) v2 v3 K0 K1)
  else
  (K1 v0))
def fJ34_siftUpComparable (g : Nat → Nat) (v0 : Int32) (v1 : Option Nat) (v2 : Option Nat) : HM (Unit) :=
  mb (mcst [4, 15, 16, 23] v1) fun _ =>
  fJ34_siftUpComparable_L5 g 5000 v0 v2 v1 (fun (x3 : Int32) =>
  mb (sQ v2 x3 v1) fun _ =>
  mret ()) (fun (x4 : Int32) =>
  mb (sQ v2 x4 v1) fun _ =>
  mret ())
def fJ34_siftUp (g : Nat → Nat) (v0 : Option Nat) (v1 : Int32) (v2 : Option Nat) : HM (Unit) :=
  mb (oR 22 2 v0) fun x1 =>
  if x1 = none then
  (mb (oR 22 0 v0) fun x2 =>
  mb (mcall0 (fJ34_siftUpComparable g v1 v2 x2)) fun _ =>
  mret ())
  else
  (mb (oR 22 0 v0) fun x3 =>
  mb (oR 22 2 v0) fun x4 =>
  mb (mcall0 (fJ34_siftUpUsingComparator g v1 v2 x3 x4)) fun _ =>
  mret ())
def fJ34_offer (g : Nat → Nat) (v0 : Option Nat) (v1 : Option Nat) : HM (Int32) :=
  if v1 = none then
  (mfail)
  else
  (mb (oI 22 3 v0) fun x1 =>
  mb (pI 22 3 v0 (x1 + 1)) fun _ =>
  mb (oI 22 1 v0) fun x2 =>
  mb (oR 22 0 v0) fun x3 =>
  mb (aN g x3) fun x4 =>
  mjn0 (  mb (mon 22 v0 (mcall0 (fJ34_siftUp g v0 x2 v1))) fun _ =>
  mb (pI 22 1 v0 (x2 + 1)) fun _ =>
  mretT .boolean 1) fun j43 =>
  if x2 < x4 then
  (j43)
  else
  (mb (mon 22 v0 (mcall 23 23 (fJ34_grow g v0 (x2 + 1)))) fun _ =>
  j43))
def fJ34_add (g : Nat → Nat) (v0 : Option Nat) (v1 : Option Nat) : HM (Int32) :=
  mb (mon 22 v0 (mcall 23 23 (fJ34_offer g v0 v1))) fun x1 =>
  mretT .boolean x1
def fJ34_siftDownComparable_L11 (g : Nat → Nat) : Nat → Int32 → Option Nat → Int32 → Option Nat → Int32 → (Int32 → HM (Unit)) → (Int32 → HM (Unit)) → HM (Unit)
  | 0, _, _, _, _, _, _, _ => mfail
  | n + 1, v0, v2, v3, v4, v5, K0, K1 =>
  if v5 ≤ v0 then
  (K0 v0)
  else
  (mb (aQ v2 ((ishl v0 1) + 1)) fun x1 =>
  mjn2 (fun (x2 : Int32) (x3 : Option Nat) =>
  mb (mon 4 v4 (mcall0 (fX10_compareTo g v4 x3))) fun x4 =>
  if 0 < x4 then
  (mb (sQ v2 v0 x3) fun _ =>
  fJ34_siftDownComparable_L11 g n x2 v2 v3 v4 v5 K0 K1)
  else
  (K1 v0)) fun j68 =>
  if v3 ≤ (((ishl v0 1) + 1) + 1) then
  (j68 ((ishl v0 1) + 1) x1)
  else
  (mb (mcst [4, 15, 16, 23] x1) fun _ =>
  mb (aQ v2 (((ishl v0 1) + 1) + 1)) fun x5 =>
  mb (mon 4 x1 (mcall0 (fX10_compareTo g x1 x5))) fun x6 =>
  if x6 ≤ 0 then
  (j68 ((ishl v0 1) + 1) x1)
  else
  (mb (aQ v2 (((ishl v0 1) + 1) + 1)) fun x7 =>
  j68 (((ishl v0 1) + 1) + 1) x7)))
def fJ34_siftDownComparable (g : Nat → Nat) (v0 : Int32) (v1 : Option Nat) (v2 : Option Nat) (v3 : Int32) : HM (Unit) :=
  mb (mcst [4, 15, 16, 23] v1) fun _ =>
  fJ34_siftDownComparable_L11 g 5000 v0 v2 v3 v1 (iushr v3 1) (fun (x8 : Int32) =>
  mb (sQ v2 x8 v1) fun _ =>
  mret ()) (fun (x9 : Int32) =>
  mb (sQ v2 x9 v1) fun _ =>
  mret ())
def fJ34_siftDownUsingComparator_L5 (g : Nat → Nat) : Nat → Int32 → Option Nat → Option Nat → Int32 → Option Nat → Int32 → (Int32 → HM (Unit)) → (Int32 → HM (Unit)) → HM (Unit)
  | 0, _, _, _, _, _, _, _, _ => mfail
  | n + 1, v0, v1, v2, v3, v4, v5, K0, K1 =>
  if v5 ≤ v0 then
  (K0 v0)
  else
  (mb (aQ v2 ((ishl v0 1) + 1)) fun x1 =>
  mjn2 (fun (x2 : Int32) (x3 : Option Nat) =>
  mb (mdsp v4 [(9, mcall0 (fX11_compare g v4 v1 x3)), (10, mcall0 (fX12_compare g v4 v1 x3))]) fun x4 =>
  if 0 < x4 then
  (mb (sQ v2 v0 x3) fun _ =>
  fJ34_siftDownUsingComparator_L5 g n x2 v1 v2 v3 v4 v5 K0 K1)
  else
  (K1 v0)) fun j61 =>
  if v3 ≤ (((ishl v0 1) + 1) + 1) then
  (j61 ((ishl v0 1) + 1) x1)
  else
  (mb (aQ v2 (((ishl v0 1) + 1) + 1)) fun x5 =>
  mb (mdsp v4 [(9, mcall0 (fX11_compare g v4 x1 x5)), (10, mcall0 (fX12_compare g v4 x1 x5))]) fun x6 =>
  if x6 ≤ 0 then
  (j61 ((ishl v0 1) + 1) x1)
  else
  (mb (aQ v2 (((ishl v0 1) + 1) + 1)) fun x7 =>
  j61 (((ishl v0 1) + 1) + 1) x7)))
def fJ34_siftDownUsingComparator (g : Nat → Nat) (v0 : Int32) (v1 : Option Nat) (v2 : Option Nat) (v3 : Int32) (v4 : Option Nat) : HM (Unit) :=
  fJ34_siftDownUsingComparator_L5 g 5000 v0 v1 v2 v3 v4 (iushr v3 1) (fun (x8 : Int32) =>
  mb (sQ v2 x8 v1) fun _ =>
  mret ()) (fun (x9 : Int32) =>
  mb (sQ v2 x9 v1) fun _ =>
  mret ())
def fJ34_poll (g : Nat → Nat) (v0 : Option Nat) : HM (Option Nat) :=
  mb (oR 22 0 v0) fun x1 =>
  mb (aQ x1 0) fun x2 =>
  if x2 = none then
  (mret x2)
  else
  (mb (oI 22 3 v0) fun x3 =>
  mb (pI 22 3 v0 (x3 + 1)) fun _ =>
  mb (oI 22 1 v0) fun x4 =>
  mb (pI 22 1 v0 (x4 - 1)) fun _ =>
  mb (aQ x1 (x4 - 1)) fun x5 =>
  mb (sQ x1 (x4 - 1) none) fun _ =>
  if (x4 - 1) ≤ 0 then
  (mret x2)
  else
  (mb (oR 22 2 v0) fun x6 =>
  if x6 = none then
  (mb (mcall0 (fJ34_siftDownComparable g 0 x5 x1 (x4 - 1))) fun _ =>
  mret x2)
  else
  (mb (mcall0 (fJ34_siftDownUsingComparator g 0 x5 x1 (x4 - 1) x6)) fun _ =>
  mret x2)))
def fJ5_init (g : Nat → Nat) (v0 : Option Nat) : HM (Unit) :=
  mb (mnn v0) fun _ =>
  mret ()
def fJ6_init (g : Nat → Nat) (v0 : Option Nat) : HM (Unit) :=
  mb (mnn v0) fun _ => mb (mcall0 (fJ5_init g v0)) fun _ =>
  mb (pI 18 4 v0 0) fun _ =>
  mb (pI 18 5 v0 0) fun _ =>
  mb (pR 18 2 v0 none) fun _ =>
  mret ()
def fJ3_init (g : Nat → Nat) (v0 : Option Nat) : HM (Unit) :=
  mb (mnn v0) fun _ => mb (mcall0 (fJ0_init g v0)) fun _ =>
  mret ()
def fJ4_init_2 (g : Nat → Nat) (v0 : Option Nat) (v1 : Option Nat) : HM (Unit) :=
  mb (mnn v0) fun _ => mb (mcall0 (fJ3_init g v0)) fun _ =>
  mb (pR 17 0 v0 v1) fun _ =>
  mret ()
def fJ4_init (g : Nat → Nat) (v0 : Option Nat) : HM (Unit) :=
  mb (nO 10 18 [.null, .null, .null, .null, .int 0, .int 0, .null, .null, .null]) fun x1 =>
  mb (mnn x1) fun _ => mb (mcall0 (fJ6_init g x1)) fun _ =>
  mb (mnn v0) fun _ => mb (mcall0 (fJ4_init_2 g v0 x1)) fun _ =>
  mret ()
def fJ6_comparator (g : Nat → Nat) (v0 : Option Nat) : HM (Option Nat) :=
  mb (oR 18 2 v0) fun x1 =>
  mret x1
def fJ4_comparator (g : Nat → Nat) (v0 : Option Nat) : HM (Option Nat) :=
  mb (oR 17 0 v0) fun x1 =>
  mb (mon 18 x1 (mcall0 (fJ6_comparator g x1))) fun x2 =>
  mret x2
def fJ6_init_2 (g : Nat → Nat) (v0 : Option Nat) (v1 : Option Nat) : HM (Unit) :=
  mb (mnn v0) fun _ => mb (mcall0 (fJ5_init g v0)) fun _ =>
  mb (pI 18 4 v0 0) fun _ =>
  mb (pI 18 5 v0 0) fun _ =>
  mb (pR 18 2 v0 v1) fun _ =>
  mret ()
def fJ4_init_4 (g : Nat → Nat) (v0 : Option Nat) (v1 : Option Nat) : HM (Unit) :=
  mb (nO 10 18 [.null, .null, .null, .null, .int 0, .int 0, .null, .null, .null]) fun x1 =>
  mb (mnn x1) fun _ => mb (mcall0 (fJ6_init_2 g x1 v1)) fun _ =>
  mb (mnn v0) fun _ => mb (mcall0 (fJ4_init_2 g v0 x1)) fun _ =>
  mret ()
def fJ6_size (g : Nat → Nat) (v0 : Option Nat) : HM (Int32) :=
  mb (oI 18 4 v0) fun x1 =>
  mret x1
def fJ4_size (g : Nat → Nat) (v0 : Option Nat) : HM (Int32) :=
  mb (oR 17 0 v0) fun x1 =>
  mb (mon 18 x1 (mcall0 (fJ6_size g x1))) fun x2 =>
  mret x2
def fJ7_equals (g : Nat → Nat) (v0 : Option Nat) (v1 : Option Nat) : HM (Int32) :=
  if v0 = v1 then
  (mretT .boolean 1)
  else
  (if v0 = none then
  (mretT .boolean 0)
  else
  (mfail))
def fJ22_init (g : Nat → Nat) (v0 : Option Nat) (v1 : Option Nat) : HM (Unit) :=
  mb (mnn v0) fun _ => mb (mcall0 (fJ3_init g v0)) fun _ =>
  mb (pR 20 0 v0 v1) fun _ =>
  mret ()
def fJ6_navigableKeySet (g : Nat → Nat) (v0 : Option Nat) : HM (Option Nat) :=
  mb (oR 18 7 v0) fun x1 =>
  if x1 = none then
  (mb (nO 2 20 [.null]) fun x2 =>
  mb (mnn x2) fun _ => mb (mcall0 (fJ22_init g x2 v0)) fun _ =>
  mb (pR 18 7 v0 x2) fun _ =>
  mret x2)
  else
  (mret x1)
def fJ6_getFirstEntry_L9 (g : Nat → Nat) : Nat → Option Nat → HM (Option Nat)
  | 0, _ => mfail
  | n + 1, v1 =>
  mb (oR 19 2 v1) fun x1 =>
  if x1 = none then
  (mret v1)
  else
  (mb (oR 19 2 v1) fun x2 =>
  fJ6_getFirstEntry_L9 g n x2)
def fJ6_getFirstEntry (g : Nat → Nat) (v0 : Option Nat) : HM (Option Nat) :=
  mb (oR 18 3 v0) fun x3 =>
  if x3 = none then
  (mret x3)
  else
  (fJ6_getFirstEntry_L9 g 5000 x3)
def fJ20_init (g : Nat → Nat) (v0 : Option Nat) (v1 : Option Nat) (v2 : Option Nat) : HM (Unit) :=
  mb (pR 21 3 v0 v1) fun _ =>
  mb (mnn v0) fun _ =>
  mb (oI 18 5 v1) fun x1 =>
  mb (pI 21 2 v0 x1) fun _ =>
  mb (pR 21 1 v0 none) fun _ =>
  mb (pR 21 0 v0 v2) fun _ =>
  mret ()
def fJ21_init (g : Nat → Nat) (v0 : Option Nat) (v1 : Option Nat) (v2 : Option Nat) : HM (Unit) :=
  mb (mnn v0) fun _ => mb (mcall0 (fJ20_init g v0 v1 v2)) fun _ =>
  mret ()
def fJ6_keyIterator (g : Nat → Nat) (v0 : Option Nat) : HM (Option Nat) :=
  mb (nO 5 21 [.null, .null, .int 0, .null]) fun x1 =>
  mb (mon 18 v0 (mcall0 (fJ6_getFirstEntry g v0))) fun x2 =>
  mb (mnn x1) fun _ => mb (mcall0 (fJ21_init g x1 v0 x2)) fun _ =>
  mret x1
def fJ22_iterator (g : Nat → Nat) (v0 : Option Nat) : HM (Option Nat) :=
  mb (oR 20 0 v0) fun x1 =>
  mb (mins [18] [] x1) fun x2 =>
  if x2 = 0 then
  (mb (oR 20 0 v0) fun x3 =>
  mb (mcst [] x3) fun _ =>
mfail)
  else
  (mb (oR 20 0 v0) fun x4 =>
  mb (mcst [18] x4) fun _ =>
  mb (mon 18 x4 (mcall 5 5 (fJ6_keyIterator g x4))) fun x5 =>
  mret x5)
def fJ4_iterator (g : Nat → Nat) (v0 : Option Nat) : HM (Option Nat) :=
  mb (oR 17 0 v0) fun x1 =>
  mb (mon 18 x1 (mcall 7 2 (fJ6_navigableKeySet g x1))) fun x2 =>
  mb (mon 20 x2 (mcall 7 5 (fJ22_iterator g x2))) fun x3 =>
  mret x3
def fJ24_numberOfLeadingZeros (g : Nat → Nat) (v0 : Int32) : HM (Int32) :=
  if 0 < v0 then
  (mjn2 (fun (x1 : Int32) (x2 : Int32) =>
  mjn2 (fun (x3 : Int32) (x4 : Int32) =>
  mjn2 (fun (x5 : Int32) (x6 : Int32) =>
  mjn2 (fun (x7 : Int32) (x8 : Int32) =>
  mret (x8 - (iushr x7 1))) fun j73 =>
  if x5 < 4 then
  (j73 x5 x6)
  else
  (j73 (iushr x5 2) (x6 + (-2)))) fun j61 =>
  if x3 < 16 then
  (j61 x3 x4)
  else
  (j61 (iushr x3 4) (x4 + (-4)))) fun j48 =>
  if x1 < 256 then
  (j48 x1 x2)
  else
  (j48 (iushr x1 8) (x2 + (-8)))) fun j33 =>
  if v0 < 65536 then
  (j33 v0 31)
  else
  (j33 (iushr v0 16) (31 + (-16))))
  else
  (if v0 = 0 then
  (mret 32)
  else
  (mret 0))
def fJ6_computeRedLevel (g : Nat → Nat) (v0 : Int32) : HM (Int32) :=
  mb (mcall0 (fJ24_numberOfLeadingZeros g (v0 + 1))) fun x1 =>
  mret (31 - x1)
def fJ6_successor_L18 (g : Nat → Nat) : Nat → Option Nat → HM (Option Nat)
  | 0, _ => mfail
  | n + 1, v1 =>
  mb (oR 19 2 v1) fun x1 =>
  if x1 = none then
  (mret v1)
  else
  (mb (oR 19 2 v1) fun x2 =>
  fJ6_successor_L18 g n x2)
def fJ6_successor_L42 (g : Nat → Nat) : Nat → Option Nat → Option Nat → HM (Option Nat)
  | 0, _, _ => mfail
  | n + 1, v1, v2 =>
  if v1 = none then
  (mret v1)
  else
  (mb (oR 19 3 v1) fun x3 =>
  if v2 = x3 then
  (mb (oR 19 4 v1) fun x4 =>
  fJ6_successor_L42 g n x4 v1)
  else
  (mret v1))
def fJ6_successor (g : Nat → Nat) (v0 : Option Nat) : HM (Option Nat) :=
  if v0 = none then
  (mret none)
  else
  (mb (oR 19 3 v0) fun x5 =>
  if x5 = none then
  (mb (oR 19 4 v0) fun x6 =>
  fJ6_successor_L42 g 5000 x6 v0)
  else
  (mb (oR 19 3 v0) fun x7 =>
  fJ6_successor_L18 g 5000 x7))
def fJ20_nextEntry (g : Nat → Nat) (v0 : Option Nat) : HM (Option Nat) :=
  mb (oR 21 0 v0) fun x1 =>
  if x1 = none then
  (mfail)
  else
  (mb (oR 21 3 v0) fun x2 =>
  mb (oI 18 5 x2) fun x3 =>
  mb (oI 21 2 v0) fun x4 =>
  if x3 = x4 then
  (mb (mcall0 (fJ6_successor g x1)) fun x5 =>
  mb (pR 21 0 v0 x5) fun _ =>
  mb (pR 21 1 v0 x1) fun _ =>
  mret x1)
  else
  (mfail))
def fJ21_next (g : Nat → Nat) (v0 : Option Nat) : HM (Option Nat) :=
  mb (mon 21 v0 (mcall0 (fJ20_nextEntry g v0))) fun x1 =>
  mb (oR 19 0 x1) fun x2 =>
  mret x2
def fJ25_getKey (g : Nat → Nat) (v0 : Option Nat) : HM (Option Nat) :=
  mb (oR 19 0 v0) fun x1 =>
  mret x1
def fJ25_getValue (g : Nat → Nat) (v0 : Option Nat) : HM (Option Nat) :=
  mb (oR 19 1 v0) fun x1 =>
  mret x1
def fJ25_init (g : Nat → Nat) (v0 : Option Nat) (v1 : Option Nat) (v2 : Option Nat) (v3 : Option Nat) : HM (Unit) :=
  mb (mnn v0) fun _ =>
  mb (pZ 19 5 v0 1) fun _ =>
  mb (pR 19 0 v0 v1) fun _ =>
  mb (pR 19 1 v0 v2) fun _ =>
  mb (pR 19 4 v0 v3) fun _ =>
  mret ()
def fJ6_buildFromSorted_2_0 (g : Nat → Nat) (v0 : Option Nat) (v1 : Int32) (v2 : Int32) (v3 : Int32) (v4 : Int32) (v5 : Option Nat) (v6 : Option Nat) (v7 : Option Nat) : HM (Option Nat) :=
  if v2 ≤ v3 then
  (mjn (fun (x1 : Option Nat) =>
  mjn2 (fun (x2 : Option Nat) (x3 : Option Nat) =>
  mb (nO 7 19 [.null, .null, .null, .null, .null, .int 0]) fun x4 =>
  mb (mnn x4) fun _ => mb (mcall0 (fJ25_init g x4 x2 x3 none)) fun _ =>
  mjn0 (  mjn0 (  if v3 ≤ (iushr (v2 + v3) 1) then
  (mret x4)
  else
  (mfail)) fun j173 =>
  if x1 = none then
  (j173)
  else
  (mb (pR 19 2 x4 x1) fun _ =>
  mb (pR 19 4 x1 x4) fun _ =>
  j173)) fun j154 =>
  if v1 = v4 then
  (mb (pZ 19 5 x4 0) fun _ =>
  j154)
  else
  (j154)) fun j128 =>
  if v5 = none then
  (mfail)
  else
  (if v7 = none then
  (mb (mon 21 v5 (mcall0 (fJ21_next g v5))) fun x7 =>
  mb (mcst [19] x7) fun _ =>
  mb (mon 19 x7 (mcall0 (fJ25_getKey g x7))) fun x8 =>
  mb (mon 19 x7 (mcall0 (fJ25_getValue g x7))) fun x9 =>
  j128 x8 x9)
  else
  (mb (mon 21 v5 (mcall0 (fJ21_next g v5))) fun x6 =>
  j128 x6 v7))) fun j45 =>
  if (iushr (v2 + v3) 1) ≤ v2 then
  (j45 none)
  else
  (mfail))
  else
  (mret none)
def fJ6_buildFromSorted_2_1 (g : Nat → Nat) (v0 : Option Nat) (v1 : Int32) (v2 : Int32) (v3 : Int32) (v4 : Int32) (v5 : Option Nat) (v6 : Option Nat) (v7 : Option Nat) : HM (Option Nat) :=
  if v2 ≤ v3 then
  (mjn (fun (x1 : Option Nat) =>
  mjn2 (fun (x2 : Option Nat) (x3 : Option Nat) =>
  mb (nO 21 19 [.null, .null, .null, .null, .null, .int 0]) fun x4 =>
  mb (mnn x4) fun _ => mb (mcall0 (fJ25_init g x4 x2 x3 none)) fun _ =>
  mjn0 (  mjn0 (  if v3 ≤ (iushr (v2 + v3) 1) then
  (mret x4)
  else
  (mb (mon 18 v0 (mcall 21 7 (fJ6_buildFromSorted_2_0 g v0 (v1 + 1) ((iushr (v2 + v3) 1) + 1) v3 v4 v5 v6 v7))) fun x6 =>
  mb (pR 19 3 x4 x6) fun _ =>
  mb (pR 19 4 x6 x4) fun _ =>
  mret x4)) fun j173 =>
  if x1 = none then
  (j173)
  else
  (mb (pR 19 2 x4 x1) fun _ =>
  mb (pR 19 4 x1 x4) fun _ =>
  j173)) fun j154 =>
  if v1 = v4 then
  (mb (pZ 19 5 x4 0) fun _ =>
  j154)
  else
  (j154)) fun j128 =>
  if v5 = none then
  (mfail)
  else
  (if v7 = none then
  (mb (mon 21 v5 (mcall0 (fJ21_next g v5))) fun x8 =>
  mb (mcst [19] x8) fun _ =>
  mb (mon 19 x8 (mcall0 (fJ25_getKey g x8))) fun x9 =>
  mb (mon 19 x8 (mcall0 (fJ25_getValue g x8))) fun x10 =>
  j128 x9 x10)
  else
  (mb (mon 21 v5 (mcall0 (fJ21_next g v5))) fun x7 =>
  j128 x7 v7))) fun j45 =>
  if (iushr (v2 + v3) 1) ≤ v2 then
  (j45 none)
  else
  (mb (mon 18 v0 (mcall 21 7 (fJ6_buildFromSorted_2_0 g v0 (v1 + 1) v2 ((iushr (v2 + v3) 1) - 1) v4 v5 v6 v7))) fun x11 =>
  j45 x11))
  else
  (mret none)
def fJ6_buildFromSorted_2_2 (g : Nat → Nat) (v0 : Option Nat) (v1 : Int32) (v2 : Int32) (v3 : Int32) (v4 : Int32) (v5 : Option Nat) (v6 : Option Nat) (v7 : Option Nat) : HM (Option Nat) :=
  if v2 ≤ v3 then
  (mjn (fun (x1 : Option Nat) =>
  mjn2 (fun (x2 : Option Nat) (x3 : Option Nat) =>
  mb (nO 49 19 [.null, .null, .null, .null, .null, .int 0]) fun x4 =>
  mb (mnn x4) fun _ => mb (mcall0 (fJ25_init g x4 x2 x3 none)) fun _ =>
  mjn0 (  mjn0 (  if v3 ≤ (iushr (v2 + v3) 1) then
  (mret x4)
  else
  (mb (mon 18 v0 (mcall 49 21 (fJ6_buildFromSorted_2_1 g v0 (v1 + 1) ((iushr (v2 + v3) 1) + 1) v3 v4 v5 v6 v7))) fun x6 =>
  mb (pR 19 3 x4 x6) fun _ =>
  mb (pR 19 4 x6 x4) fun _ =>
  mret x4)) fun j173 =>
  if x1 = none then
  (j173)
  else
  (mb (pR 19 2 x4 x1) fun _ =>
  mb (pR 19 4 x1 x4) fun _ =>
  j173)) fun j154 =>
  if v1 = v4 then
  (mb (pZ 19 5 x4 0) fun _ =>
  j154)
  else
  (j154)) fun j128 =>
  if v5 = none then
  (mfail)
  else
  (if v7 = none then
  (mb (mon 21 v5 (mcall0 (fJ21_next g v5))) fun x8 =>
  mb (mcst [19] x8) fun _ =>
  mb (mon 19 x8 (mcall0 (fJ25_getKey g x8))) fun x9 =>
  mb (mon 19 x8 (mcall0 (fJ25_getValue g x8))) fun x10 =>
  j128 x9 x10)
  else
  (mb (mon 21 v5 (mcall0 (fJ21_next g v5))) fun x7 =>
  j128 x7 v7))) fun j45 =>
  if (iushr (v2 + v3) 1) ≤ v2 then
  (j45 none)
  else
  (mb (mon 18 v0 (mcall 49 21 (fJ6_buildFromSorted_2_1 g v0 (v1 + 1) v2 ((iushr (v2 + v3) 1) - 1) v4 v5 v6 v7))) fun x11 =>
  j45 x11))
  else
  (mret none)
def fJ6_buildFromSorted_2_3 (g : Nat → Nat) (v0 : Option Nat) (v1 : Int32) (v2 : Int32) (v3 : Int32) (v4 : Int32) (v5 : Option Nat) (v6 : Option Nat) (v7 : Option Nat) : HM (Option Nat) :=
  if v2 ≤ v3 then
  (mjn (fun (x1 : Option Nat) =>
  mjn2 (fun (x2 : Option Nat) (x3 : Option Nat) =>
  mb (nO 105 19 [.null, .null, .null, .null, .null, .int 0]) fun x4 =>
  mb (mnn x4) fun _ => mb (mcall0 (fJ25_init g x4 x2 x3 none)) fun _ =>
  mjn0 (  mjn0 (  if v3 ≤ (iushr (v2 + v3) 1) then
  (mret x4)
  else
  (mb (mon 18 v0 (mcall 105 49 (fJ6_buildFromSorted_2_2 g v0 (v1 + 1) ((iushr (v2 + v3) 1) + 1) v3 v4 v5 v6 v7))) fun x6 =>
  mb (pR 19 3 x4 x6) fun _ =>
  mb (pR 19 4 x6 x4) fun _ =>
  mret x4)) fun j173 =>
  if x1 = none then
  (j173)
  else
  (mb (pR 19 2 x4 x1) fun _ =>
  mb (pR 19 4 x1 x4) fun _ =>
  j173)) fun j154 =>
  if v1 = v4 then
  (mb (pZ 19 5 x4 0) fun _ =>
  j154)
  else
  (j154)) fun j128 =>
  if v5 = none then
  (mfail)
  else
  (if v7 = none then
  (mb (mon 21 v5 (mcall0 (fJ21_next g v5))) fun x8 =>
  mb (mcst [19] x8) fun _ =>
  mb (mon 19 x8 (mcall0 (fJ25_getKey g x8))) fun x9 =>
  mb (mon 19 x8 (mcall0 (fJ25_getValue g x8))) fun x10 =>
  j128 x9 x10)
  else
  (mb (mon 21 v5 (mcall0 (fJ21_next g v5))) fun x7 =>
  j128 x7 v7))) fun j45 =>
  if (iushr (v2 + v3) 1) ≤ v2 then
  (j45 none)
  else
  (mb (mon 18 v0 (mcall 105 49 (fJ6_buildFromSorted_2_2 g v0 (v1 + 1) v2 ((iushr (v2 + v3) 1) - 1) v4 v5 v6 v7))) fun x11 =>
  j45 x11))
  else
  (mret none)
def fJ6_buildFromSorted_2_4 (g : Nat → Nat) (v0 : Option Nat) (v1 : Int32) (v2 : Int32) (v3 : Int32) (v4 : Int32) (v5 : Option Nat) (v6 : Option Nat) (v7 : Option Nat) : HM (Option Nat) :=
  if v2 ≤ v3 then
  (mjn (fun (x1 : Option Nat) =>
  mjn2 (fun (x2 : Option Nat) (x3 : Option Nat) =>
  mb (nO 217 19 [.null, .null, .null, .null, .null, .int 0]) fun x4 =>
  mb (mnn x4) fun _ => mb (mcall0 (fJ25_init g x4 x2 x3 none)) fun _ =>
  mjn0 (  mjn0 (  if v3 ≤ (iushr (v2 + v3) 1) then
  (mret x4)
  else
  (mb (mon 18 v0 (mcall 217 105 (fJ6_buildFromSorted_2_3 g v0 (v1 + 1) ((iushr (v2 + v3) 1) + 1) v3 v4 v5 v6 v7))) fun x6 =>
  mb (pR 19 3 x4 x6) fun _ =>
  mb (pR 19 4 x6 x4) fun _ =>
  mret x4)) fun j173 =>
  if x1 = none then
  (j173)
  else
  (mb (pR 19 2 x4 x1) fun _ =>
  mb (pR 19 4 x1 x4) fun _ =>
  j173)) fun j154 =>
  if v1 = v4 then
  (mb (pZ 19 5 x4 0) fun _ =>
  j154)
  else
  (j154)) fun j128 =>
  if v5 = none then
  (mfail)
  else
  (if v7 = none then
  (mb (mon 21 v5 (mcall0 (fJ21_next g v5))) fun x8 =>
  mb (mcst [19] x8) fun _ =>
  mb (mon 19 x8 (mcall0 (fJ25_getKey g x8))) fun x9 =>
  mb (mon 19 x8 (mcall0 (fJ25_getValue g x8))) fun x10 =>
  j128 x9 x10)
  else
  (mb (mon 21 v5 (mcall0 (fJ21_next g v5))) fun x7 =>
  j128 x7 v7))) fun j45 =>
  if (iushr (v2 + v3) 1) ≤ v2 then
  (j45 none)
  else
  (mb (mon 18 v0 (mcall 217 105 (fJ6_buildFromSorted_2_3 g v0 (v1 + 1) v2 ((iushr (v2 + v3) 1) - 1) v4 v5 v6 v7))) fun x11 =>
  j45 x11))
  else
  (mret none)
def fJ6_buildFromSorted_2_5 (g : Nat → Nat) (v0 : Option Nat) (v1 : Int32) (v2 : Int32) (v3 : Int32) (v4 : Int32) (v5 : Option Nat) (v6 : Option Nat) (v7 : Option Nat) : HM (Option Nat) :=
  if v2 ≤ v3 then
  (mjn (fun (x1 : Option Nat) =>
  mjn2 (fun (x2 : Option Nat) (x3 : Option Nat) =>
  mb (nO 441 19 [.null, .null, .null, .null, .null, .int 0]) fun x4 =>
  mb (mnn x4) fun _ => mb (mcall0 (fJ25_init g x4 x2 x3 none)) fun _ =>
  mjn0 (  mjn0 (  if v3 ≤ (iushr (v2 + v3) 1) then
  (mret x4)
  else
  (mb (mon 18 v0 (mcall 441 217 (fJ6_buildFromSorted_2_4 g v0 (v1 + 1) ((iushr (v2 + v3) 1) + 1) v3 v4 v5 v6 v7))) fun x6 =>
  mb (pR 19 3 x4 x6) fun _ =>
  mb (pR 19 4 x6 x4) fun _ =>
  mret x4)) fun j173 =>
  if x1 = none then
  (j173)
  else
  (mb (pR 19 2 x4 x1) fun _ =>
  mb (pR 19 4 x1 x4) fun _ =>
  j173)) fun j154 =>
  if v1 = v4 then
  (mb (pZ 19 5 x4 0) fun _ =>
  j154)
  else
  (j154)) fun j128 =>
  if v5 = none then
  (mfail)
  else
  (if v7 = none then
  (mb (mon 21 v5 (mcall0 (fJ21_next g v5))) fun x8 =>
  mb (mcst [19] x8) fun _ =>
  mb (mon 19 x8 (mcall0 (fJ25_getKey g x8))) fun x9 =>
  mb (mon 19 x8 (mcall0 (fJ25_getValue g x8))) fun x10 =>
  j128 x9 x10)
  else
  (mb (mon 21 v5 (mcall0 (fJ21_next g v5))) fun x7 =>
  j128 x7 v7))) fun j45 =>
  if (iushr (v2 + v3) 1) ≤ v2 then
  (j45 none)
  else
  (mb (mon 18 v0 (mcall 441 217 (fJ6_buildFromSorted_2_4 g v0 (v1 + 1) v2 ((iushr (v2 + v3) 1) - 1) v4 v5 v6 v7))) fun x11 =>
  j45 x11))
  else
  (mret none)
def fJ6_buildFromSorted (g : Nat → Nat) (v0 : Option Nat) (v1 : Int32) (v2 : Option Nat) (v3 : Option Nat) (v4 : Option Nat) : HM (Unit) :=
  mb (pI 18 4 v0 v1) fun _ =>
  mb (mcall0 (fJ6_computeRedLevel g v1)) fun x1 =>
  mb (mon 18 v0 (mcall 441 441 (fJ6_buildFromSorted_2_5 g v0 0 0 (v1 - 1) x1 v2 v3 v4))) fun x2 =>
  mb (pR 18 3 v0 x2) fun _ =>
  mret ()
def fJ6_addAllForTreeSet (g : Nat → Nat) (v0 : Option Nat) (v1 : Option Nat) (v2 : Option Nat) : HM (Unit) :=
  mb (mon 17 v1 (mcall0 (fJ4_size g v1))) fun x1 =>
  mb (mon 17 v1 (mcall 448 7 (fJ4_iterator g v1))) fun x2 =>
  mb (mon 18 v0 (mcall 448 441 (fJ6_buildFromSorted g v0 x1 x2 none v2))) fun _ =>
  mret ()
def fJ20_hasNext (g : Nat → Nat) (v0 : Option Nat) : HM (Int32) :=
  mb (oR 21 0 v0) fun x1 =>
  if x1 = none then
  (mretT .boolean 0)
  else
  (mretT .boolean 1)
def fJ0_addAll_L9 (g : Nat → Nat) : Nat → Option Nat → Int32 → Option Nat → HM (Int32)
  | 0, _, _, _ => mfail
  | n + 1, v0, v2, v3 =>
  mb (mon 21 v3 (mcall0 (fJ20_hasNext g v3))) fun x1 =>
  if x1 = 0 then
  (mretT .boolean v2)
  else
  (mb (mon 21 v3 (mcall0 (fJ21_next g v3))) fun x2 =>
mfail)
def fJ0_addAll (g : Nat → Nat) (v0 : Option Nat) (v1 : Option Nat) : HM (Int32) :=
  mb (mon 17 v1 (mcall 7 7 (fJ4_iterator g v1))) fun x3 =>
  fJ0_addAll_L9 g 5000 v0 0 x3 
def fJ4_addAll (g : Nat → Nat) (v0 : Option Nat) (v1 : Option Nat) : HM (Int32) :=
  mb (oR 17 0 v0) fun x1 =>
  mb (mon 18 x1 (mcall0 (fJ6_size g x1))) fun x2 =>
  mjn0 (  mb (mon 17 v0 (mcall 455 7 (fJ0_addAll g v0 v1))) fun x3 =>
  mretT .boolean x3) fun j76 =>
  if x2 = 0 then
  (mb (mon 17 v1 (mcall0 (fJ4_size g v1))) fun x4 =>
  if x4 ≤ 0 then
  (j76)
  else
  (mb (mins [17, 20] [] v1) fun x5 =>
  if x5 = 0 then
  (j76)
  else
  (mb (oR 17 0 v0) fun x6 =>
  mb (mins [18] [] x6) fun x7 =>
  if x7 = 0 then
  (j76)
  else
  (mb (mcst [18] x6) fun _ =>
  mb (mcst [17, 20] v1) fun _ =>
  mb (mon 17 v1 (mcall0 (fJ4_comparator g v1))) fun x8 =>
  mb (mon 18 x6 (mcall0 (fJ6_comparator g x6))) fun x9 =>
  mb (mcall0 (fJ7_equals g x8 x9)) fun x10 =>
  if x10 = 0 then
  (j76)
  else
  (mb (mon 18 x6 (mcall 455 448 (fJ6_addAllForTreeSet g x6 v1 (some ( g 10))))) fun _ =>
  mretT .boolean 1)))))
  else
  (j76)
def fJ4_init_3 (g : Nat → Nat) (v0 : Option Nat) (v1 : Option Nat) : HM (Unit) :=
  mb (mon 17 v1 (mcall0 (fJ4_comparator g v1))) fun x1 =>
  mb (mnn v0) fun _ => mb (mcall 465 10 (fJ4_init_4 g v0 x1)) fun _ =>
  mb (mon 17 v0 (mcall 465 455 (fJ4_addAll g v0 v1))) fun x3 =>
  mret ()
def fJ6_compare (g : Nat → Nat) (v0 : Option Nat) (v1 : Option Nat) (v2 : Option Nat) : HM (Int32) :=
  mb (oR 18 2 v0) fun x1 =>
  if x1 = none then
  (mb (mcst [4, 15, 16, 23] v1) fun _ =>
  mb (mon 4 v1 (mcall0 (fX10_compareTo g v1 v2))) fun x4 =>
  mret x4)
  else
  (mb (oR 18 2 v0) fun x2 =>
  mb (mdsp x2 [(9, mcall0 (fX11_compare g x2 v1 v2)), (10, mcall0 (fX12_compare g x2 v1 v2))]) fun x3 =>
  mret x3)
def fJ6_addEntryToEmptyMap (g : Nat → Nat) (v0 : Option Nat) (v1 : Option Nat) (v2 : Option Nat) : HM (Unit) :=
  mb (mon 18 v0 (mcall0 (fJ6_compare g v0 v1 v1))) fun x1 =>
  mb (nO 7 19 [.null, .null, .null, .null, .null, .int 0]) fun x2 =>
  mb (mnn x2) fun _ => mb (mcall0 (fJ25_init g x2 v1 v2 none)) fun _ =>
  mb (pR 18 3 v0 x2) fun _ =>
  mb (pI 18 4 v0 1) fun _ =>
  mb (oI 18 5 v0) fun x4 =>
  mb (pI 18 5 v0 (x4 + 1)) fun _ =>
  mret ()
def fJ7_requireNonNull (g : Nat → Nat) (v0 : Option Nat) : HM (Option Nat) :=
  if v0 = none then
  (mfail)
  else
  (mret v0)
def fJ6_parentOf (g : Nat → Nat) (v0 : Option Nat) : HM (Option Nat) :=
  if v0 = none then
  (mret none)
  else
  (mb (oR 19 4 v0) fun x1 =>
  mret x1)
def fJ6_leftOf (g : Nat → Nat) (v0 : Option Nat) : HM (Option Nat) :=
  if v0 = none then
  (mret none)
  else
  (mb (oR 19 2 v0) fun x1 =>
  mret x1)
def fJ6_rightOf (g : Nat → Nat) (v0 : Option Nat) : HM (Option Nat) :=
  if v0 = none then
  (mret none)
  else
  (mb (oR 19 3 v0) fun x1 =>
  mret x1)
def fJ6_colorOf (g : Nat → Nat) (v0 : Option Nat) : HM (Int32) :=
  if v0 = none then
  (mretT .boolean 1)
  else
  (mb (oI 19 5 v0) fun x1 =>
  mretT .boolean x1)
def fJ6_setColor (g : Nat → Nat) (v0 : Option Nat) (v1 : Int32) : HM (Unit) :=
  if v0 = none then
  (mret ())
  else
  (mb (pZ 19 5 v0 v1) fun _ =>
  mret ())
def fJ6_rotateLeft (g : Nat → Nat) (v0 : Option Nat) (v1 : Option Nat) : HM (Unit) :=
  if v1 = none then
  (mret ())
  else
  (mb (oR 19 3 v1) fun x1 =>
  mb (oR 19 2 x1) fun x2 =>
  mb (pR 19 3 v1 x2) fun _ =>
  mb (oR 19 2 x1) fun x3 =>
  mjn0 (  mb (oR 19 4 v1) fun x4 =>
  mb (pR 19 4 x1 x4) fun _ =>
  mb (oR 19 4 v1) fun x5 =>
  mjn0 (  mb (pR 19 2 x1 v1) fun _ =>
  mb (pR 19 4 v1 x1) fun _ =>
  mret ()) fun j85 =>
  if x5 = none then
  (mb (pR 18 3 v0 x1) fun _ =>
  j85)
  else
  (mb (oR 19 4 v1) fun x6 =>
  mb (oR 19 2 x6) fun x7 =>
  if x7 = v1 then
  (mb (oR 19 4 v1) fun x9 =>
  mb (pR 19 2 x9 x1) fun _ =>
  j85)
  else
  (mb (oR 19 4 v1) fun x8 =>
  mb (pR 19 3 x8 x1) fun _ =>
  j85))) fun j32 =>
  if x3 = none then
  (j32)
  else
  (mb (oR 19 2 x1) fun x10 =>
  mb (pR 19 4 x10 v1) fun _ =>
  j32))
def fJ6_rotateRight (g : Nat → Nat) (v0 : Option Nat) (v1 : Option Nat) : HM (Unit) :=
  if v1 = none then
  (mret ())
  else
  (mb (oR 19 2 v1) fun x1 =>
  mb (oR 19 3 x1) fun x2 =>
  mb (pR 19 2 v1 x2) fun _ =>
  mb (oR 19 3 x1) fun x3 =>
  mjn0 (  mb (oR 19 4 v1) fun x4 =>
  mb (pR 19 4 x1 x4) fun _ =>
  mb (oR 19 4 v1) fun x5 =>
  mjn0 (  mb (pR 19 3 x1 v1) fun _ =>
  mb (pR 19 4 v1 x1) fun _ =>
  mret ()) fun j85 =>
  if x5 = none then
  (mb (pR 18 3 v0 x1) fun _ =>
  j85)
  else
  (mb (oR 19 4 v1) fun x6 =>
  mb (oR 19 3 x6) fun x7 =>
  if x7 = v1 then
  (mb (oR 19 4 v1) fun x9 =>
  mb (pR 19 3 x9 x1) fun _ =>
  j85)
  else
  (mb (oR 19 4 v1) fun x8 =>
  mb (pR 19 2 x8 x1) fun _ =>
  j85))) fun j32 =>
  if x3 = none then
  (j32)
  else
  (mb (oR 19 3 x1) fun x10 =>
  mb (pR 19 4 x10 v1) fun _ =>
  j32))
def fJ6_fixAfterInsertion_L5 (g : Nat → Nat) : Nat → Option Nat → Option Nat → (HM (Unit)) → HM (Unit)
  | 0, _, _, _ => mfail
  | n + 1, v0, v1, K0 =>
  if v1 = none then
  (K0)
  else
  (mb (oR 18 3 v0) fun x1 =>
  if v1 = x1 then
  (K0)
  else
  (mb (oR 19 4 v1) fun x2 =>
  mb (oI 19 5 x2) fun x3 =>
  if x3 = 0 then
  (mb (mcall0 (fJ6_parentOf g v1)) fun x4 =>
  mb (mcall0 (fJ6_parentOf g v1)) fun x5 =>
  mb (mcall0 (fJ6_parentOf g x5)) fun x6 =>
  mb (mcall0 (fJ6_leftOf g x6)) fun x7 =>
  if x4 = x7 then
  (mb (mcall0 (fJ6_parentOf g v1)) fun x26 =>
  mb (mcall0 (fJ6_parentOf g x26)) fun x27 =>
  mb (mcall0 (fJ6_rightOf g x27)) fun x28 =>
  mb (mcall0 (fJ6_colorOf g x28)) fun x29 =>
  if x29 = 0 then
  (mb (mcall0 (fJ6_parentOf g v1)) fun x39 =>
  mb (mcall0 (fJ6_setColor g x39 1)) fun _ =>
  mb (mcall0 (fJ6_setColor g x28 1)) fun _ =>
  mb (mcall0 (fJ6_parentOf g v1)) fun x40 =>
  mb (mcall0 (fJ6_parentOf g x40)) fun x41 =>
  mb (mcall0 (fJ6_setColor g x41 0)) fun _ =>
  mb (mcall0 (fJ6_parentOf g v1)) fun x42 =>
  mb (mcall0 (fJ6_parentOf g x42)) fun x43 =>
  fJ6_fixAfterInsertion_L5 g n v0 x43 K0)
  else
  (mb (mcall0 (fJ6_parentOf g v1)) fun x30 =>
  mb (mcall0 (fJ6_rightOf g x30)) fun x31 =>
  mjn (fun (x32 : Option Nat) =>
  mb (mcall0 (fJ6_parentOf g x32)) fun x33 =>
  mb (mcall0 (fJ6_setColor g x33 1)) fun _ =>
  mb (mcall0 (fJ6_parentOf g x32)) fun x34 =>
  mb (mcall0 (fJ6_parentOf g x34)) fun x35 =>
  mb (mcall0 (fJ6_setColor g x35 0)) fun _ =>
  mb (mcall0 (fJ6_parentOf g x32)) fun x36 =>
  mb (mcall0 (fJ6_parentOf g x36)) fun x37 =>
  mb (mon 18 v0 (mcall0 (fJ6_rotateRight g v0 x37))) fun _ =>
  fJ6_fixAfterInsertion_L5 g n v0 x32 K0) fun j118 =>
  if v1 = x31 then
  (mb (mcall0 (fJ6_parentOf g v1)) fun x38 =>
  mb (mon 18 v0 (mcall0 (fJ6_rotateLeft g v0 x38))) fun _ =>
  j118 x38)
  else
  (j118 v1)))
  else
  (mb (mcall0 (fJ6_parentOf g v1)) fun x8 =>
  mb (mcall0 (fJ6_parentOf g x8)) fun x9 =>
  mb (mcall0 (fJ6_leftOf g x9)) fun x10 =>
  mb (mcall0 (fJ6_colorOf g x10)) fun x11 =>
  if x11 = 0 then
  (mb (mcall0 (fJ6_parentOf g v1)) fun x21 =>
  mb (mcall0 (fJ6_setColor g x21 1)) fun _ =>
  mb (mcall0 (fJ6_setColor g x10 1)) fun _ =>
  mb (mcall0 (fJ6_parentOf g v1)) fun x22 =>
  mb (mcall0 (fJ6_parentOf g x22)) fun x23 =>
  mb (mcall0 (fJ6_setColor g x23 0)) fun _ =>
  mb (mcall0 (fJ6_parentOf g v1)) fun x24 =>
  mb (mcall0 (fJ6_parentOf g x24)) fun x25 =>
  fJ6_fixAfterInsertion_L5 g n v0 x25 K0)
  else
  (mb (mcall0 (fJ6_parentOf g v1)) fun x12 =>
  mb (mcall0 (fJ6_leftOf g x12)) fun x13 =>
  mjn (fun (x14 : Option Nat) =>
  mb (mcall0 (fJ6_parentOf g x14)) fun x15 =>
  mb (mcall0 (fJ6_setColor g x15 1)) fun _ =>
  mb (mcall0 (fJ6_parentOf g x14)) fun x16 =>
  mb (mcall0 (fJ6_parentOf g x16)) fun x17 =>
  mb (mcall0 (fJ6_setColor g x17 0)) fun _ =>
  mb (mcall0 (fJ6_parentOf g x14)) fun x18 =>
  mb (mcall0 (fJ6_parentOf g x18)) fun x19 =>
  mb (mon 18 v0 (mcall0 (fJ6_rotateLeft g v0 x19))) fun _ =>
  fJ6_fixAfterInsertion_L5 g n v0 x14 K0) fun j225 =>
  if v1 = x13 then
  (mb (mcall0 (fJ6_parentOf g v1)) fun x20 =>
  mb (mon 18 v0 (mcall0 (fJ6_rotateRight g v0 x20))) fun _ =>
  j225 x20)
  else
  (j225 v1))))
  else
  (K0)))
def fJ6_fixAfterInsertion (g : Nat → Nat) (v0 : Option Nat) (v1 : Option Nat) : HM (Unit) :=
  mb (pZ 19 5 v1 0) fun _ =>
  fJ6_fixAfterInsertion_L5 g 5000 v0 v1 (mb (oR 18 3 v0) fun x44 =>
  mb (pZ 19 5 x44 1) fun _ =>
  mret ())
def fJ6_addEntry (g : Nat → Nat) (v0 : Option Nat) (v1 : Option Nat) (v2 : Option Nat) (v3 : Option Nat) (v4 : Int32) : HM (Unit) :=
  mb (nO 7 19 [.null, .null, .null, .null, .null, .int 0]) fun x1 =>
  mb (mnn x1) fun _ => mb (mcall0 (fJ25_init g x1 v1 v2 v3)) fun _ =>
  mjn0 (  mb (mon 18 v0 (mcall0 (fJ6_fixAfterInsertion g v0 x1))) fun _ =>
  mb (oI 18 4 v0) fun x3 =>
  mb (pI 18 4 v0 (x3 + 1)) fun _ =>
  mb (oI 18 5 v0) fun x4 =>
  mb (pI 18 5 v0 (x4 + 1)) fun _ =>
  mret ()) fun j32 =>
  if v4 = 0 then
  (mb (pR 19 3 v3 x1) fun _ =>
  j32)
  else
  (mb (pR 19 2 v3 x1) fun _ =>
  j32)
def fJ6_put_2_L123 (g : Nat → Nat) : Nat → Option Nat → Option Nat → Option Nat → Int32 → Option Nat → Option Nat → (Option Nat → HM (Option Nat)) → (Int32 → Option Nat → HM (Option Nat)) → HM (Option Nat)
  | 0, _, _, _, _, _, _, _, _ => mfail
  | n + 1, v0, v1, v2, v3, v4, v8, K0, K1 =>
  mb (oR 19 0 v4) fun x1 =>
  mb (mon 4 v8 (mcall0 (fX10_compareTo g v8 x1))) fun x2 =>
  mjn (fun (x3 : Option Nat) =>
  if x3 = none then
  (K1 x2 v4)
  else
  (fJ6_put_2_L123 g n v0 v1 v2 v3 x3 v8 K0 K1)) fun j196 =>
  if 0 ≤ x2 then
  (if x2 ≤ 0 then
  (K0 v4)
  else
  (mb (oR 19 3 v4) fun x4 =>
  j196 x4))
  else
  (mb (oR 19 2 v4) fun x5 =>
  j196 x5)
def fJ6_put_2_L30 (g : Nat → Nat) : Nat → Option Nat → Option Nat → Option Nat → Int32 → Option Nat → Option Nat → (Option Nat → HM (Option Nat)) → (Int32 → Option Nat → HM (Option Nat)) → HM (Option Nat)
  | 0, _, _, _, _, _, _, _, _ => mfail
  | n + 1, v0, v1, v2, v3, v4, v7, K0, K1 =>
  mb (oR 19 0 v4) fun x6 =>
  mb (mdsp v7 [(9, mcall0 (fX11_compare g v7 v1 x6)), (10, mcall0 (fX12_compare g v7 v1 x6))]) fun x7 =>
  mjn (fun (x8 : Option Nat) =>
  if x8 = none then
  (K1 x7 v4)
  else
  (fJ6_put_2_L30 g n v0 v1 v2 v3 x8 v7 K0 K1)) fun j104 =>
  if 0 ≤ x7 then
  (if x7 ≤ 0 then
  (K0 v4)
  else
  (mb (oR 19 3 v4) fun x9 =>
  j104 x9))
  else
  (mb (oR 19 2 v4) fun x10 =>
  j104 x10)
def fJ6_put_2 (g : Nat → Nat) (v0 : Option Nat) (v1 : Option Nat) (v2 : Option Nat) (v3 : Int32) : HM (Option Nat) :=
  mb (oR 18 3 v0) fun x11 =>
  if x11 = none then
  (mb (mon 18 v0 (mcall 14 7 (fJ6_addEntryToEmptyMap g v0 v1 v2))) fun _ =>
  mret none)
  else
  (mb (oR 18 2 v0) fun x12 =>
  mjn2 (fun (x13 : Int32) (x14 : Option Nat) =>
  mjn (fun (x15 : Int32) =>
  mb (mon 18 v0 (mcall 14 7 (fJ6_addEntry g v0 v1 v2 x14 x15))) fun _ =>
  mret none) fun j216 =>
  if 0 ≤ x13 then
  (j216 0)
  else
  (j216 1)) fun j201 =>
  if x12 = none then
  (mb (mcall0 (fJ7_requireNonNull g v1)) fun x16 =>
  mb (mcst [4, 15, 16, 23] v1) fun _ =>
  fJ6_put_2_L123 g 5000 v0 v1 v2 v3 x11 v1 (fun (x17 : Option Nat) =>
  mb (oR 19 1 x17) fun x18 =>
  mjn0 (  mb (pR 19 1 x17 v2) fun _ =>
  mret x18) fun j187 =>
  if v3 = 0 then
  (if x18 = none then
  (j187)
  else
  (mret x18))
  else
  (j187)) (fun (x19 : Int32) (x20 : Option Nat) =>
  j201 x19 x20))
  else
  (fJ6_put_2_L30 g 5000 v0 v1 v2 v3 x11 x12 (fun (x21 : Option Nat) =>
  mb (oR 19 1 x21) fun x22 =>
  mjn0 (  mb (pR 19 1 x21 v2) fun _ =>
  mret x22) fun j95 =>
  if v3 = 0 then
  (if x22 = none then
  (j95)
  else
  (mret x22))
  else
  (j95)) (fun (x23 : Int32) (x24 : Option Nat) =>
  j201 x23 x24)))
def fJ6_put (g : Nat → Nat) (v0 : Option Nat) (v1 : Option Nat) (v2 : Option Nat) : HM (Option Nat) :=
  mb (mon 18 v0 (mcall 14 14 (fJ6_put_2 g v0 v1 v2 1))) fun x1 =>
  mret x1
def fJ4_add (g : Nat → Nat) (v0 : Option Nat) (v1 : Option Nat) : HM (Int32) :=
  mb (oR 17 0 v0) fun x1 =>
  mb (mon 18 x1 (mcall 14 14 (fJ6_put g x1 v1 (some ( g 10))))) fun x2 =>
  if x2 = none then
  (mretT .boolean 1)
  else
  (mretT .boolean 0)
def fJ6_getEntryUsingComparator_L17 (g : Nat → Nat) : Nat → Option Nat → Option Nat → Option Nat → HM (Option Nat)
  | 0, _, _, _ => mfail
  | n + 1, v2, v3, v4 =>
  if v4 = none then
  (mret none)
  else
  (mb (oR 19 0 v4) fun x1 =>
  mb (mdsp v3 [(9, mcall0 (fX11_compare g v3 v2 x1)), (10, mcall0 (fX12_compare g v3 v2 x1))]) fun x2 =>
  if 0 ≤ x2 then
  (if x2 ≤ 0 then
  (mret v4)
  else
  (mb (oR 19 3 v4) fun x3 =>
  fJ6_getEntryUsingComparator_L17 g n v2 v3 x3))
  else
  (mb (oR 19 2 v4) fun x4 =>
  fJ6_getEntryUsingComparator_L17 g n v2 v3 x4))
def fJ6_getEntryUsingComparator (g : Nat → Nat) (v0 : Option Nat) (v1 : Option Nat) : HM (Option Nat) :=
  mb (oR 18 2 v0) fun x5 =>
  if x5 = none then
  (mret none)
  else
  (mb (oR 18 3 v0) fun x6 =>
  fJ6_getEntryUsingComparator_L17 g 5000 v1 x5 x6)
def fJ6_getEntry_L28 (g : Nat → Nat) : Nat → Option Nat → Option Nat → HM (Option Nat)
  | 0, _, _ => mfail
  | n + 1, v2, v3 =>
  if v3 = none then
  (mret none)
  else
  (mb (oR 19 0 v3) fun x1 =>
  mb (mon 4 v2 (mcall0 (fX10_compareTo g v2 x1))) fun x2 =>
  if 0 ≤ x2 then
  (if x2 ≤ 0 then
  (mret v3)
  else
  (mb (oR 19 3 v3) fun x3 =>
  fJ6_getEntry_L28 g n v2 x3))
  else
  (mb (oR 19 2 v3) fun x4 =>
  fJ6_getEntry_L28 g n v2 x4))
def fJ6_getEntry (g : Nat → Nat) (v0 : Option Nat) (v1 : Option Nat) : HM (Option Nat) :=
  mb (oR 18 2 v0) fun x5 =>
  if x5 = none then
  (mb (mcall0 (fJ7_requireNonNull g v1)) fun x6 =>
  mb (mcst [4, 15, 16, 23] v1) fun _ =>
  mb (oR 18 3 v0) fun x7 =>
  fJ6_getEntry_L28 g 5000 v1 x7)
  else
  (mb (mon 18 v0 (mcall0 (fJ6_getEntryUsingComparator g v0 v1))) fun x8 =>
  mret x8)
def fJ6_fixAfterDeletion_L0 (g : Nat → Nat) : Nat → Option Nat → Option Nat → (Option Nat → HM (Unit)) → HM (Unit)
  | 0, _, _, _ => mfail
  | n + 1, v0, v1, K0 =>
  mb (oR 18 3 v0) fun x1 =>
  if v1 = x1 then
  (K0 v1)
  else
  (mb (mcall0 (fJ6_colorOf g v1)) fun x2 =>
  if x2 = 1 then
  (mb (mcall0 (fJ6_parentOf g v1)) fun x3 =>
  mb (mcall0 (fJ6_leftOf g x3)) fun x4 =>
  if v1 = x4 then
  (mb (mcall0 (fJ6_parentOf g v1)) fun x30 =>
  mb (mcall0 (fJ6_rightOf g x30)) fun x31 =>
  mb (mcall0 (fJ6_colorOf g x31)) fun x32 =>
  mjn (fun (x33 : Option Nat) =>
  mb (mcall0 (fJ6_leftOf g x33)) fun x34 =>
  mb (mcall0 (fJ6_colorOf g x34)) fun x35 =>
  mjn0 (  mb (mcall0 (fJ6_rightOf g x33)) fun x36 =>
  mb (mcall0 (fJ6_colorOf g x36)) fun x37 =>
  mjn (fun (x38 : Option Nat) =>
  mb (mcall0 (fJ6_parentOf g v1)) fun x39 =>
  mb (mcall0 (fJ6_colorOf g x39)) fun x40 =>
  mb (mcall0 (fJ6_setColor g x38 x40)) fun _ =>
  mb (mcall0 (fJ6_parentOf g v1)) fun x41 =>
  mb (mcall0 (fJ6_setColor g x41 1)) fun _ =>
  mb (mcall0 (fJ6_rightOf g x38)) fun x42 =>
  mb (mcall0 (fJ6_setColor g x42 1)) fun _ =>
  mb (mcall0 (fJ6_parentOf g v1)) fun x43 =>
  mb (mon 18 v0 (mcall0 (fJ6_rotateLeft g v0 x43))) fun _ =>
  mb (oR 18 3 v0) fun x44 =>
  fJ6_fixAfterDeletion_L0 g n v0 x44 K0) fun j143 =>
  if x37 = 1 then
  (mb (mcall0 (fJ6_leftOf g x33)) fun x45 =>
  mb (mcall0 (fJ6_setColor g x45 1)) fun _ =>
  mb (mcall0 (fJ6_setColor g x33 0)) fun _ =>
  mb (mon 18 v0 (mcall0 (fJ6_rotateRight g v0 x33))) fun _ =>
  mb (mcall0 (fJ6_parentOf g v1)) fun x46 =>
  mb (mcall0 (fJ6_rightOf g x46)) fun x47 =>
  j143 x47)
  else
  (j143 x33)) fun j106 =>
  if x35 = 1 then
  (mb (mcall0 (fJ6_rightOf g x33)) fun x48 =>
  mb (mcall0 (fJ6_colorOf g x48)) fun x49 =>
  if x49 = 1 then
  (mb (mcall0 (fJ6_setColor g x33 0)) fun _ =>
  mb (mcall0 (fJ6_parentOf g v1)) fun x50 =>
  fJ6_fixAfterDeletion_L0 g n v0 x50 K0)
  else
  (j106))
  else
  (j106)) fun j71 =>
  if x32 = 0 then
  (mb (mcall0 (fJ6_setColor g x31 1)) fun _ =>
  mb (mcall0 (fJ6_parentOf g v1)) fun x51 =>
  mb (mcall0 (fJ6_setColor g x51 0)) fun _ =>
  mb (mcall0 (fJ6_parentOf g v1)) fun x52 =>
  mb (mon 18 v0 (mcall0 (fJ6_rotateLeft g v0 x52))) fun _ =>
  mb (mcall0 (fJ6_parentOf g v1)) fun x53 =>
  mb (mcall0 (fJ6_rightOf g x53)) fun x54 =>
  j71 x54)
  else
  (j71 x31))
  else
  (mb (mcall0 (fJ6_parentOf g v1)) fun x5 =>
  mb (mcall0 (fJ6_leftOf g x5)) fun x6 =>
  mb (mcall0 (fJ6_colorOf g x6)) fun x7 =>
  mjn (fun (x8 : Option Nat) =>
  mb (mcall0 (fJ6_rightOf g x8)) fun x9 =>
  mb (mcall0 (fJ6_colorOf g x9)) fun x10 =>
  mjn0 (  mb (mcall0 (fJ6_leftOf g x8)) fun x11 =>
  mb (mcall0 (fJ6_colorOf g x11)) fun x12 =>
  mjn (fun (x13 : Option Nat) =>
  mb (mcall0 (fJ6_parentOf g v1)) fun x14 =>
  mb (mcall0 (fJ6_colorOf g x14)) fun x15 =>
  mb (mcall0 (fJ6_setColor g x13 x15)) fun _ =>
  mb (mcall0 (fJ6_parentOf g v1)) fun x16 =>
  mb (mcall0 (fJ6_setColor g x16 1)) fun _ =>
  mb (mcall0 (fJ6_leftOf g x13)) fun x17 =>
  mb (mcall0 (fJ6_setColor g x17 1)) fun _ =>
  mb (mcall0 (fJ6_parentOf g v1)) fun x18 =>
  mb (mon 18 v0 (mcall0 (fJ6_rotateRight g v0 x18))) fun _ =>
  mb (oR 18 3 v0) fun x19 =>
  fJ6_fixAfterDeletion_L0 g n v0 x19 K0) fun j302 =>
  if x12 = 1 then
  (mb (mcall0 (fJ6_rightOf g x8)) fun x20 =>
  mb (mcall0 (fJ6_setColor g x20 1)) fun _ =>
  mb (mcall0 (fJ6_setColor g x8 0)) fun _ =>
  mb (mon 18 v0 (mcall0 (fJ6_rotateLeft g v0 x8))) fun _ =>
  mb (mcall0 (fJ6_parentOf g v1)) fun x21 =>
  mb (mcall0 (fJ6_leftOf g x21)) fun x22 =>
  j302 x22)
  else
  (j302 x8)) fun j265 =>
  if x10 = 1 then
  (mb (mcall0 (fJ6_leftOf g x8)) fun x23 =>
  mb (mcall0 (fJ6_colorOf g x23)) fun x24 =>
  if x24 = 1 then
  (mb (mcall0 (fJ6_setColor g x8 0)) fun _ =>
  mb (mcall0 (fJ6_parentOf g v1)) fun x25 =>
  fJ6_fixAfterDeletion_L0 g n v0 x25 K0)
  else
  (j265))
  else
  (j265)) fun j230 =>
  if x7 = 0 then
  (mb (mcall0 (fJ6_setColor g x6 1)) fun _ =>
  mb (mcall0 (fJ6_parentOf g v1)) fun x26 =>
  mb (mcall0 (fJ6_setColor g x26 0)) fun _ =>
  mb (mcall0 (fJ6_parentOf g v1)) fun x27 =>
  mb (mon 18 v0 (mcall0 (fJ6_rotateRight g v0 x27))) fun _ =>
  mb (mcall0 (fJ6_parentOf g v1)) fun x28 =>
  mb (mcall0 (fJ6_leftOf g x28)) fun x29 =>
  j230 x29)
  else
  (j230 x6)))
  else
  (K0 v1))
def fJ6_fixAfterDeletion (g : Nat → Nat) (v0 : Option Nat) (v1 : Option Nat) : HM (Unit) :=
  fJ6_fixAfterDeletion_L0 g 5000 v0 v1 (fun (x55 : Option Nat) =>
  mb (mcall0 (fJ6_setColor g x55 1)) fun _ =>
  mret ())
def fJ6_deleteEntry (g : Nat → Nat) (v0 : Option Nat) (v1 : Option Nat) : HM (Unit) :=
  mb (oI 18 5 v0) fun x1 =>
  mb (pI 18 5 v0 (x1 + 1)) fun _ =>
  mb (oI 18 4 v0) fun x2 =>
  mb (pI 18 4 v0 (x2 - 1)) fun _ =>
  mb (oR 19 2 v1) fun x3 =>
  mjn (fun (x4 : Option Nat) =>
  mb (oR 19 2 x4) fun x5 =>
  mjn (fun (x6 : Option Nat) =>
  if x6 = none then
  (mb (oR 19 4 x4) fun x7 =>
  if x7 = none then
  (mb (pR 18 3 v0 none) fun _ =>
  mret ())
  else
  (mb (oI 19 5 x4) fun x8 =>
  mjn0 (  mb (oR 19 4 x4) fun x9 =>
  if x9 = none then
  (mret ())
  else
  (mb (oR 19 4 x4) fun x10 =>
  mb (oR 19 2 x10) fun x11 =>
  mjn0 (  mb (pR 19 4 x4 none) fun _ =>
  mret ()) fun j240 =>
  if x4 = x11 then
  (mb (oR 19 4 x4) fun x15 =>
  mb (pR 19 2 x15 none) fun _ =>
  j240)
  else
  (mb (oR 19 4 x4) fun x12 =>
  mb (oR 19 3 x12) fun x13 =>
  if x4 = x13 then
  (mb (oR 19 4 x4) fun x14 =>
  mb (pR 19 3 x14 none) fun _ =>
  j240)
  else
  (j240)))) fun j192 =>
  if x8 = 1 then
  (mb (mon 18 v0 (mcall0 (fJ6_fixAfterDeletion g v0 x4))) fun _ =>
  j192)
  else
  (j192)))
  else
  (mb (oR 19 4 x4) fun x16 =>
  mb (pR 19 4 x6 x16) fun _ =>
  mb (oR 19 4 x4) fun x17 =>
  mjn0 (  mb (pR 19 4 x4 none) fun _ =>
  mb (pR 19 3 x4 none) fun _ =>
  mb (pR 19 2 x4 none) fun _ =>
  mb (oI 19 5 x4) fun x18 =>
  if x18 = 1 then
  (mb (mon 18 v0 (mcall0 (fJ6_fixAfterDeletion g v0 x6))) fun _ =>
  mret ())
  else
  (mret ())) fun j133 =>
  if x17 = none then
  (mb (pR 18 3 v0 x6) fun _ =>
  j133)
  else
  (mb (oR 19 4 x4) fun x19 =>
  mb (oR 19 2 x19) fun x20 =>
  if x4 = x20 then
  (mb (oR 19 4 x4) fun x22 =>
  mb (pR 19 2 x22 x6) fun _ =>
  j133)
  else
  (mb (oR 19 4 x4) fun x21 =>
  mb (pR 19 3 x21 x6) fun _ =>
  j133)))) fun j75 =>
  if x5 = none then
  (mb (oR 19 3 x4) fun x23 =>
  j75 x23)
  else
  (mb (oR 19 2 x4) fun x24 =>
  j75 x24)) fun j57 =>
  if x3 = none then
  (j57 v1)
  else
  (mb (oR 19 3 v1) fun x25 =>
  if x25 = none then
  (j57 v1)
  else
  (mb (mcall0 (fJ6_successor g v1)) fun x26 =>
  mb (oR 19 0 x26) fun x27 =>
  mb (pR 19 0 v1 x27) fun _ =>
  mb (oR 19 1 x26) fun x28 =>
  mb (pR 19 1 v1 x28) fun _ =>
  j57 x26))
def fJ6_remove (g : Nat → Nat) (v0 : Option Nat) (v1 : Option Nat) : HM (Option Nat) :=
  mb (mon 18 v0 (mcall0 (fJ6_getEntry g v0 v1))) fun x1 =>
  if x1 = none then
  (mret none)
  else
  (mb (oR 19 1 x1) fun x2 =>
  mb (mon 18 v0 (mcall0 (fJ6_deleteEntry g v0 x1))) fun _ =>
  mret x2)
def fJ4_remove (g : Nat → Nat) (v0 : Option Nat) (v1 : Option Nat) : HM (Int32) :=
  mb (oR 17 0 v0) fun x1 =>
  mb (mon 18 x1 (mcall0 (fJ6_remove g x1 v1))) fun x2 =>
  if x2 = (some ( g 10)) then
  (mretT .boolean 1)
  else
  (mretT .boolean 0)
def fJ6_containsKey (g : Nat → Nat) (v0 : Option Nat) (v1 : Option Nat) : HM (Int32) :=
  mb (mon 18 v0 (mcall0 (fJ6_getEntry g v0 v1))) fun x1 =>
  if x1 = none then
  (mretT .boolean 0)
  else
  (mretT .boolean 1)
def fJ4_contains (g : Nat → Nat) (v0 : Option Nat) (v1 : Option Nat) : HM (Int32) :=
  mb (oR 17 0 v0) fun x1 =>
  mb (mon 18 x1 (mcall0 (fJ6_containsKey g x1 v1))) fun x2 =>
  mretT .boolean x2
def fJ6_key (g : Nat → Nat) (v0 : Option Nat) : HM (Option Nat) :=
  if v0 = none then
  (mfail)
  else
  (mb (oR 19 0 v0) fun x1 =>
  mret x1)
def fJ6_firstKey (g : Nat → Nat) (v0 : Option Nat) : HM (Option Nat) :=
  mb (mon 18 v0 (mcall0 (fJ6_getFirstEntry g v0))) fun x1 =>
  mb (mcall0 (fJ6_key g x1)) fun x2 =>
  mret x2
def fX2_put (g : Nat → Nat) (v0 : Option Nat) (v1 : Int32) (v2 : Int32) : HM (Int32) :=
  mb (oR 1 7 v0) fun x1 =>
  mb (aI 0 x1 v1) fun x2 =>
  mjn (fun (x3 : Int32) =>
  mb (oR 1 7 v0) fun x4 =>
  mb (sI x4 v1 v2) fun _ =>
  mretT .boolean x3) fun j14 =>
  if x2 = 0 then
  (j14 1)
  else
  (j14 0)
def fX2_beside (g : Nat → Nat) (v0 : Int32) (v1 : Int32) : HM (Int32) :=
  if v1 = 0 then
  (mret (v0 - 16))
  else
  if v1 = 1 then
  (if (imod v0 16) = 15 then
  (mret (-1))
  else
  (mret (v0 + 1)))
  else
  if v1 = 2 then
  (if 192 ≤ (v0 + 16) then
  (mret (-1))
  else
  (mret (v0 + 16)))
  else
  (if (imod v0 16) = 0 then
  (mret (-1))
  else
  (mret (v0 - 1)))
def fX2_walk_L13 (g : Nat → Nat) : Nat → Option Nat → Option Nat → Int32 → Int32 → Int32 → (HM (Int32)) → HM (Int32)
  | 0, _, _, _, _, _, _ => mfail
  | n + 1, v0, v1, v2, v3, v4, K0 =>
  if 192 ≤ v4 then
  (K0)
  else
  (mb (oR 1 8 v0) fun x1 =>
  mb (sI x1 v4 (-1)) fun _ =>
  fX2_walk_L13 g n v0 v1 v2 v3 (v4 + 1) K0)
def fX2_walk_L173 (g : Nat → Nat) : Nat → Option Nat → Int32 → Int32 → HM (Int32)
  | 0, _, _, _ => mfail
  | n + 1, v0, v4, v5 =>
  if 192 ≤ v5 then
  (mretT .boolean v4)
  else
  (mb (oR 1 7 v0) fun x2 =>
  mb (aI 0 x2 v5) fun x3 =>
  mjn (fun (x4 : Int32) =>
  fX2_walk_L173 g n v0 (v4 &&& x4) (v5 + 1)) fun j211 =>
  if x3 < 40 then
  (j211 1)
  else
  (mb (oR 1 8 v0) fun x5 =>
  mb (aI 0 x5 v5) fun x6 =>
  if x6 = (-1) then
  (j211 0)
  else
  (j211 1)))
def fX2_walk_L71 (g : Nat → Nat) : Nat → Option Nat → Option Nat → Int32 → Int32 → Int32 → Int32 → (Int32 → HM (Int32)) → HM (Int32)
  | 0, _, _, _, _, _, _, _ => mfail
  | n + 1, v0, v1, v2, v3, v4, v5, K0 =>
  if 4 ≤ v5 then
  (K0 v3)
  else
  (mb (mcall0 (fX2_beside g v4 v5)) fun x7 =>
  mjn (fun (x8 : Int32) =>
  fX2_walk_L71 g n v0 v1 v2 x8 v4 (v5 + 1) K0) fun j158 =>
  if x7 < 0 then
  (j158 v3)
  else
  (mb (oR 1 8 v0) fun x9 =>
  mb (aI 0 x9 x7) fun x10 =>
  if x10 = (-1) then
  (mb (oR 1 7 v0) fun x11 =>
  mb (aI 0 x11 x7) fun x12 =>
  mjn0 (  mb (oR 1 8 v0) fun x13 =>
  mb (oR 1 8 v0) fun x14 =>
  mb (aI 0 x14 v4) fun x15 =>
  mb (sI x13 x7 (x15 + 1)) fun _ =>
  mb (oR 1 7 v0) fun x16 =>
  mb (aI 0 x16 x7) fun x17 =>
  if x17 = 0 then
  (mb (sI v1 v3 x7) fun _ =>
  j158 (v3 + 1))
  else
  (j158 v3)) fun j124 =>
  if x12 = 0 then
  (j124)
  else
  (mb (oR 1 7 v0) fun x18 =>
  mb (aI 0 x18 x7) fun x19 =>
  if x19 < 40 then
  (j158 v3)
  else
  (j124)))
  else
  (j158 v3)))
def fX2_walk_L55 (g : Nat → Nat) : Nat → Option Nat → Option Nat → Int32 → Int32 → (HM (Int32)) → HM (Int32)
  | 0, _, _, _, _, _ => mfail
  | n + 1, v0, v1, v2, v3, K0 =>
  if v3 ≤ v2 then
  (K0)
  else
  (mb (aI 0 v1 v2) fun x20 =>
  fX2_walk_L71 g 5000 v0 v1 (v2 + 1) v3 x20 0 (fun (x21 : Int32) =>
  fX2_walk_L55 g n v0 v1 (v2 + 1) x21 K0))
def fX2_walk (g : Nat → Nat) (v0 : Option Nat) : HM (Int32) :=
  mb (nA 193 0 192) fun x22 =>
  fX2_walk_L13 g 5000 v0 x22 0 0 0 (mb (oR 1 8 v0) fun x23 =>
  mb (oI 1 1 v0) fun x24 =>
  mb (sI x23 x24 0) fun _ =>
  mb (oI 1 1 v0) fun x25 =>
  mb (sI x22 0 x25) fun _ =>
  fX2_walk_L55 g 5000 v0 x22 0 (0 + 1) (fX2_walk_L173 g 5000 v0 1 0))
def fX2_draw_L176 (g : Nat → Nat) : Nat → Option Nat → Int32 → Int32 → Int32 → Option Nat → Int32 → Int32 → (Int32 → HM (Int32)) → HM (Int32)
  | 0, _, _, _, _, _, _, _, _ => mfail
  | n + 1, v0, v1, v2, v3, v4, v6, v7, K0 =>
  if v6 ≤ v7 then
  (K0 v2)
  else
  (mb (mon 2 v4 (mcall0 (fX3_chair g v4 v7))) fun x1 =>
  mb (mon 1 v0 (mcall0 (fX2_put g v0 x1 (40 + v3)))) fun x2 =>
  fX2_draw_L176 g n v0 v1 (v2 &&& x2) v3 v4 v6 (v7 + 1) K0)
def fX2_draw_L130 (g : Nat → Nat) : Nat → Option Nat → Int32 → Int32 → Int32 → Option Nat → Int32 → Int32 → (Int32 → HM (Int32)) → HM (Int32)
  | 0, _, _, _, _, _, _, _, _ => mfail
  | n + 1, v0, v1, v2, v3, v4, v5, v6, K0 =>
  if v5 ≤ v6 then
  (K0 v2)
  else
  (mb (mon 2 v4 (mcall0 (fX3_cell g v4 v6))) fun x3 =>
  mb (mon 1 v0 (mcall0 (fX2_put g v0 x3 (10 + v3)))) fun x4 =>
  fX2_draw_L130 g n v0 v1 (v2 &&& x4) v3 v4 v5 (v6 + 1) K0)
def fX2_draw_L12 (g : Nat → Nat) : Nat → Option Nat → Int32 → Int32 → (HM (Int32)) → HM (Int32)
  | 0, _, _, _, _ => mfail
  | n + 1, v0, v1, v2, K0 =>
  if v1 ≤ v2 then
  (K0)
  else
  (mb (oR 1 4 v0) fun x5 =>
  mb (mon 13 x5 (mcall0 (fJ2_get g x5 v2))) fun x6 =>
  mb (mcst [2] x6) fun _ =>
  mb (mon 2 x6 (mcall0 (fX3_isInHall g x6))) fun x7 =>
  if x7 = 0 then
  (mret 1)
  else
  (fX2_draw_L12 g n v0 v1 (v2 + 1) K0))
def fX2_draw_L48 (g : Nat → Nat) : Nat → Option Nat → Int32 → Int32 → Int32 → (HM (Int32)) → HM (Int32)
  | 0, _, _, _, _, _ => mfail
  | n + 1, v0, v1, v2, v3, K0 =>
  if 192 ≤ v3 then
  (K0)
  else
  (mb (oR 1 7 v0) fun x8 =>
  mb (oR 1 2 v0) fun x9 =>
  mb (aI 1 x9 v3) fun x10 =>
  mjn (fun (x11 : Int32) =>
  mb (sI x8 v3 x11) fun _ =>
  fX2_draw_L48 g n v0 v1 v2 (v3 + 1) K0) fun j74 =>
  if x10 = 0 then
  (j74 0)
  else
  (j74 1))
def fX2_draw_L95 (g : Nat → Nat) : Nat → Option Nat → Int32 → Int32 → Int32 → (Int32 → HM (Int32)) → HM (Int32)
  | 0, _, _, _, _, _ => mfail
  | n + 1, v0, v1, v2, v3, K0 =>
  if v1 ≤ v3 then
  (K0 v2)
  else
  (mb (oR 1 4 v0) fun x12 =>
  mb (mon 13 x12 (mcall0 (fJ2_get g x12 v3))) fun x13 =>
  mb (mcst [2] x13) fun _ =>
  mb (oR 2 0 x13) fun x14 =>
  mb (mdsp x14 [(7, mcall0 (fX5_cells g x14)), (6, mcall0 (fX6_cells g x14)), (8, mcall0 (fX9_cells g x14))]) fun x15 =>
  fX2_draw_L130 g 5000 v0 v1 v2 v3 x13 x15 0 (fun (x16 : Int32) =>
  mb (oR 2 0 x13) fun x17 =>
  mb (mdsp x17 [(7, mcall0 (fX5_chairs g x17)), (6, mcall0 (fX6_chairs g x17)), (8, mcall0 (fX9_chairs g x17))]) fun x18 =>
  fX2_draw_L176 g 5000 v0 v1 x16 v3 x13 x18 0 (fun (x19 : Int32) =>
  fX2_draw_L95 g n v0 v1 x19 (v3 + 1) K0)))
def fX2_draw (g : Nat → Nat) (v0 : Option Nat) : HM (Int32) :=
  mb (oR 1 4 v0) fun x20 =>
  mb (mon 13 x20 (mcall0 (fJ2_size g x20))) fun x21 =>
  fX2_draw_L12 g 5000 v0 x21 0 (fX2_draw_L48 g 5000 v0 x21 1 0 (mb (oI 1 1 v0) fun x22 =>
  mb (mon 1 v0 (mcall0 (fX2_put g v0 x22 2))) fun x23 =>
  fX2_draw_L95 g 5000 v0 x21 (1 &&& x23) 0 (fun (x24 : Int32) =>
  if x24 = 0 then
  (mret 2)
  else
  (mb (mon 1 v0 (mcall 193 193 (fX2_walk g v0))) fun x25 =>
  if x25 = 0 then
  (mret 3)
  else
  (mret 0)))))
def fX2_cellOf (g : Nat → Nat) (v0 : Option Nat) (v1 : Option Nat) : HM (Int32) :=
  mb (oR 1 4 v0) fun x1 =>
  mb (oI 3 3 v1) fun x2 =>
  mb (mon 13 x1 (mcall0 (fJ2_get g x1 x2))) fun x3 =>
  mb (mcst [2] x3) fun _ =>
  mb (oI 3 4 v1) fun x4 =>
  mb (mon 2 x3 (mcall0 (fX3_chair g x3 x4))) fun x5 =>
  mret x5
def fX2_tellSitting_L2 (g : Nat → Nat) : Nat → Option Nat → Int32 → (HM (Unit)) → HM (Unit)
  | 0, _, _, _ => mfail
  | n + 1, v0, v1, K0 =>
  if 192 ≤ v1 then
  (K0)
  else
  (mb (oR 1 9 v0) fun x1 =>
  mb (sI x1 v1 (-1)) fun _ =>
  fX2_tellSitting_L2 g n v0 (v1 + 1) K0)
def fX2_tellSitting_L34 (g : Nat → Nat) : Nat → Option Nat → Int32 → Int32 → HM (Unit)
  | 0, _, _, _ => mfail
  | n + 1, v0, v1, v2 =>
  if v1 ≤ v2 then
  (mret ())
  else
  (mb (oR 1 5 v0) fun x2 =>
  mb (mon 13 x2 (mcall0 (fJ2_get g x2 v2))) fun x3 =>
  mb (mcst [3] x3) fun _ =>
  mb (mon 3 x3 (mcall0 (fX8_sits g x3))) fun x4 =>
  mjn0 (  fX2_tellSitting_L34 g n v0 v1 (v2 + 1)) fun j81 =>
  if x4 = 0 then
  (j81)
  else
  (mb (oR 1 9 v0) fun x5 =>
  mb (oR 1 5 v0) fun x6 =>
  mb (mon 13 x6 (mcall0 (fJ2_get g x6 v2))) fun x7 =>
  mb (mcst [3] x7) fun _ =>
  mb (mon 1 v0 (mcall0 (fX2_cellOf g v0 x7))) fun x8 =>
  mb (sI x5 x8 v2) fun _ =>
  j81))
def fX2_tellSitting (g : Nat → Nat) (v0 : Option Nat) : HM (Unit) :=
  fX2_tellSitting_L2 g 5000 v0 0 (mb (oR 1 5 v0) fun x9 =>
  mb (mon 13 x9 (mcall0 (fJ2_size g x9))) fun x10 =>
  fX2_tellSitting_L34 g 5000 v0 x10 0)
def fX2_tellAnew (g : Nat → Nat) (v0 : Option Nat) : HM (Int32) :=
  mb (mon 1 v0 (mcall 193 193 (fX2_draw g v0))) fun x1 =>
  if x1 = 0 then
  (mb (mon 1 v0 (mcall0 (fX2_tellSitting g v0))) fun _ =>
  mret x1)
  else
  (mret x1)
def fX2_init (g : Nat → Nat) (v0 : Option Nat) : HM (Unit) :=
  mb (mnn v0) fun _ =>
  mb (pI 1 0 v0 8) fun _ =>
  mb (pI 1 1 v0 176) fun _ =>
  mb (nO 985 13 [.int 0, .null, .int 0]) fun x1 =>
  mb (mnn x1) fun _ => mb (mcall0 (fJ2_init g x1)) fun _ =>
  mb (pR 1 4 v0 x1) fun _ =>
  mb (nO 985 13 [.int 0, .null, .int 0]) fun x3 =>
  mb (mnn x3) fun _ => mb (mcall0 (fJ2_init g x3)) fun _ =>
  mb (pR 1 5 v0 x3) fun _ =>
  mb (nA 985 1 192) fun x5 =>
  mb (pR 1 2 v0 x5) fun _ =>
  mb (nO 985 17 [.null]) fun x6 =>
  mb (mnn x6) fun _ => mb (mcall 985 10 (fJ4_init g x6)) fun _ =>
  mb (pR 1 6 v0 x6) fun _ =>
  mb (nA 985 0 192) fun x8 =>
  mb (pR 1 7 v0 x8) fun _ =>
  mb (nA 985 0 192) fun x9 =>
  mb (pR 1 8 v0 x9) fun _ =>
  mb (nA 985 0 192) fun x10 =>
  mb (pR 1 9 v0 x10) fun _ =>
  mb (mon 1 v0 (mcall 985 193 (fX2_tellAnew g v0))) fun x11 =>
  mret ()
def fX2_longestWay_L4 (g : Nat → Nat) : Nat → Option Nat → Int32 → Int32 → HM (Int32)
  | 0, _, _, _ => mfail
  | n + 1, v0, v1, v2 =>
  if 192 ≤ v2 then
  (mret v1)
  else
  (mb (oR 1 7 v0) fun x1 =>
  mb (aI 0 x1 v2) fun x2 =>
  mjn (fun (x3 : Int32) =>
  fX2_longestWay_L4 g n v0 x3 (v2 + 1)) fun j42 =>
  if x2 < 40 then
  (j42 v1)
  else
  (mb (oR 1 8 v0) fun x4 =>
  mb (aI 0 x4 v2) fun x5 =>
  if x5 ≤ v1 then
  (j42 v1)
  else
  (mb (oR 1 8 v0) fun x6 =>
  mb (aI 0 x6 v2) fun x7 =>
  j42 x7)))
def fX2_longestWay (g : Nat → Nat) (v0 : Option Nat) : HM (Int32) :=
  fX2_longestWay_L4 g 5000 v0 0 0 
def fJ31_floorDiv (g : Nat → Nat) (v0 : Int32) (v1 : Int32) : HM (Int32) :=
  mb (mnz v1) fun _ =>
  if 0 ≤ (v0 ^^^ v1) then
  (mret (v0 / v1))
  else
  (if ((v0 / v1) * v1) = v0 then
  (mret (v0 / v1))
  else
  (mret ((v0 / v1) - 1)))
def fX2_line (g : Nat → Nat) (v0 : Option Nat) (v1 : Int32) (v2 : Int32) : HM (Int32) :=
  mb (oI 1 0 v0) fun x1 =>
  mb (mcall0 (fJ31_floorDiv g ((((2 * ((v1 / 16) - v2)) * (x1 - (imod v1 16))) + (v1 / 16)) + 1) (2 * ((v1 / 16) + 1)))) fun x2 =>
  mret ((imod v1 16) + x2)
def fX2_standsInTheWay (g : Nat → Nat) (v0 : Option Nat) (v1 : Int32) (v2 : Option Nat) : HM (Int32) :=
  mb (oR 1 7 v0) fun x1 =>
  mb (aI 0 x1 v1) fun x2 =>
  if x2 = 1 then
  (mretT .boolean 1)
  else
  (mjn0 (  mb (oR 1 9 v0) fun x3 =>
  mb (aI 0 x3 v1) fun x4 =>
  if x4 = (-1) then
  (mretT .boolean 0)
  else
  (mb (oI 3 0 v2) fun x5 =>
  if x4 = x5 then
  (mretT .boolean 0)
  else
  (mb (oR 1 5 v0) fun x6 =>
  mb (mon 13 x6 (mcall0 (fJ2_get g x6 x4))) fun x7 =>
  mb (mcst [3] x7) fun _ =>
  mb (oI 3 2 x7) fun x8 =>
  mb (oI 3 2 v2) fun x9 =>
  if x8 ≤ x9 then
  (mretT .boolean 0)
  else
  (mretT .boolean 1)))) fun j58 =>
  if x2 < 10 then
  (j58)
  else
  (if 40 ≤ x2 then
  (j58)
  else
  (mb (oR 1 4 v0) fun x10 =>
  mb (mon 13 x10 (mcall0 (fJ2_get g x10 (x2 - 10)))) fun x11 =>
  mb (mcst [2] x11) fun _ =>
  mb (oI 2 4 x11) fun x12 =>
  mb (oI 3 2 v2) fun x13 =>
  if x12 < x13 then
  (mretT .boolean 0)
  else
  (mretT .boolean 1))))
def fX2_blockedFrom_L7 (g : Nat → Nat) : Nat → Option Nat → Int32 → Option Nat → Int32 → HM (Int32)
  | 0, _, _, _, _ => mfail
  | n + 1, v0, v1, v2, v3 =>
  if v3 < 0 then
  (mret (-1))
  else
  (mb (mon 1 v0 (mcall0 (fX2_line g v0 v1 v3))) fun x1 =>
  mb (mon 1 v0 (mcall0 (fX2_standsInTheWay g v0 ((16 * v3) + x1) v2))) fun x2 =>
  if x2 = 0 then
  (fX2_blockedFrom_L7 g n v0 v1 v2 (v3 + (-1)))
  else
  (mret ((16 * v3) + x1)))
def fX2_blockedFrom (g : Nat → Nat) (v0 : Option Nat) (v1 : Int32) (v2 : Option Nat) : HM (Int32) :=
  fX2_blockedFrom_L7 g 5000 v0 v1 v2 ((v1 / 16) - 1) 
def fX2_sees (g : Nat → Nat) (v0 : Option Nat) (v1 : Int32) : HM (Int32) :=
  mb (oR 1 5 v0) fun x1 =>
  mb (mon 13 x1 (mcall0 (fJ2_get g x1 v1))) fun x2 =>
  mb (mcst [3] x2) fun _ =>
  mb (mon 3 x2 (mcall0 (fX8_sits g x2))) fun x3 =>
  if x3 = 0 then
  (mretT .boolean 0)
  else
  (mb (mon 1 v0 (mcall0 (fX2_cellOf g v0 x2))) fun x4 =>
  mb (mon 1 v0 (mcall0 (fX2_blockedFrom g v0 x4 x2))) fun x5 =>
  if x5 = (-1) then
  (mretT .boolean 1)
  else
  (mretT .boolean 0))
def fX2_seeing_L14 (g : Nat → Nat) : Nat → Option Nat → Int32 → Int32 → Int32 → HM (Int32)
  | 0, _, _, _, _ => mfail
  | n + 1, v0, v1, v2, v3 =>
  if v1 ≤ v3 then
  (mret v2)
  else
  (mb (mon 1 v0 (mcall0 (fX2_sees g v0 v3))) fun x1 =>
  mjn (fun (x2 : Int32) =>
  fX2_seeing_L14 g n v0 v1 (v2 + x2) (v3 + 1)) fun j33 =>
  if x1 = 0 then
  (j33 0)
  else
  (j33 1))
def fX2_seeing (g : Nat → Nat) (v0 : Option Nat) : HM (Int32) :=
  mb (oR 1 5 v0) fun x3 =>
  mb (mon 13 x3 (mcall0 (fJ2_size g x3))) fun x4 =>
  fX2_seeing_L14 g 5000 v0 x4 0 0 
def fX2_seated_L14 (g : Nat → Nat) : Nat → Option Nat → Int32 → Int32 → Int32 → HM (Int32)
  | 0, _, _, _, _ => mfail
  | n + 1, v0, v1, v2, v3 =>
  if v1 ≤ v3 then
  (mret v2)
  else
  (mb (oR 1 5 v0) fun x1 =>
  mb (mon 13 x1 (mcall0 (fJ2_get g x1 v3))) fun x2 =>
  mb (mcst [3] x2) fun _ =>
  mb (mon 3 x2 (mcall0 (fX8_sits g x2))) fun x3 =>
  mjn (fun (x4 : Int32) =>
  fX2_seated_L14 g n v0 v1 (v2 + x4) (v3 + 1)) fun j44 =>
  if x3 = 0 then
  (j44 0)
  else
  (j44 1))
def fX2_seated (g : Nat → Nat) (v0 : Option Nat) : HM (Int32) :=
  mb (oR 1 5 v0) fun x5 =>
  mb (mon 13 x5 (mcall0 (fJ2_size g x5))) fun x6 =>
  fX2_seated_L14 g 5000 v0 x6 0 0 
def fX2_apart (g : Nat → Nat) (v0 : Int32) (v1 : Int32) : HM (Int32) :=
  if v1 ≤ v0 then
  (mret (v0 - v1))
  else
  (mret (v1 - v0))
def fX2_nearByPairs_L10 (g : Nat → Nat) : Nat → Option Nat → Int32 → Option Nat → HM (Int32)
  | 0, _, _, _ => mfail
  | n + 1, v0, v1, v2 =>
  mb (mon 21 v2 (mcall0 (fJ20_hasNext g v2))) fun x1 =>
  if x1 = 0 then
  (mret v1)
  else
  (mb (mon 21 v2 (mcall0 (fJ21_next g v2))) fun x2 =>
  mb (mcst [4] x2) fun _ =>
  mb (oR 1 5 v0) fun x3 =>
  mb (oI 4 0 x2) fun x4 =>
  mb (mon 13 x3 (mcall0 (fJ2_get g x3 x4))) fun x5 =>
  mb (mcst [3] x5) fun _ =>
  mb (oR 1 5 v0) fun x6 =>
  mb (oI 4 1 x2) fun x7 =>
  mb (mon 13 x6 (mcall0 (fJ2_get g x6 x7))) fun x8 =>
  mb (mcst [3] x8) fun _ =>
  mb (mon 3 x5 (mcall0 (fX8_sits g x5))) fun x9 =>
  if x9 = 0 then
  (fX2_nearByPairs_L10 g n v0 v1 v2)
  else
  (mb (mon 3 x8 (mcall0 (fX8_sits g x8))) fun x10 =>
  if x10 = 0 then
  (fX2_nearByPairs_L10 g n v0 v1 v2)
  else
  (mb (mon 1 v0 (mcall0 (fX2_cellOf g v0 x5))) fun x11 =>
  mb (mon 1 v0 (mcall0 (fX2_cellOf g v0 x8))) fun x12 =>
  mb (mcall0 (fX2_apart g (imod x11 16) (imod x12 16))) fun x13 =>
  mjn (fun (x14 : Int32) =>
  fX2_nearByPairs_L10 g n v0 (v1 + x14) v2) fun j137 =>
  if 2 ≤ x13 then
  (j137 0)
  else
  (mb (mcall0 (fX2_apart g (x11 / 16) (x12 / 16))) fun x15 =>
  if 2 ≤ x15 then
  (j137 0)
  else
  (j137 1)))))
def fX2_nearByPairs (g : Nat → Nat) (v0 : Option Nat) : HM (Int32) :=
  mb (oR 1 6 v0) fun x16 =>
  mb (mon 17 x16 (mcall 7 7 (fJ4_iterator g x16))) fun x17 =>
  fX2_nearByPairs_L10 g 5000 v0 0 x17 
def fX2_nearByChairs_L21 (g : Nat → Nat) : Nat → Option Nat → Int32 → Int32 → Int32 → Int32 → (Int32 → HM (Int32)) → HM (Int32)
  | 0, _, _, _, _, _, _ => mfail
  | n + 1, v0, v1, v2, v3, v4, K0 =>
  if 9 ≤ v4 then
  (K0 v1)
  else
  (if v3 = (-1) then
  (K0 v1)
  else
  (mb (mcall0 (fX3_isInside g (((imod v2 16) + (imod v4 3)) - 1) (((v2 / 16) + (v4 / 3)) - 1))) fun x1 =>
  mjn (fun (x2 : Int32) =>
  fX2_nearByChairs_L21 g n v0 x2 v2 v3 (v4 + 1) K0) fun j118 =>
  if x1 = 0 then
  (j118 v1)
  else
  (mb (oR 1 9 v0) fun x3 =>
  mb (aI 0 x3 ((16 * (((v2 / 16) + (v4 / 3)) - 1)) + (((imod v2 16) + (imod v4 3)) - 1))) fun x4 =>
  mjn (fun (x5 : Int32) =>
  j118 (v1 + x5)) fun j116 =>
  if x4 ≤ v3 then
  (j116 0)
  else
  (mb (oR 1 6 v0) fun x6 =>
  mb (nO 5184 4 [.int 0, .int 0]) fun x7 =>
  mb (mnn x7) fun _ => mb (mcall0 (fX10_init g x7 v3 x4)) fun _ =>
  mb (mon 17 x6 (mcall0 (fJ4_contains g x6 x7))) fun x9 =>
  if x9 = 0 then
  (j116 0)
  else
  (j116 1)))))
def fX2_nearByChairs_L4 (g : Nat → Nat) : Nat → Option Nat → Int32 → Int32 → HM (Int32)
  | 0, _, _, _ => mfail
  | n + 1, v0, v1, v2 =>
  if 192 ≤ v2 then
  (mret v1)
  else
  (mb (oR 1 9 v0) fun x10 =>
  mb (aI 0 x10 v2) fun x11 =>
  fX2_nearByChairs_L21 g 5000 v0 v1 v2 x11 0 (fun (x12 : Int32) =>
  fX2_nearByChairs_L4 g n v0 x12 (v2 + 1)))
def fX2_nearByChairs (g : Nat → Nat) (v0 : Option Nat) : HM (Int32) :=
  fX2_nearByChairs_L4 g 5000 v0 0 0 
def fX2_init_2_L195 (g : Nat → Nat) : Nat → Option Nat → Option Nat → Int32 → Int32 → HM (Unit)
  | 0, _, _, _, _ => mfail
  | n + 1, v0, v1, v2, v3 =>
  if v2 ≤ v3 then
  (mret ())
  else
  (mb (oR 1 5 v0) fun x1 =>
  mb (oR 1 5 v1) fun x2 =>
  mb (mon 13 x2 (mcall0 (fJ2_get g x2 v3))) fun x3 =>
  mb (mcst [3] x3) fun _ =>
  mb (mon 3 x3 (mcall 2207 6 (fX8_copy g x3))) fun x4 =>
  mb (mon 13 x1 (mcall 2207 34 (fJ2_add g x1 x4))) fun x5 =>
  fX2_init_2_L195 g n v0 v1 v2 (v3 + 1))
def fX2_init_2_L146 (g : Nat → Nat) : Nat → Option Nat → Option Nat → Int32 → Int32 → (HM (Unit)) → HM (Unit)
  | 0, _, _, _, _, _ => mfail
  | n + 1, v0, v1, v2, v3, K0 =>
  if v2 ≤ v3 then
  (K0)
  else
  (mb (oR 1 4 v0) fun x6 =>
  mb (oR 1 4 v1) fun x7 =>
  mb (mon 13 x7 (mcall0 (fJ2_get g x7 v3))) fun x8 =>
  mb (mcst [2] x8) fun _ =>
  mb (mon 2 x8 (mcall 2207 6 (fX3_copy g x8))) fun x9 =>
  mb (mon 13 x6 (mcall 2207 34 (fJ2_add g x6 x9))) fun x10 =>
  fX2_init_2_L146 g n v0 v1 v2 (v3 + 1) K0)
def fX2_init_2 (g : Nat → Nat) (v0 : Option Nat) (v1 : Option Nat) : HM (Unit) :=
  mb (mnn v0) fun _ =>
  mb (pI 1 0 v0 8) fun _ =>
  mb (pI 1 1 v0 176) fun _ =>
  mb (nO 2207 13 [.int 0, .null, .int 0]) fun x11 =>
  mb (mnn x11) fun _ => mb (mcall0 (fJ2_init g x11)) fun _ =>
  mb (pR 1 4 v0 x11) fun _ =>
  mb (nO 2207 13 [.int 0, .null, .int 0]) fun x13 =>
  mb (mnn x13) fun _ => mb (mcall0 (fJ2_init g x13)) fun _ =>
  mb (pR 1 5 v0 x13) fun _ =>
  mb (oI 1 0 v1) fun x15 =>
  mb (pI 1 0 v0 x15) fun _ =>
  mb (oI 1 1 v1) fun x16 =>
  mb (pI 1 1 v0 x16) fun _ =>
  mb (oR 1 2 v1) fun x17 =>
  mb (mclone 2207 1 x17) fun x18 =>
  mb (mcstA 1 x18) fun _ =>
  mb (pR 1 2 v0 x18) fun _ =>
  mb (oI 1 3 v1) fun x19 =>
  mb (pI 1 3 v0 x19) fun _ =>
  mb (nO 2207 17 [.null]) fun x20 =>
  mb (oR 1 6 v1) fun x21 =>
  mb (mnn x20) fun _ => mb (mcall 2207 465 (fJ4_init_3 g x20 x21)) fun _ =>
  mb (pR 1 6 v0 x20) fun _ =>
  mb (oR 1 7 v1) fun x23 =>
  mb (mclone 2207 0 x23) fun x24 =>
  mb (mcstA 0 x24) fun _ =>
  mb (pR 1 7 v0 x24) fun _ =>
  mb (oR 1 8 v1) fun x25 =>
  mb (mclone 2207 0 x25) fun x26 =>
  mb (mcstA 0 x26) fun _ =>
  mb (pR 1 8 v0 x26) fun _ =>
  mb (oR 1 9 v1) fun x27 =>
  mb (mclone 2207 0 x27) fun x28 =>
  mb (mcstA 0 x28) fun _ =>
  mb (pR 1 9 v0 x28) fun _ =>
  mb (oR 1 4 v1) fun x29 =>
  mb (mon 13 x29 (mcall0 (fJ2_size g x29))) fun x30 =>
  fX2_init_2_L146 g 5000 v0 v1 x30 0 (mb (oR 1 5 v1) fun x31 =>
  mb (mon 13 x31 (mcall0 (fJ2_size g x31))) fun x32 =>
  fX2_init_2_L195 g 5000 v0 v1 x32 0)
def fX2_copy (g : Nat → Nat) (v0 : Option Nat) : HM (Option Nat) :=
  mb (nO 2218 1 [.int 0, .int 0, .null, .int 0, .null, .null, .null, .null, .null, .null]) fun x1 =>
  mb (mnn x1) fun _ => mb (mcall 2218 2207 (fX2_init_2 g x1 v0)) fun _ =>
  mret x1
def fX1_shape (g : Nat → Nat) (v0 : Int32) : HM (Option Nat) :=
  if v0 = 0 then
  (mb (nO 3 6 []) fun x5 =>
  mb (mnn x5) fun _ => mb (mcall0 (fX6_init g x5)) fun _ =>
  mret x5)
  else
  (if v0 = 1 then
  (mb (nO 3 7 []) fun x3 =>
  mb (mnn x3) fun _ => mb (mcall0 (fX5_init g x3)) fun _ =>
  mret x3)
  else
  (mb (nO 3 8 []) fun x1 =>
  mb (mnn x1) fun _ => mb (mcall0 (fX9_init g x1)) fun _ =>
  mret x1))
def fX2_whyNoTable (g : Nat → Nat) (v0 : Option Nat) (v1 : Int32) (v2 : Int32) (v3 : Int32) (v4 : Int32) : HM (Int32) :=
  mb (mon 1 v0 (mcall 2454 2218 (fX2_copy g v0))) fun x1 =>
  mb (oR 1 4 x1) fun x2 =>
  mb (nO 2454 2 [.null, .int 0, .int 0, .int 0, .int 0]) fun x3 =>
  mb (mcall 2454 3 (fX1_shape g v1)) fun x4 =>
  mb (mnn x3) fun _ => mb (mcall0 (fX3_init g x3 x4 v2 v3 v4)) fun _ =>
  mb (mon 13 x2 (mcall 2454 34 (fJ2_add g x2 x3))) fun x6 =>
  mb (mon 1 x1 (mcall 2454 193 (fX2_draw g x1))) fun x7 =>
  mret x7
def fX2_addTable (g : Nat → Nat) (v0 : Option Nat) (v1 : Int32) (v2 : Int32) (v3 : Int32) (v4 : Int32) : HM (Int32) :=
  mb (oR 1 4 v0) fun x1 =>
  mb (mon 13 x1 (mcall0 (fJ2_size g x1))) fun x2 =>
  mjn (fun (x3 : Int32) =>
  if x3 = 0 then
  (mretT .boolean x3)
  else
  (mb (oR 1 4 v0) fun x4 =>
  mb (nO 2690 2 [.null, .int 0, .int 0, .int 0, .int 0]) fun x5 =>
  mb (mcall 2690 3 (fX1_shape g v1)) fun x6 =>
  mb (mnn x5) fun _ => mb (mcall0 (fX3_init g x5 x6 v2 v3 v4)) fun _ =>
  mb (mon 13 x4 (mcall 2690 34 (fJ2_add g x4 x5))) fun x8 =>
  mb (mon 1 v0 (mcall 2690 193 (fX2_tellAnew g v0))) fun x9 =>
  mretT .boolean x3)) fun j31 =>
  if 10 ≤ x2 then
  (j31 0)
  else
  (mb (mon 1 v0 (mcall 2690 2454 (fX2_whyNoTable g v0 v1 v2 v3 v4))) fun x10 =>
  if x10 = 0 then
  (j31 1)
  else
  (j31 0))
def fX2_canSet (g : Nat → Nat) (v0 : Option Nat) (v1 : Int32) (v2 : Int32) (v3 : Int32) (v4 : Int32) : HM (Int32) :=
  mb (mon 1 v0 (mcall 2411 2218 (fX2_copy g v0))) fun x1 =>
  mb (oR 1 4 x1) fun x2 =>
  mb (mon 13 x2 (mcall0 (fJ2_get g x2 v1))) fun x3 =>
  mb (mcst [2] x3) fun _ =>
  mb (pI 2 1 x3 v2) fun _ =>
  mb (pI 2 2 x3 v3) fun _ =>
  mb (pI 2 3 x3 v4) fun _ =>
  mb (mon 1 x1 (mcall 2411 193 (fX2_draw g x1))) fun x4 =>
  if x4 = 0 then
  (mretT .boolean 1)
  else
  (mretT .boolean 0)
def fX2_set (g : Nat → Nat) (v0 : Option Nat) (v1 : Int32) (v2 : Int32) (v3 : Int32) (v4 : Int32) : HM (Unit) :=
  mb (oR 1 4 v0) fun x1 =>
  mb (mon 13 x1 (mcall0 (fJ2_get g x1 v1))) fun x2 =>
  mb (mcst [2] x2) fun _ =>
  mb (pI 2 1 x2 v2) fun _ =>
  mb (pI 2 2 x2 v3) fun _ =>
  mb (pI 2 3 x2 v4) fun _ =>
  mb (mon 1 v0 (mcall 193 193 (fX2_tellAnew g v0))) fun x3 =>
  mret ()
def fX2_moveTable (g : Nat → Nat) (v0 : Option Nat) (v1 : Int32) (v2 : Int32) (v3 : Int32) : HM (Int32) :=
  mb (oR 1 4 v0) fun x1 =>
  mb (mon 13 x1 (mcall0 (fJ2_size g x1))) fun x2 =>
  mjn (fun (x3 : Int32) =>
  if x3 = 0 then
  (mretT .boolean x3)
  else
  (mb (oR 1 4 v0) fun x4 =>
  mb (mon 13 x4 (mcall0 (fJ2_get g x4 v1))) fun x5 =>
  mb (mcst [2] x5) fun _ =>
  mb (oI 2 3 x5) fun x6 =>
  mb (mon 1 v0 (mcall 2604 193 (fX2_set g v0 v1 v2 v3 x6))) fun _ =>
  mretT .boolean x3)) fun j44 =>
  if x2 ≤ v1 then
  (j44 0)
  else
  (mb (oR 1 4 v0) fun x7 =>
  mb (mon 13 x7 (mcall0 (fJ2_get g x7 v1))) fun x8 =>
  mb (mcst [2] x8) fun _ =>
  mb (oI 2 3 x8) fun x9 =>
  mb (mon 1 v0 (mcall 2604 2411 (fX2_canSet g v0 v1 v2 v3 x9))) fun x10 =>
  if x10 = 0 then
  (j44 0)
  else
  (j44 1))
def fX2_turnTable (g : Nat → Nat) (v0 : Option Nat) (v1 : Int32) (v2 : Int32) : HM (Int32) :=
  mb (oR 1 4 v0) fun x1 =>
  mb (mon 13 x1 (mcall0 (fJ2_size g x1))) fun x2 =>
  mjn (fun (x3 : Int32) =>
  if x3 = 0 then
  (mretT .boolean x3)
  else
  (mb (oR 1 4 v0) fun x4 =>
  mb (mon 13 x4 (mcall0 (fJ2_get g x4 v1))) fun x5 =>
  mb (mcst [2] x5) fun _ =>
  mb (oI 2 1 x5) fun x6 =>
  mb (oR 1 4 v0) fun x7 =>
  mb (mon 13 x7 (mcall0 (fJ2_get g x7 v1))) fun x8 =>
  mb (mcst [2] x8) fun _ =>
  mb (oI 2 2 x8) fun x9 =>
  mb (mon 1 v0 (mcall 2604 193 (fX2_set g v0 v1 x6 x9 v2))) fun _ =>
  mretT .boolean x3)) fun j59 =>
  if x2 ≤ v1 then
  (j59 0)
  else
  (mb (oR 1 4 v0) fun x10 =>
  mb (mon 13 x10 (mcall0 (fJ2_get g x10 v1))) fun x11 =>
  mb (mcst [2] x11) fun _ =>
  mb (oI 2 1 x11) fun x12 =>
  mb (oR 1 4 v0) fun x13 =>
  mb (mon 13 x13 (mcall0 (fJ2_get g x13 v1))) fun x14 =>
  mb (mcst [2] x14) fun _ =>
  mb (oI 2 2 x14) fun x15 =>
  mb (mon 1 v0 (mcall 2604 2411 (fX2_canSet g v0 v1 x12 x15 v2))) fun x16 =>
  if x16 = 0 then
  (j59 0)
  else
  (j59 1))
def fX2_whyNoPillar (g : Nat → Nat) (v0 : Option Nat) (v1 : Int32) : HM (Int32) :=
  mb (oI 1 3 v0) fun x1 =>
  if x1 = 12 then
  (mret 1)
  else
  (mb (oR 1 2 v0) fun x2 =>
  mb (aI 1 x2 v1) fun x3 =>
  if x3 = 0 then
  (mb (mon 1 v0 (mcall 2411 2218 (fX2_copy g v0))) fun x4 =>
  mb (oR 1 2 x4) fun x5 =>
  mb (sZ x5 v1 1) fun _ =>
  mb (mon 1 x4 (mcall 2411 193 (fX2_draw g x4))) fun x6 =>
  mret x6)
  else
  (mret 2))
def fX2_turnPillar (g : Nat → Nat) (v0 : Option Nat) (v1 : Int32) : HM (Int32) :=
  mb (oR 1 2 v0) fun x1 =>
  mb (aI 1 x1 v1) fun x2 =>
  mjn (fun (x3 : Int32) =>
  if x3 = 0 then
  (mretT .boolean x3)
  else
  (mb (oI 1 3 v0) fun x4 =>
  mb (oR 1 2 v0) fun x5 =>
  mb (aI 1 x5 v1) fun x6 =>
  mjn (fun (x7 : Int32) =>
  mb (pI 1 3 v0 (x4 + x7)) fun _ =>
  mb (oR 1 2 v0) fun x8 =>
  mb (oR 1 2 v0) fun x9 =>
  mb (aI 1 x9 v1) fun x10 =>
  mjn (fun (x11 : Int32) =>
  mb (sZ x8 v1 x11) fun _ =>
  mb (mon 1 v0 (mcall 2604 193 (fX2_tellAnew g v0))) fun x12 =>
  mretT .boolean x3) fun j69 =>
  if x10 = 0 then
  (j69 1)
  else
  (j69 0)) fun j46 =>
  if x6 = 0 then
  (j46 1)
  else
  (j46 (-1)))) fun j22 =>
  if x2 = 0 then
  (mb (mon 1 v0 (mcall 2604 2411 (fX2_whyNoPillar g v0 v1))) fun x13 =>
  if x13 = 0 then
  (j22 1)
  else
  (j22 0))
  else
  (j22 1)
def fX2_guestOn (g : Nat → Nat) (v0 : Option Nat) (v1 : Int32) (v2 : Int32) : HM (Int32) :=
  mb (oR 1 9 v0) fun x1 =>
  mb (oR 1 4 v0) fun x2 =>
  mb (mon 13 x2 (mcall0 (fJ2_get g x2 v1))) fun x3 =>
  mb (mcst [2] x3) fun _ =>
  mb (mon 2 x3 (mcall0 (fX3_chair g x3 v2))) fun x4 =>
  mb (aI 0 x1 x4) fun x5 =>
  mret x5
def fX1_cardWidth (g : Nat → Nat) (v0 : Option Nat) : HM (Int32) :=
  mb (mins [6] [7, 8] v0) fun x1 =>
  if x1 = 0 then
  (mb (mins [7] [6, 8] v0) fun x2 =>
  if x2 = 0 then
  (mret 40)
  else
  (mret 28))
  else
  (mret 34)
def fX2_fits (g : Nat → Nat) (v0 : Option Nat) (v1 : Int32) (v2 : Int32) : HM (Int32) :=
  mb (oR 1 5 v0) fun x1 =>
  mb (mon 13 x1 (mcall0 (fJ2_get g x1 v1))) fun x2 =>
  mb (mcst [3] x2) fun _ =>
  mb (mon 3 x2 (mcall0 (fX8_nameWidth g x2))) fun x3 =>
  mb (oR 1 4 v0) fun x4 =>
  mb (mon 13 x4 (mcall0 (fJ2_get g x4 v2))) fun x5 =>
  mb (mcst [2] x5) fun _ =>
  mb (oR 2 0 x5) fun x6 =>
  mb (mcall0 (fX1_cardWidth g x6)) fun x7 =>
  if x7 < x3 then
  (mretT .boolean 0)
  else
  (mretT .boolean 1)
def fX2_whyNotSeated (g : Nat → Nat) (v0 : Option Nat) (v1 : Int32) (v2 : Int32) (v3 : Int32) : HM (Int32) :=
  mb (oR 1 5 v0) fun x1 =>
  mb (mon 13 x1 (mcall0 (fJ2_get g x1 v1))) fun x2 =>
  mb (mcst [3] x2) fun _ =>
  mb (mon 3 x2 (mcall0 (fX8_sits g x2))) fun x3 =>
  if x3 = 0 then
  (mb (mon 1 v0 (mcall0 (fX2_guestOn g v0 v2 v3))) fun x4 =>
  if x4 = (-1) then
  (mb (mon 1 v0 (mcall0 (fX2_fits g v0 v1 v2))) fun x5 =>
  if x5 = 0 then
  (mret 3)
  else
  (mret 0))
  else
  (mret 2))
  else
  (mret 1)
def fX2_seat (g : Nat → Nat) (v0 : Option Nat) (v1 : Int32) (v2 : Int32) (v3 : Int32) : HM (Int32) :=
  mb (oR 1 5 v0) fun x1 =>
  mb (mon 13 x1 (mcall0 (fJ2_size g x1))) fun x2 =>
  mjn (fun (x3 : Int32) =>
  if x3 = 0 then
  (mretT .boolean x3)
  else
  (mb (oR 1 5 v0) fun x4 =>
  mb (mon 13 x4 (mcall0 (fJ2_get g x4 v1))) fun x5 =>
  mb (mcst [3] x5) fun _ =>
  mb (pI 3 3 x5 v2) fun _ =>
  mb (oR 1 5 v0) fun x6 =>
  mb (mon 13 x6 (mcall0 (fJ2_get g x6 v1))) fun x7 =>
  mb (mcst [3] x7) fun _ =>
  mb (pI 3 4 x7 v3) fun _ =>
  mb (mon 1 v0 (mcall0 (fX2_tellSitting g v0))) fun _ =>
  mretT .boolean x3)) fun j66 =>
  if x2 ≤ v1 then
  (j66 0)
  else
  (mb (oR 1 4 v0) fun x8 =>
  mb (mon 13 x8 (mcall0 (fJ2_size g x8))) fun x9 =>
  if x9 ≤ v2 then
  (j66 0)
  else
  (mb (oR 1 4 v0) fun x10 =>
  mb (mon 13 x10 (mcall0 (fJ2_get g x10 v2))) fun x11 =>
  mb (mcst [2] x11) fun _ =>
  mb (oR 2 0 x11) fun x12 =>
  mb (mdsp x12 [(7, mcall0 (fX5_chairs g x12)), (6, mcall0 (fX6_chairs g x12)), (8, mcall0 (fX9_chairs g x12))]) fun x13 =>
  if x13 ≤ v3 then
  (j66 0)
  else
  (mb (mon 1 v0 (mcall0 (fX2_whyNotSeated g v0 v1 v2 v3))) fun x14 =>
  if x14 = 0 then
  (j66 1)
  else
  (j66 0))))
def fX2_unseat (g : Nat → Nat) (v0 : Option Nat) (v1 : Int32) : HM (Int32) :=
  mb (oR 1 5 v0) fun x1 =>
  mb (mon 13 x1 (mcall0 (fJ2_size g x1))) fun x2 =>
  mjn (fun (x3 : Int32) =>
  if x3 = 0 then
  (mretT .boolean x3)
  else
  (mb (oR 1 5 v0) fun x4 =>
  mb (mon 13 x4 (mcall0 (fJ2_get g x4 v1))) fun x5 =>
  mb (mcst [3] x5) fun _ =>
  mb (pI 3 3 x5 (-1)) fun _ =>
  mb (oR 1 5 v0) fun x6 =>
  mb (mon 13 x6 (mcall0 (fJ2_get g x6 v1))) fun x7 =>
  mb (mcst [3] x7) fun _ =>
  mb (pI 3 4 x7 (-1)) fun _ =>
  mb (mon 1 v0 (mcall0 (fX2_tellSitting g v0))) fun _ =>
  mretT .boolean x3)) fun j37 =>
  if x2 ≤ v1 then
  (j37 0)
  else
  (mb (oR 1 5 v0) fun x8 =>
  mb (mon 13 x8 (mcall0 (fJ2_get g x8 v1))) fun x9 =>
  mb (mcst [3] x9) fun _ =>
  mb (mon 3 x9 (mcall0 (fX8_sits g x9))) fun x10 =>
  if x10 = 0 then
  (j37 0)
  else
  (j37 1))
def fX2_whyNotSwapped (g : Nat → Nat) (v0 : Option Nat) (v1 : Int32) (v2 : Int32) : HM (Int32) :=
  mb (oR 1 5 v0) fun x1 =>
  mb (mon 13 x1 (mcall0 (fJ2_get g x1 v1))) fun x2 =>
  mb (mcst [3] x2) fun _ =>
  mb (oR 1 5 v0) fun x3 =>
  mb (mon 13 x3 (mcall0 (fJ2_get g x3 v2))) fun x4 =>
  mb (mcst [3] x4) fun _ =>
  mb (mon 3 x2 (mcall0 (fX8_sits g x2))) fun x5 =>
  if x5 = 0 then
  (mret 1)
  else
  (mb (mon 3 x4 (mcall0 (fX8_sits g x4))) fun x6 =>
  if x6 = 0 then
  (mret 1)
  else
  (if v1 = v2 then
  (mret 2)
  else
  (mb (oI 3 3 x4) fun x7 =>
  mb (mon 1 v0 (mcall0 (fX2_fits g v0 v1 x7))) fun x8 =>
  if x8 = 0 then
  (mret 3)
  else
  (mb (oI 3 3 x2) fun x9 =>
  mb (mon 1 v0 (mcall0 (fX2_fits g v0 v2 x9))) fun x10 =>
  if x10 = 0 then
  (mret 3)
  else
  (mret 0)))))
def fX2_swapGuests (g : Nat → Nat) (v0 : Option Nat) (v1 : Int32) (v2 : Int32) : HM (Int32) :=
  mb (oR 1 5 v0) fun x1 =>
  mb (mon 13 x1 (mcall0 (fJ2_size g x1))) fun x2 =>
  mjn (fun (x3 : Int32) =>
  if x3 = 0 then
  (mretT .boolean x3)
  else
  (mb (oR 1 5 v0) fun x4 =>
  mb (mon 13 x4 (mcall0 (fJ2_get g x4 v1))) fun x5 =>
  mb (mcst [3] x5) fun _ =>
  mb (oR 1 5 v0) fun x6 =>
  mb (mon 13 x6 (mcall0 (fJ2_get g x6 v2))) fun x7 =>
  mb (mcst [3] x7) fun _ =>
  mb (oI 3 3 x5) fun x8 =>
  mb (oI 3 4 x5) fun x9 =>
  mb (oI 3 3 x7) fun x10 =>
  mb (pI 3 3 x5 x10) fun _ =>
  mb (oI 3 4 x7) fun x11 =>
  mb (pI 3 4 x5 x11) fun _ =>
  mb (pI 3 3 x7 x8) fun _ =>
  mb (pI 3 4 x7 x9) fun _ =>
  mb (mon 1 v0 (mcall0 (fX2_tellSitting g v0))) fun _ =>
  mretT .boolean x3)) fun j40 =>
  if x2 ≤ v1 then
  (j40 0)
  else
  (mb (oR 1 5 v0) fun x12 =>
  mb (mon 13 x12 (mcall0 (fJ2_size g x12))) fun x13 =>
  if x13 ≤ v2 then
  (j40 0)
  else
  (mb (mon 1 v0 (mcall0 (fX2_whyNotSwapped g v0 v1 v2))) fun x14 =>
  if x14 = 0 then
  (j40 1)
  else
  (j40 0)))
def fX2_whyNoDoor (g : Nat → Nat) (v0 : Option Nat) (v1 : Int32) : HM (Int32) :=
  mb (mon 1 v0 (mcall 2411 2218 (fX2_copy g v0))) fun x1 =>
  mb (pI 1 1 x1 v1) fun _ =>
  mb (mon 1 x1 (mcall 2411 193 (fX2_draw g x1))) fun x2 =>
  mret x2
def fX2_hasGuestsAt_L12 (g : Nat → Nat) : Nat → Option Nat → Int32 → Int32 → Int32 → HM (Int32)
  | 0, _, _, _, _ => mfail
  | n + 1, v0, v1, v2, v3 =>
  if v2 ≤ v3 then
  (mretT .boolean 0)
  else
  (mb (oR 1 5 v0) fun x1 =>
  mb (mon 13 x1 (mcall0 (fJ2_get g x1 v3))) fun x2 =>
  mb (mcst [3] x2) fun _ =>
  mb (oI 3 3 x2) fun x3 =>
  if x3 = v1 then
  (mretT .boolean 1)
  else
  (fX2_hasGuestsAt_L12 g n v0 v1 v2 (v3 + 1)))
def fX2_hasGuestsAt (g : Nat → Nat) (v0 : Option Nat) (v1 : Int32) : HM (Int32) :=
  mb (oR 1 5 v0) fun x4 =>
  mb (mon 13 x4 (mcall0 (fJ2_size g x4))) fun x5 =>
  fX2_hasGuestsAt_L12 g 5000 v0 v1 x5 0 
def fX2_removeTable_L23 (g : Nat → Nat) : Nat → Option Nat → Int32 → Int32 → Int32 → (HM (Unit)) → HM (Unit)
  | 0, _, _, _, _, _ => mfail
  | n + 1, v0, v1, v2, v3, K0 =>
  if v2 ≤ v3 then
  (K0)
  else
  (mb (oR 1 5 v0) fun x1 =>
  mb (mon 13 x1 (mcall0 (fJ2_get g x1 v3))) fun x2 =>
  mb (mcst [3] x2) fun _ =>
  mb (oI 3 3 x2) fun x3 =>
  mb (oI 3 3 x2) fun x4 =>
  mjn (fun (x5 : Int32) =>
  mb (pI 3 3 x2 (x3 - x5)) fun _ =>
  fX2_removeTable_L23 g n v0 v1 v2 (v3 + 1) K0) fun j63 =>
  if x4 ≤ v1 then
  (j63 0)
  else
  (j63 1))
def fX2_removeTable (g : Nat → Nat) (v0 : Option Nat) (v1 : Int32) : HM (Unit) :=
  mb (oR 1 4 v0) fun x6 =>
  mb (mon 13 x6 (mcall0 (fJ2_remove g x6 v1))) fun x7 =>
  mb (oR 1 5 v0) fun x8 =>
  mb (mon 13 x8 (mcall0 (fJ2_size g x8))) fun x9 =>
  fX2_removeTable_L23 g 5000 v0 v1 x9 0 (mb (mon 1 v0 (mcall 193 193 (fX2_tellAnew g v0))) fun x10 =>
  mret ())
def fX2_stepsFromChair_L51 (g : Nat → Nat) : Nat → Option Nat → Option Nat → Option Nat → Int32 → Int32 → Int32 → Int32 → (Int32 → HM (Int32)) → HM (Int32)
  | 0, _, _, _, _, _, _, _, _ => mfail
  | n + 1, v0, v2, v3, v4, v5, v6, v7, K0 =>
  if 4 ≤ v7 then
  (K0 v5)
  else
  (mb (mcall0 (fX2_beside g v6 v7)) fun x1 =>
  mjn (fun (x2 : Int32) =>
  fX2_stepsFromChair_L51 g n v0 v2 v3 v4 x2 v6 (v7 + 1) K0) fun j118 =>
  if x1 < 0 then
  (j118 v5)
  else
  (mb (aI 0 v2 x1) fun x3 =>
  if x3 = 0 then
  (mb (oR 1 7 v0) fun x4 =>
  mb (aI 0 x4 x1) fun x5 =>
  mjn0 (  mb (aI 0 v2 v6) fun x6 =>
  mb (sI v2 x1 (x6 + 1)) fun _ =>
  mb (sI v3 v5 x1) fun _ =>
  j118 (v5 + 1)) fun j99 =>
  if x5 = 0 then
  (j99)
  else
  (mb (oR 1 7 v0) fun x7 =>
  mb (aI 0 x7 x1) fun x8 =>
  if x8 = 2 then
  (j99)
  else
  (j118 v5)))
  else
  (j118 v5)))
def fX2_stepsFromChair_L30 (g : Nat → Nat) : Nat → Option Nat → Option Nat → Option Nat → Int32 → Int32 → (HM (Int32)) → HM (Int32)
  | 0, _, _, _, _, _, _ => mfail
  | n + 1, v0, v2, v3, v4, v5, K0 =>
  mb (oI 1 1 v0) fun x9 =>
  mb (aI 0 v2 x9) fun x10 =>
  if x10 = 0 then
  (mb (aI 0 v3 v4) fun x11 =>
  fX2_stepsFromChair_L51 g 5000 v0 v2 v3 (v4 + 1) v5 x11 0 (fun (x12 : Int32) =>
  fX2_stepsFromChair_L30 g n v0 v2 v3 (v4 + 1) x12 K0))
  else
  (K0)
def fX2_stepsFromChair (g : Nat → Nat) (v0 : Option Nat) (v1 : Int32) : HM (Int32) :=
  mb (nA 386 0 192) fun x13 =>
  mb (nA 386 0 192) fun x14 =>
  mb (sI x13 v1 1) fun _ =>
  mb (sI x14 0 v1) fun _ =>
  fX2_stepsFromChair_L30 g 5000 v0 x13 x14 0 (0 + 1) (mb (oI 1 1 v0) fun x15 =>
  mb (aI 0 x13 x15) fun x16 =>
  mret (x16 - 1))
def fJ23_init (g : Nat → Nat) (v0 : Option Nat) : HM (Unit) :=
  mb (mnn v0) fun _ =>
  mret ()
def fJ24_init (g : Nat → Nat) (v0 : Option Nat) (v1 : Int32) : HM (Unit) :=
  mb (mnn v0) fun _ => mb (mcall0 (fJ23_init g v0)) fun _ =>
  mb (pI 23 0 v0 v1) fun _ =>
  mret ()
def fJ24_valueOf (g : Nat → Nat) (v0 : Int32) : HM (Option Nat) :=
  mjn0 (  mb (nO 2 23 [.int 0]) fun x1 =>
  mb (mnn x1) fun _ => mb (mcall0 (fJ24_init g x1 v0)) fun _ =>
  mret x1) fun j23 =>
  if v0 < (-128) then
  (j23)
  else
  (if 127 < v0 then
  (j23)
  else
  (mb (sC g (v0 + 128)) fun x3 =>
  mret x3))
def fX2_placeByName_L67 (g : Nat → Nat) : Nat → Int32 → Option Nat → Int32 → HM (Int32)
  | 0, _, _, _ => mfail
  | n + 1, v1, v2, v4 =>
  mb (mon 18 v2 (mcall0 (fJ6_firstKey g v2))) fun x1 =>
  mb (mcst [3] x1) fun _ =>
  mb (oI 3 0 x1) fun x2 =>
  if x2 = v1 then
  (mret v4)
  else
  (mb (mon 18 v2 (mcall0 (fJ6_firstKey g v2))) fun x3 =>
  mb (mon 18 v2 (mcall0 (fJ6_remove g v2 x3))) fun x4 =>
  fX2_placeByName_L67 g n v1 v2 (v4 + 1))
def fX2_placeByName_L28 (g : Nat → Nat) : Nat → Option Nat → Int32 → Option Nat → Int32 → Int32 → (HM (Int32)) → HM (Int32)
  | 0, _, _, _, _, _, _ => mfail
  | n + 1, v0, v1, v2, v3, v4, K0 =>
  if v3 ≤ v4 then
  (K0)
  else
  (mb (oR 1 5 v0) fun x5 =>
  mb (mon 13 x5 (mcall0 (fJ2_get g x5 v4))) fun x6 =>
  mb (mcst [3] x6) fun _ =>
  mb (mcall 203 2 (fJ24_valueOf g v4)) fun x7 =>
  mb (mon 18 v2 (mcall 203 14 (fJ6_put g v2 x6 x7))) fun x8 =>
  fX2_placeByName_L28 g n v0 v1 v2 v3 (v4 + 1) K0)
def fX2_placeByName (g : Nat → Nat) (v0 : Option Nat) (v1 : Int32) : HM (Int32) :=
  mb (nO 203 18 [.null, .null, .null, .null, .int 0, .int 0, .null, .null, .null]) fun x9 =>
  mb (nO 203 9 []) fun x10 =>
  mb (mnn x10) fun _ => mb (mcall0 (fX11_init g x10)) fun _ =>
  mb (mnn x9) fun _ => mb (mcall0 (fJ6_init_2 g x9 x10)) fun _ =>
  mb (oR 1 5 v0) fun x13 =>
  mb (mon 13 x13 (mcall0 (fJ2_size g x13))) fun x14 =>
  fX2_placeByName_L28 g 5000 v0 v1 x9 x14 0 (fX2_placeByName_L67 g 5000 v1 x9 0)
def fX2_isOnLine (g : Nat → Nat) (v0 : Option Nat) (v1 : Int32) (v2 : Int32) : HM (Int32) :=
  if (v1 / 16) ≤ (v2 / 16) then
  (mretT .boolean 0)
  else
  (mb (mon 1 v0 (mcall0 (fX2_line g v0 v1 (v2 / 16)))) fun x1 =>
  if x1 = (imod v2 16) then
  (mretT .boolean 1)
  else
  (mretT .boolean 0))
def fX2_seesByObstacles_L131 (g : Nat → Nat) : Nat → Option Nat → Option Nat → Int32 → Int32 → Int32 → Int32 → Option Nat → Int32 → Int32 → (Int32 → HM (Int32)) → HM (Int32)
  | 0, _, _, _, _, _, _, _, _, _, _ => mfail
  | n + 1, v0, v2, v3, v4, v5, v6, v7, v8, v9, K0 =>
  if v8 ≤ v9 then
  (K0 v4)
  else
  (mb (oI 2 4 v7) fun x1 =>
  mb (oI 3 2 v2) fun x2 =>
  mjn (fun (x3 : Int32) =>
  fX2_seesByObstacles_L131 g n v0 v2 v3 (v4 &&& x3) v5 v6 v7 v8 (v9 + 1) K0) fun j172 =>
  if x1 < x2 then
  (j172 1)
  else
  (mb (mon 2 v7 (mcall0 (fX3_cell g v7 v9))) fun x4 =>
  mb (mon 1 v0 (mcall0 (fX2_isOnLine g v0 v3 x4))) fun x5 =>
  if x5 = 0 then
  (j172 1)
  else
  (j172 0)))
def fX2_seesByObstacles_L35 (g : Nat → Nat) : Nat → Option Nat → Option Nat → Int32 → Int32 → Int32 → (Int32 → HM (Int32)) → HM (Int32)
  | 0, _, _, _, _, _, _ => mfail
  | n + 1, v0, v2, v3, v4, v5, K0 =>
  if 192 ≤ v5 then
  (K0 v4)
  else
  (mb (oR 1 2 v0) fun x6 =>
  mb (aI 1 x6 v5) fun x7 =>
  mjn (fun (x8 : Int32) =>
  fX2_seesByObstacles_L35 g n v0 v2 v3 (v4 &&& x8) (v5 + 1) K0) fun j70 =>
  if x7 = 0 then
  (j70 1)
  else
  (mb (mon 1 v0 (mcall0 (fX2_isOnLine g v0 v3 v5))) fun x9 =>
  if x9 = 0 then
  (j70 1)
  else
  (j70 0)))
def fX2_seesByObstacles_L201 (g : Nat → Nat) : Nat → Option Nat → Option Nat → Int32 → Int32 → Int32 → Int32 → HM (Int32)
  | 0, _, _, _, _, _, _ => mfail
  | n + 1, v0, v2, v3, v4, v5, v6 =>
  if v5 ≤ v6 then
  (mretT .boolean v4)
  else
  (mb (oR 1 5 v0) fun x10 =>
  mb (mon 13 x10 (mcall0 (fJ2_get g x10 v6))) fun x11 =>
  mb (mcst [3] x11) fun _ =>
  mb (mon 3 x11 (mcall0 (fX8_sits g x11))) fun x12 =>
  mjn (fun (x13 : Int32) =>
  fX2_seesByObstacles_L201 g n v0 v2 v3 (v4 &&& x13) v5 (v6 + 1)) fun j265 =>
  if x12 = 0 then
  (j265 1)
  else
  (mb (oI 3 2 x11) fun x14 =>
  mb (oI 3 2 v2) fun x15 =>
  if x14 ≤ x15 then
  (j265 1)
  else
  (mb (mon 1 v0 (mcall0 (fX2_cellOf g v0 x11))) fun x16 =>
  mb (mon 1 v0 (mcall0 (fX2_isOnLine g v0 v3 x16))) fun x17 =>
  if x17 = 0 then
  (j265 1)
  else
  (j265 0))))
def fX2_seesByObstacles_L93 (g : Nat → Nat) : Nat → Option Nat → Option Nat → Int32 → Int32 → Int32 → Int32 → (Int32 → HM (Int32)) → HM (Int32)
  | 0, _, _, _, _, _, _, _ => mfail
  | n + 1, v0, v2, v3, v4, v5, v6, K0 =>
  if v5 ≤ v6 then
  (K0 v4)
  else
  (mb (oR 1 4 v0) fun x18 =>
  mb (mon 13 x18 (mcall0 (fJ2_get g x18 v6))) fun x19 =>
  mb (mcst [2] x19) fun _ =>
  mb (oR 2 0 x19) fun x20 =>
  mb (mdsp x20 [(7, mcall0 (fX5_cells g x20)), (6, mcall0 (fX6_cells g x20)), (8, mcall0 (fX9_cells g x20))]) fun x21 =>
  fX2_seesByObstacles_L131 g 5000 v0 v2 v3 v4 v5 v6 x19 x21 0 (fun (x22 : Int32) =>
  fX2_seesByObstacles_L93 g n v0 v2 v3 x22 v5 (v6 + 1) K0))
def fX2_seesByObstacles (g : Nat → Nat) (v0 : Option Nat) (v1 : Int32) : HM (Int32) :=
  mb (oR 1 5 v0) fun x23 =>
  mb (mon 13 x23 (mcall0 (fJ2_get g x23 v1))) fun x24 =>
  mb (mcst [3] x24) fun _ =>
  mb (mon 3 x24 (mcall0 (fX8_sits g x24))) fun x25 =>
  if x25 = 0 then
  (mretT .boolean 0)
  else
  (mb (mon 1 v0 (mcall0 (fX2_cellOf g v0 x24))) fun x26 =>
  fX2_seesByObstacles_L35 g 5000 v0 x24 x26 1 0 (fun (x27 : Int32) =>
  mb (oR 1 4 v0) fun x28 =>
  mb (mon 13 x28 (mcall0 (fJ2_size g x28))) fun x29 =>
  fX2_seesByObstacles_L93 g 5000 v0 x24 x26 x27 x29 0 (fun (x30 : Int32) =>
  mb (oR 1 5 v0) fun x31 =>
  mb (mon 13 x31 (mcall0 (fJ2_size g x31))) fun x32 =>
  fX2_seesByObstacles_L201 g 5000 v0 x24 x26 x30 x32 0 )))
def fX2_isBetter (g : Nat → Nat) (v0 : Option Nat) (v1 : Int32) (v2 : Int32) : HM (Int32) :=
  if (v1 / 16) = (v2 / 16) then
  (mb (oR 1 8 v0) fun x1 =>
  mb (aI 0 x1 v1) fun x2 =>
  mb (oR 1 8 v0) fun x3 =>
  mb (aI 0 x3 v2) fun x4 =>
  if x4 ≤ x2 then
  (mretT .boolean 0)
  else
  (mretT .boolean 1))
  else
  (if (v2 / 16) ≤ (v1 / 16) then
  (mretT .boolean 0)
  else
  (mretT .boolean 1))
def fX2_bestChair_L85 (g : Nat → Nat) : Nat → Option Nat → Int32 → Option Nat → Int32 → Int32 → Int32 → Int32 → Option Nat → Int32 → Int32 → (Int32 → Int32 → HM (Int32)) → HM (Int32)
  | 0, _, _, _, _, _, _, _, _, _, _, _ => mfail
  | n + 1, v0, v1, v2, v3, v4, v5, v6, v7, v8, v9, K0 =>
  if v8 ≤ v9 then
  (K0 v3 v4)
  else
  (mb (mon 2 v7 (mcall0 (fX3_chair g v7 v9))) fun x1 =>
  mb (oR 1 9 v0) fun x2 =>
  mb (aI 0 x2 x1) fun x3 =>
  mjn (fun (x4 : Int32) =>
  mjn2 (fun (x5 : Int32) (x6 : Int32) =>
  fX2_bestChair_L85 g n v0 v1 v2 x5 x6 v5 v6 v7 v8 (v9 + 1) K0) fun j175 =>
  if x4 = 0 then
  (j175 v3 v4)
  else
  (mb (mon 1 v0 (mcall0 (fX2_blockedFrom g v0 x1 v2))) fun x7 =>
  if x7 = (-1) then
  (mjn0 (  j175 ((8 * v6) + v9) x1) fun j162 =>
  if v3 = (-1) then
  (j162)
  else
  (mb (mon 1 v0 (mcall0 (fX2_isBetter g v0 x1 v4))) fun x8 =>
  if x8 = 0 then
  (j175 v3 v4)
  else
  (j162)))
  else
  (j175 v3 v4))) fun j128 =>
  if x3 = (-1) then
  (j128 1)
  else
  (mb (oR 1 9 v0) fun x9 =>
  mb (aI 0 x9 x1) fun x10 =>
  if x10 = v1 then
  (j128 1)
  else
  (j128 0)))
def fX2_bestChair_L33 (g : Nat → Nat) : Nat → Option Nat → Int32 → Option Nat → Int32 → Int32 → Int32 → Int32 → HM (Int32)
  | 0, _, _, _, _, _, _, _ => mfail
  | n + 1, v0, v1, v2, v3, v4, v5, v6 =>
  if v5 ≤ v6 then
  (mret v3)
  else
  (mb (oR 1 4 v0) fun x11 =>
  mb (mon 13 x11 (mcall0 (fJ2_get g x11 v6))) fun x12 =>
  mb (mcst [2] x12) fun _ =>
  mb (mon 1 v0 (mcall0 (fX2_fits g v0 v1 v6))) fun x13 =>
  mjn (fun (x14 : Int32) =>
  fX2_bestChair_L85 g 5000 v0 v1 v2 v3 v4 v5 v6 x12 x14 0 (fun (x15 : Int32) (x16 : Int32) =>
  fX2_bestChair_L33 g n v0 v1 v2 x15 x16 v5 (v6 + 1))) fun j80 =>
  if x13 = 0 then
  (j80 0)
  else
  (mb (oR 2 0 x12) fun x17 =>
  mb (mdsp x17 [(7, mcall0 (fX5_chairs g x17)), (6, mcall0 (fX6_chairs g x17)), (8, mcall0 (fX9_chairs g x17))]) fun x18 =>
  j80 x18))
def fX2_bestChair (g : Nat → Nat) (v0 : Option Nat) (v1 : Int32) : HM (Int32) :=
  mb (oR 1 5 v0) fun x19 =>
  mb (mon 13 x19 (mcall0 (fJ2_get g x19 v1))) fun x20 =>
  mb (mcst [3] x20) fun _ =>
  mb (oR 1 4 v0) fun x21 =>
  mb (mon 13 x21 (mcall0 (fJ2_size g x21))) fun x22 =>
  fX2_bestChair_L33 g 5000 v0 v1 x20 (-1) (-1) x22 0 
def fJ34_init (g : Nat → Nat) (v0 : Option Nat) (v1 : Option Nat) : HM (Unit) :=
  mb (mnn v0) fun _ => mb (mcall 12 12 (fJ34_init_2 g v0 11 v1)) fun _ =>
  mret ()
def fX2_servedAt_L100 (g : Nat → Nat) : Nat → Int32 → Option Nat → Int32 → (HM (Int32)) → HM (Int32)
  | 0, _, _, _, _ => mfail
  | n + 1, v1, v2, v4, K0 =>
  if v1 ≤ v4 then
  (K0)
  else
  (mb (mon 22 v2 (mcall0 (fJ34_poll g v2))) fun x1 =>
  fX2_servedAt_L100 g n v1 v2 (v4 + 1) K0)
def fX2_servedAt_L28 (g : Nat → Nat) : Nat → Option Nat → Int32 → Option Nat → Int32 → Int32 → (HM (Int32)) → HM (Int32)
  | 0, _, _, _, _, _, _ => mfail
  | n + 1, v0, v1, v2, v3, v4, K0 =>
  if v3 ≤ v4 then
  (K0)
  else
  (mb (oR 1 5 v0) fun x2 =>
  mb (mon 13 x2 (mcall0 (fJ2_get g x2 v4))) fun x3 =>
  mb (mcst [3] x3) fun _ =>
  mb (mon 3 x3 (mcall0 (fX8_sits g x3))) fun x4 =>
  mjn0 (  fX2_servedAt_L28 g n v0 v1 v2 v3 (v4 + 1) K0) fun j91 =>
  if x4 = 0 then
  (j91)
  else
  (mb (nO 330 5 [.int 0, .int 0]) fun x5 =>
  mb (oR 1 8 v0) fun x6 =>
  mb (oR 1 5 v0) fun x7 =>
  mb (mon 13 x7 (mcall0 (fJ2_get g x7 v4))) fun x8 =>
  mb (mcst [3] x8) fun _ =>
  mb (mon 1 v0 (mcall0 (fX2_cellOf g v0 x8))) fun x9 =>
  mb (aI 0 x6 x9) fun x10 =>
  mb (mnn x5) fun _ => mb (mcall0 (fX13_init g x5 v4 x10)) fun _ =>
  mb (mon 22 v2 (mcall 330 23 (fJ34_add g v2 x5))) fun x12 =>
  j91))
def fX2_servedAt (g : Nat → Nat) (v0 : Option Nat) (v1 : Int32) : HM (Int32) :=
  mb (nO 330 22 [.null, .int 0, .null, .int 0]) fun x13 =>
  mb (nO 330 10 []) fun x14 =>
  mb (mnn x14) fun _ => mb (mcall0 (fX12_init g x14)) fun _ =>
  mb (mnn x13) fun _ => mb (mcall 330 12 (fJ34_init g x13 x14)) fun _ =>
  mb (oR 1 5 v0) fun x17 =>
  mb (mon 13 x17 (mcall0 (fJ2_size g x17))) fun x18 =>
  fX2_servedAt_L28 g 5000 v0 v1 x13 x18 0 (fX2_servedAt_L100 g 5000 v1 x13 0 (mb (mon 22 x13 (mcall0 (fJ34_poll g x13))) fun x19 =>
  mb (mcst [5] x19) fun _ =>
  mb (oI 5 0 x19) fun x20 =>
  mret x20))
def fX2_placeOf_L51 (g : Nat → Nat) : Nat → Option Nat → Int32 → Int32 → Int32 → Int32 → Int32 → HM (Int32)
  | 0, _, _, _, _, _, _ => mfail
  | n + 1, v0, v1, v3, v4, v5, v6 =>
  if v4 ≤ v6 then
  (mret v5)
  else
  (mb (oR 1 5 v0) fun x1 =>
  mb (mon 13 x1 (mcall0 (fJ2_get g x1 v6))) fun x2 =>
  mb (mcst [3] x2) fun _ =>
  mb (mon 3 x2 (mcall0 (fX8_sits g x2))) fun x3 =>
  mjn (fun (x4 : Int32) =>
  fX2_placeOf_L51 g n v0 v1 v3 v4 x4 (v6 + 1)) fun j123 =>
  if x3 = 0 then
  (j123 v5)
  else
  (mb (oR 1 8 v0) fun x5 =>
  mb (mon 1 v0 (mcall0 (fX2_cellOf g v0 x2))) fun x6 =>
  mb (aI 0 x5 x6) fun x7 =>
  mjn (fun (x8 : Int32) =>
  j123 (v5 + x8)) fun j120 =>
  if x7 < v3 then
  (j120 1)
  else
  (if x7 = v3 then
  (if v1 ≤ v6 then
  (j120 0)
  else
  (j120 1))
  else
  (j120 0))))
def fX2_placeOf (g : Nat → Nat) (v0 : Option Nat) (v1 : Int32) : HM (Int32) :=
  mb (oR 1 5 v0) fun x9 =>
  mb (mon 13 x9 (mcall0 (fJ2_get g x9 v1))) fun x10 =>
  mb (mcst [3] x10) fun _ =>
  mb (mon 3 x10 (mcall0 (fX8_sits g x10))) fun x11 =>
  if x11 = 0 then
  (mret (-1))
  else
  (mb (oR 1 8 v0) fun x12 =>
  mb (mon 1 v0 (mcall0 (fX2_cellOf g v0 x10))) fun x13 =>
  mb (aI 0 x12 x13) fun x14 =>
  mb (oR 1 5 v0) fun x15 =>
  mb (mon 13 x15 (mcall0 (fJ2_size g x15))) fun x16 =>
  fX2_placeOf_L51 g 5000 v0 v1 x14 x16 0 0)
def fX1_init (g : Nat → Nat) (v0 : Option Nat) : HM (Unit) :=
  mb (mnn v0) fun _ =>
  mb (nO 1040 1 [.int 0, .int 0, .null, .int 0, .null, .null, .null, .null, .null, .null]) fun x1 =>
  mb (mnn x1) fun _ => mb (mcall 1040 985 (fX2_init g x1)) fun _ =>
  mb (pR 0 0 v0 x1) fun _ =>
  mb (nO 1040 14 [.null, .int 0, .int 0]) fun x3 =>
  mb (mnn x3) fun _ => mb (mcall 1040 18 (fJ10_init g x3)) fun _ =>
  mb (pR 0 2 v0 x3) fun _ =>
  mb (nO 1040 15 [.null, .int 0, .int 0, .int 0]) fun x5 =>
  mb (mnn x5) fun _ => mb (mcall 1040 17 (fJ12_init g x5)) fun _ =>
  mb (pR 0 3 v0 x5) fun _ =>
  mret ()
def fX1_stage (g : Nat → Nat) (v0 : Option Nat) : HM (Int32) :=
  mb (oR 0 0 v0) fun x1 =>
  mb (oI 1 0 x1) fun x2 =>
  mret x2
def fX1_door (g : Nat → Nat) (v0 : Option Nat) : HM (Int32) :=
  mb (oR 0 0 v0) fun x1 =>
  mb (oI 1 1 x1) fun x2 =>
  mret x2
def fX1_pillars (g : Nat → Nat) (v0 : Option Nat) : HM (Int32) :=
  mb (oR 0 0 v0) fun x1 =>
  mb (oI 1 3 x1) fun x2 =>
  mret x2
def fX1_tables (g : Nat → Nat) (v0 : Option Nat) : HM (Int32) :=
  mb (oR 0 0 v0) fun x1 =>
  mb (oR 1 4 x1) fun x2 =>
  mb (mon 13 x2 (mcall0 (fJ2_size g x2))) fun x3 =>
  mret x3
def fX1_longestWay (g : Nat → Nat) (v0 : Option Nat) : HM (Int32) :=
  mb (oR 0 0 v0) fun x1 =>
  mb (mon 1 x1 (mcall0 (fX2_longestWay g x1))) fun x2 =>
  mret x2
def fX1_guests (g : Nat → Nat) (v0 : Option Nat) : HM (Int32) :=
  mb (oR 0 0 v0) fun x1 =>
  mb (oR 1 5 x1) fun x2 =>
  mb (mon 13 x2 (mcall0 (fJ2_size g x2))) fun x3 =>
  mret x3
def fX1_seeing (g : Nat → Nat) (v0 : Option Nat) : HM (Int32) :=
  mb (oR 0 0 v0) fun x1 =>
  mb (mon 1 x1 (mcall0 (fX2_seeing g x1))) fun x2 =>
  mret x2
noncomputable def fX1_seeingShare (g : Nat → Nat) (v0 : Option Nat) : HM (UInt64) :=
  mb (oR 0 0 v0) fun x1 =>
  mb (mon 1 x1 (mcall0 (fX2_seated g x1))) fun x2 =>
  mjn (fun (x3 : UInt64) =>
  mret x3) fun j27 =>
  if x2 = 0 then
  (j27 (FP.dconst0))
  else
  (mb (oR 0 0 v0) fun x4 =>
  mb (mon 1 x4 (mcall0 (fX2_seeing g x4))) fun x5 =>
  mb (mdv (FP.i2d x5) (FP.i2d x2)) fun _ =>
  j27 (FP.ddiv (FP.i2d x5) (FP.i2d x2)))
def fX1_seated (g : Nat → Nat) (v0 : Option Nat) : HM (Int32) :=
  mb (oR 0 0 v0) fun x1 =>
  mb (mon 1 x1 (mcall0 (fX2_seated g x1))) fun x2 =>
  mret x2
def fX1_pairs (g : Nat → Nat) (v0 : Option Nat) : HM (Int32) :=
  mb (oR 0 0 v0) fun x1 =>
  mb (oR 1 6 x1) fun x2 =>
  mb (mon 17 x2 (mcall0 (fJ4_size g x2))) fun x3 =>
  mret x3
def fX1_nearByPairs (g : Nat → Nat) (v0 : Option Nat) : HM (Int32) :=
  mb (oR 0 0 v0) fun x1 =>
  mb (mon 1 x1 (mcall 7 7 (fX2_nearByPairs g x1))) fun x2 =>
  mret x2
def fX1_nearByChairs (g : Nat → Nat) (v0 : Option Nat) : HM (Int32) :=
  mb (oR 0 0 v0) fun x1 =>
  mb (mon 1 x1 (mcall 5184 5184 (fX2_nearByChairs g x1))) fun x2 =>
  mret x2
def fX1_clearText (g : Nat → Nat) (v0 : Option Nat) : HM (Int32) :=
  mb (oR 0 3 v0) fun x1 =>
  mb (mon 15 x1 (mcall0 (fJ12_length g x1))) fun x2 =>
  mb (oR 0 3 v0) fun x3 =>
  mb (mon 15 x3 (mcall 51 51 (fJ12_setLength g x3 0))) fun _ =>
  mret x2
def fX14_init (g : Nat → Nat) (v0 : Option Nat) (v1 : Option Nat) : HM (Unit) :=
  mb (pR 11 4 v0 v1) fun _ =>
  mb (mnn v0) fun _ =>
  mb (nA 61 5 60) fun x1 =>
  mb (pR 11 2 v0 x1) fun _ =>
  mret ()
def fX14_next (g : Nat → Nat) (v0 : Option Nat) : HM (Int32) :=
  mb (oI 11 0 v0) fun x1 =>
  mb (oR 11 4 v0) fun x2 =>
  mb (oR 0 3 x2) fun x3 =>
  mb (mon 15 x3 (mcall0 (fJ12_length g x3))) fun x4 =>
  if x4 ≤ x1 then
  (mretT .char 126)
  else
  (mb (oR 11 4 v0) fun x5 =>
  mb (oR 0 3 x5) fun x6 =>
  mb (oI 11 0 v0) fun x7 =>
  mb (mon 15 x6 (mcall0 (fJ12_charAt g x6 x7))) fun x8 =>
  mretT .char x8)
def fX14_number_L58 (g : Nat → Nat) : Nat → Option Nat → Int32 → Int32 → HM (Int32)
  | 0, _, _, _ => mfail
  | n + 1, v0, v1, v2 =>
  mb (oI 11 1 v0) fun x1 =>
  if x1 = 0 then
  (if v2 ≤ 0 then
  (mret v2)
  else
  (mb (mon 11 v0 (mcall0 (fX14_next g v0))) fun x2 =>
  if x2 < 48 then
  (mret v2)
  else
  (mb (mon 11 v0 (mcall0 (fX14_next g v0))) fun x3 =>
  if 57 < x3 then
  (mret v2)
  else
  (mb (mon 11 v0 (mcall0 (fX14_next g v0))) fun x4 =>
  if v1 < (((10 * v2) + x4) - 48) then
  (mret v2)
  else
  (mb (mon 11 v0 (mcall0 (fX14_next g v0))) fun x5 =>
  mb (oI 11 0 v0) fun x6 =>
  mb (pI 11 0 v0 (x6 + 1)) fun _ =>
  fX14_number_L58 g n v0 v1 (((10 * v2) + x5) - 48))))))
  else
  (mret v2)
def fX14_number (g : Nat → Nat) (v0 : Option Nat) (v1 : Int32) : HM (Int32) :=
  mb (mon 11 v0 (mcall0 (fX14_next g v0))) fun x7 =>
  mb (oI 11 1 v0) fun x8 =>
  mjn (fun (x9 : Int32) =>
  mb (pZ 11 1 v0 (x8 ||| x9)) fun _ =>
  mb (oI 11 0 v0) fun x10 =>
  mb (oI 11 1 v0) fun x11 =>
  mjn (fun (x12 : Int32) =>
  mb (pI 11 0 v0 (x10 + x12)) fun _ =>
  fX14_number_L58 g 5000 v0 v1 (x7 - 48) ) fun j54 =>
  if x11 = 0 then
  (j54 1)
  else
  (j54 0)) fun j33 =>
  if (x7 - 48) < 0 then
  (j33 1)
  else
  (if 9 < (x7 - 48) then
  (j33 1)
  else
  (if (x7 - 48) ≤ v1 then
  (j33 0)
  else
  (j33 1)))
def fX14_sign (g : Nat → Nat) (v0 : Option Nat) (v1 : Int32) : HM (Unit) :=
  mb (oI 11 1 v0) fun x1 =>
  mb (mon 11 v0 (mcall0 (fX14_next g v0))) fun x2 =>
  mjn (fun (x3 : Int32) =>
  mb (pZ 11 1 v0 (x1 ||| x3)) fun _ =>
  mb (oI 11 0 v0) fun x4 =>
  mb (oI 11 1 v0) fun x5 =>
  mjn (fun (x6 : Int32) =>
  mb (pI 11 0 v0 (x4 + x6)) fun _ =>
  mret ()) fun j39 =>
  if x5 = 0 then
  (j39 1)
  else
  (j39 0)) fun j18 =>
  if x2 = v1 then
  (j18 0)
  else
  (j18 1)
def fX14_after (g : Nat → Nat) (v0 : Option Nat) (v1 : Int32) (v2 : Int32) : HM (Int32) :=
  mb (mon 11 v0 (mcall0 (fX14_sign g v0 v1))) fun _ =>
  mb (mon 11 v0 (mcall0 (fX14_number g v0 v2))) fun x1 =>
  mret x1
def fX14_adding (g : Nat → Nat) (v0 : Option Nat) (v1 : Int32) : HM (Option Nat) :=
  mb (mon 11 v0 (mcall0 (fX14_after g v0 64 15))) fun x1 =>
  mb (mon 11 v0 (mcall0 (fX14_after g v0 44 11))) fun x2 =>
  mb (mon 11 v0 (mcall0 (fX14_after g v0 58 3))) fun x3 =>
  mb (nO 5 100 [.int v1, .int x1, .int x2, .int x3]) fun x4 =>
  mret x4
def fX14_moving (g : Nat → Nat) (v0 : Option Nat) (v1 : Int32) : HM (Option Nat) :=
  mb (mon 11 v0 (mcall0 (fX14_after g v0 64 15))) fun x1 =>
  mb (mon 11 v0 (mcall0 (fX14_after g v0 44 11))) fun x2 =>
  mb (nO 4 101 [.int v1, .int x1, .int x2]) fun x3 =>
  mret x3
def fX14_turning (g : Nat → Nat) (v0 : Option Nat) (v1 : Int32) : HM (Option Nat) :=
  mb (mon 11 v0 (mcall0 (fX14_after g v0 58 3))) fun x1 =>
  mb (nO 3 102 [.int v1, .int x1]) fun x2 =>
  mret x2
def fX14_pillar (g : Nat → Nat) (v0 : Option Nat) (v1 : Int32) : HM (Option Nat) :=
  mb (mon 11 v0 (mcall0 (fX14_after g v0 44 11))) fun x1 =>
  mb (nO 3 103 [.int x1, .int v1]) fun x2 =>
  mret x2
def fX14_seating (g : Nat → Nat) (v0 : Option Nat) (v1 : Int32) : HM (Option Nat) :=
  mb (mon 11 v0 (mcall0 (fX14_after g v0 64 9))) fun x1 =>
  mb (mon 11 v0 (mcall0 (fX14_after g v0 46 7))) fun x2 =>
  mb (nO 4 104 [.int v1, .int x1, .int x2]) fun x3 =>
  mret x3
def fX14_rising (g : Nat → Nat) (v0 : Option Nat) (v1 : Int32) : HM (Option Nat) :=
  mb (nO 2 105 [.int v1]) fun x1 =>
  mret x1
def fX14_swapping (g : Nat → Nat) (v0 : Option Nat) (v1 : Int32) : HM (Option Nat) :=
  mb (mon 11 v0 (mcall0 (fX14_after g v0 44 29))) fun x1 =>
  mb (nO 3 106 [.int v1, .int x1]) fun x2 =>
  mret x2
def fX14_order (g : Nat → Nat) (v0 : Option Nat) : HM (Unit) :=
  mb (mon 11 v0 (mcall0 (fX14_next g v0))) fun x1 =>
  mjn (fun (x2 : Option Nat) =>
  mb (oI 11 1 v0) fun x3 =>
  if x3 = 0 then
  (mb (oR 11 2 v0) fun x4 =>
  mb (oI 11 3 v0) fun x5 =>
  mb (sQ x4 x5 x2) fun _ =>
  mb (oI 11 3 v0) fun x6 =>
  mb (pI 11 3 v0 (x6 + 1)) fun _ =>
  mret ())
  else
  (mret ())) fun j244 =>
  if x1 = 109 then
  (mb (oI 11 0 v0) fun x7 =>
  mb (pI 11 0 v0 (x7 + 1)) fun _ =>
  mb (mon 11 v0 (mcall0 (fX14_number g v0 9))) fun x8 =>
  mb (mon 11 v0 (mcall 24 4 (fX14_moving g v0 x8))) fun x9 =>
  j244 x9)
  else
  if x1 = 110 then
  (mb (pZ 11 1 v0 1) fun _ =>
  j244 none)
  else
  if x1 = 111 then
  (mb (pZ 11 1 v0 1) fun _ =>
  j244 none)
  else
  if x1 = 112 then
  (mb (oI 11 0 v0) fun x10 =>
  mb (pI 11 0 v0 (x10 + 1)) fun _ =>
  mb (mon 11 v0 (mcall0 (fX14_number g v0 15))) fun x11 =>
  mb (mon 11 v0 (mcall 24 3 (fX14_pillar g v0 x11))) fun x12 =>
  j244 x12)
  else
  if x1 = 113 then
  (mb (pZ 11 1 v0 1) fun _ =>
  j244 none)
  else
  if x1 = 114 then
  (mb (oI 11 0 v0) fun x13 =>
  mb (pI 11 0 v0 (x13 + 1)) fun _ =>
  mb (mon 11 v0 (mcall0 (fX14_number g v0 9))) fun x14 =>
  mb (mon 11 v0 (mcall 24 3 (fX14_turning g v0 x14))) fun x15 =>
  j244 x15)
  else
  if x1 = 115 then
  (mb (oI 11 0 v0) fun x16 =>
  mb (pI 11 0 v0 (x16 + 1)) fun _ =>
  mb (mon 11 v0 (mcall0 (fX14_number g v0 29))) fun x17 =>
  mb (mon 11 v0 (mcall 24 4 (fX14_seating g v0 x17))) fun x18 =>
  j244 x18)
  else
  if x1 = 116 then
  (mb (oI 11 0 v0) fun x19 =>
  mb (pI 11 0 v0 (x19 + 1)) fun _ =>
  mb (mon 11 v0 (mcall0 (fX14_number g v0 2))) fun x20 =>
  mb (mon 11 v0 (mcall 24 5 (fX14_adding g v0 x20))) fun x21 =>
  j244 x21)
  else
  if x1 = 117 then
  (mb (oI 11 0 v0) fun x22 =>
  mb (pI 11 0 v0 (x22 + 1)) fun _ =>
  mb (mon 11 v0 (mcall0 (fX14_number g v0 29))) fun x23 =>
  mb (mon 11 v0 (mcall 24 2 (fX14_rising g v0 x23))) fun x24 =>
  j244 x24)
  else
  if x1 = 118 then
  (mb (pZ 11 1 v0 1) fun _ =>
  j244 none)
  else
  if x1 = 119 then
  (mb (pZ 11 1 v0 1) fun _ =>
  j244 none)
  else
  if x1 = 120 then
  (mb (oI 11 0 v0) fun x25 =>
  mb (pI 11 0 v0 (x25 + 1)) fun _ =>
  mb (mon 11 v0 (mcall0 (fX14_number g v0 29))) fun x26 =>
  mb (mon 11 v0 (mcall 24 3 (fX14_swapping g v0 x26))) fun x27 =>
  j244 x27)
  else
  (mb (pZ 11 1 v0 1) fun _ =>
  j244 none)
def fX14_readAll_L4 (g : Nat → Nat) : Nat → Option Nat → (HM (Int32)) → HM (Int32)
  | 0, _, _ => mfail
  | n + 1, v0, K0 =>
  mb (oI 11 1 v0) fun x1 =>
  if x1 = 0 then
  (mb (oI 11 0 v0) fun x2 =>
  mb (oR 11 4 v0) fun x3 =>
  mb (oR 0 3 x3) fun x4 =>
  mb (mon 15 x4 (mcall0 (fJ12_length g x4))) fun x5 =>
  if x5 ≤ x2 then
  (K0)
  else
  (mb (mon 11 v0 (mcall0 (fX14_sign g v0 59))) fun _ =>
  mb (oI 11 1 v0) fun x6 =>
  if x6 = 0 then
  (mb (mon 11 v0 (mcall 216 24 (fX14_order g v0))) fun _ =>
  fX14_readAll_L4 g n v0 K0)
  else
  (fX14_readAll_L4 g n v0 K0)))
  else
  (K0)
def fX14_readAll (g : Nat → Nat) (v0 : Option Nat) : HM (Int32) :=
  mb (mon 11 v0 (mcall 216 24 (fX14_order g v0))) fun _ =>
  fX14_readAll_L4 g 5000 v0 (mb (oI 11 1 v0) fun x7 =>
  if x7 = 0 then
  (mretT .boolean 1)
  else
  (mretT .boolean 0))
def fX1_errorPosition (g : Nat → Nat) (v0 : Option Nat) : HM (Int32) :=
  mb (nO 283 11 [.int 0, .int 0, .null, .int 0, .null]) fun x1 =>
  mb (mnn x1) fun _ => mb (mcall 283 61 (fX14_init g x1 v0)) fun _ =>
  mb (mon 11 x1 (mcall 283 216 (fX14_readAll g x1))) fun x3 =>
  mb (oI 11 0 x1) fun x4 =>
  mret x4
def fX1_savedStates (g : Nat → Nat) (v0 : Option Nat) : HM (Int32) :=
  mb (oR 0 2 v0) fun x1 =>
  mb (mon 14 x1 (mcall0 (fJ10_size g x1))) fun x2 =>
  mret x2
def fX1_takeSnapshot (g : Nat → Nat) (v0 : Option Nat) : HM (Int32) :=
  mb (oR 0 0 v0) fun x1 =>
  mb (mon 1 x1 (mcall 2218 2218 (fX2_copy g x1))) fun x2 =>
  mb (pR 0 1 v0 x2) fun _ =>
  mb (oR 0 0 v0) fun x3 =>
  mb (oR 1 5 x3) fun x4 =>
  mb (mon 13 x4 (mcall0 (fJ2_size g x4))) fun x5 =>
  mret x5
def fX1_checkRange (g : Nat → Nat) (v0 : Int32) (v1 : Int32) (v2 : Int32) : HM (Nat ⊕ Unit) :=
  mjn0 (  mthr 7 1) fun j10 =>
  if v0 < v1 then
  (j10)
  else
  (if v0 ≤ v2 then
  (minr (mret ()))
  else
  (j10))
def fX1_save (g : Nat → Nat) (v0 : Option Nat) : HM (Unit) :=
  mb (oR 0 2 v0) fun x1 =>
  mb (mon 14 x1 (mcall0 (fJ10_size g x1))) fun x2 =>
  mjn0 (  mb (oR 0 2 v0) fun x3 =>
  mb (oR 0 0 v0) fun x4 =>
  mb (mon 1 x4 (mcall 2241 2218 (fX2_copy g x4))) fun x5 =>
  mb (mon 14 x3 (mcall 2241 23 (fJ10_addLast g x3 x5))) fun _ =>
  mret ()) fun j19 =>
  if x2 = 5 then
  (mb (oR 0 2 v0) fun x6 =>
  mb (mon 14 x6 (mcall0 (fJ10_removeFirst g x6))) fun x7 =>
  j19)
  else
  (j19)
def fX1_moveStage (g : Nat → Nat) (v0 : Option Nat) (v1 : Int32) : HM (Nat ⊕ Int32) :=
  mbx (mcall 2248 7 (fX1_checkRange g v1 0 15)) fun _ =>
  mb (mon 0 v0 (mcall 2248 2241 (fX1_save g v0))) fun _ =>
  mb (oR 0 0 v0) fun x1 =>
  mb (oI 1 0 x1) fun x2 =>
  mb (oR 0 0 v0) fun x3 =>
  mb (pI 1 0 x3 v1) fun _ =>
  minr (mret x2)
def fX1_checkPlace (g : Nat → Nat) (v0 : Int32) (v1 : Int32) : HM (Nat ⊕ Unit) :=
  mbx (mcall 14 7 (fX1_checkRange g v0 0 15)) fun _ =>
  mbx (mcall 14 7 (fX1_checkRange g v1 0 11)) fun _ =>
  minr (mret ())
def fX1_checkState (g : Nat → Nat) (v0 : Int32) : HM (Nat ⊕ Unit) :=
  if v0 = 0 then
  (mthr 7 2)
  else
  (minr (mret ()))
def fX1_moveDoor (g : Nat → Nat) (v0 : Option Nat) (v1 : Int32) (v2 : Int32) : HM (Nat ⊕ Int32) :=
  mbx (mcall 4866 14 (fX1_checkPlace g v1 v2)) fun _ =>
  mb (oR 0 0 v0) fun x1 =>
  mb (mon 1 x1 (mcall 4866 2411 (fX2_whyNoDoor g x1 ((16 * v2) + v1)))) fun x2 =>
  mjn (fun (x3 : Int32) =>
  mbx (mcall 4866 7 (fX1_checkState g x3)) fun _ =>
  mb (mon 0 v0 (mcall 4866 2241 (fX1_save g v0))) fun _ =>
  mb (oR 0 0 v0) fun x4 =>
  mb (oI 1 1 x4) fun x5 =>
  mb (oR 0 0 v0) fun x6 =>
  mb (pI 1 1 x6 ((16 * v2) + v1)) fun _ =>
  mb (oR 0 0 v0) fun x7 =>
  mb (mon 1 x7 (mcall 4866 193 (fX2_tellAnew g x7))) fun x8 =>
  minr (mret x5)) fun j26 =>
  if x2 = 0 then
  (j26 1)
  else
  (j26 0)
def fX1_turnPillar (g : Nat → Nat) (v0 : Option Nat) (v1 : Int32) (v2 : Int32) : HM (Nat ⊕ Int32) :=
  mbx (mcall 7277 14 (fX1_checkPlace g v1 v2)) fun _ =>
  mb (oR 0 0 v0) fun x1 =>
  mb (oR 1 2 x1) fun x2 =>
  mb (aI 1 x2 ((16 * v2) + v1)) fun x3 =>
  mjn (fun (x4 : Int32) =>
  mbx (mcall 7277 7 (fX1_checkState g x4)) fun _ =>
  mb (mon 0 v0 (mcall 7277 2241 (fX1_save g v0))) fun _ =>
  mb (oR 0 0 v0) fun x5 =>
  mb (mon 1 x5 (mcall 7277 2604 (fX2_turnPillar g x5 ((16 * v2) + v1)))) fun x6 =>
  mb (oR 0 0 v0) fun x7 =>
  mb (oR 1 2 x7) fun x8 =>
  mb (aI 1 x8 ((16 * v2) + v1)) fun x9 =>
  minr (mretT .boolean x9)) fun j40 =>
  if x3 = 0 then
  (mb (oR 0 0 v0) fun x10 =>
  mb (mon 1 x10 (mcall 7277 2411 (fX2_whyNoPillar g x10 ((16 * v2) + v1)))) fun x11 =>
  if x11 = 0 then
  (j40 1)
  else
  (j40 0))
  else
  (j40 1)
def fX1_addTable (g : Nat → Nat) (v0 : Option Nat) (v1 : Int32) (v2 : Int32) (v3 : Int32) (v4 : Int32) : HM (Nat ⊕ Int32) :=
  mbx (mcall 7420 7 (fX1_checkRange g v1 0 2)) fun _ =>
  mbx (mcall 7420 14 (fX1_checkPlace g v2 v3)) fun _ =>
  mbx (mcall 7420 7 (fX1_checkRange g v4 0 3)) fun _ =>
  mb (oR 0 0 v0) fun x1 =>
  mb (oR 1 4 x1) fun x2 =>
  mb (mon 13 x2 (mcall0 (fJ2_size g x2))) fun x3 =>
  mjn (fun (x4 : Int32) =>
  mbx (mcall 7420 7 (fX1_checkState g x4)) fun _ =>
  mb (mon 0 v0 (mcall 7420 2241 (fX1_save g v0))) fun _ =>
  mb (oR 0 0 v0) fun x5 =>
  mb (mon 1 x5 (mcall 7420 2690 (fX2_addTable g x5 v1 v2 v3 v4))) fun x6 =>
  mb (oR 0 0 v0) fun x7 =>
  mb (oR 1 4 x7) fun x8 =>
  mb (mon 13 x8 (mcall0 (fJ2_size g x8))) fun x9 =>
  minr (mret (x9 - 1))) fun j55 =>
  if 10 ≤ x3 then
  (j55 0)
  else
  (mb (oR 0 0 v0) fun x10 =>
  mb (mon 1 x10 (mcall 7420 2454 (fX2_whyNoTable g x10 v1 v2 v3 v4))) fun x11 =>
  if x11 = 0 then
  (j55 1)
  else
  (j55 0))
def fX1_checkNumber (g : Nat → Nat) (v0 : Int32) (v1 : Int32) : HM (Nat ⊕ Unit) :=
  mjn0 (  mthr 7 0) fun j9 =>
  if v0 < 0 then
  (j9)
  else
  (if v0 < v1 then
  (minr (mret ()))
  else
  (j9))
def fX1_table (g : Nat → Nat) (v0 : Option Nat) (v1 : Int32) : HM (Nat ⊕ Option Nat) :=
  mb (oR 0 0 v0) fun x1 =>
  mb (oR 1 4 x1) fun x2 =>
  mb (mon 13 x2 (mcall0 (fJ2_size g x2))) fun x3 =>
  mbx (mcall 7 7 (fX1_checkNumber g v1 x3)) fun _ =>
  mb (oR 0 0 v0) fun x4 =>
  mb (oR 1 4 x4) fun x5 =>
  mb (mon 13 x5 (mcall0 (fJ2_get g x5 v1))) fun x6 =>
  mb (mcst [2] x6) fun _ =>
  minr (mret x6)
def fX1_moveTable (g : Nat → Nat) (v0 : Option Nat) (v1 : Int32) (v2 : Int32) (v3 : Int32) : HM (Nat ⊕ Int32) :=
  mbx (mon 0 v0 (mcall 4873 7 (fX1_table g v0 v1))) fun x1 =>
  mbx (mcall 4873 14 (fX1_checkPlace g v2 v3)) fun _ =>
  mb (oR 0 0 v0) fun x2 =>
  mb (oI 2 3 x1) fun x3 =>
  mb (mon 1 x2 (mcall 4873 2411 (fX2_canSet g x2 v1 v2 v3 x3))) fun x4 =>
  mbx (mcall 4873 7 (fX1_checkState g x4)) fun _ =>
  mb (mon 0 v0 (mcall 4873 2241 (fX1_save g v0))) fun _ =>
  mb (oI 2 2 x1) fun x5 =>
  mb (oI 2 1 x1) fun x6 =>
  mb (oR 0 0 v0) fun x7 =>
  mb (oI 2 3 x1) fun x8 =>
  mb (mon 1 x7 (mcall 4873 193 (fX2_set g x7 v1 v2 v3 x8))) fun _ =>
  minr (mret ((16 * x5) + x6))
def fX1_turnTable (g : Nat → Nat) (v0 : Option Nat) (v1 : Int32) (v2 : Int32) : HM (Nat ⊕ Int32) :=
  mbx (mon 0 v0 (mcall 4866 7 (fX1_table g v0 v1))) fun x1 =>
  mbx (mcall 4866 7 (fX1_checkRange g v2 0 3)) fun _ =>
  mb (oR 0 0 v0) fun x2 =>
  mb (oI 2 1 x1) fun x3 =>
  mb (oI 2 2 x1) fun x4 =>
  mb (mon 1 x2 (mcall 4866 2411 (fX2_canSet g x2 v1 x3 x4 v2))) fun x5 =>
  mbx (mcall 4866 7 (fX1_checkState g x5)) fun _ =>
  mb (mon 0 v0 (mcall 4866 2241 (fX1_save g v0))) fun _ =>
  mb (oI 2 3 x1) fun x6 =>
  mb (oR 0 0 v0) fun x7 =>
  mb (oI 2 1 x1) fun x8 =>
  mb (oI 2 2 x1) fun x9 =>
  mb (mon 1 x7 (mcall 4866 193 (fX2_set g x7 v1 x8 x9 v2))) fun _ =>
  minr (mret x6)
def fX1_setFlowers (g : Nat → Nat) (v0 : Option Nat) (v1 : Int32) (v2 : Int32) : HM (Nat ⊕ Int32) :=
  mbx (mon 0 v0 (mcall 2255 7 (fX1_table g v0 v1))) fun x1 =>
  mbx (mcall 2255 7 (fX1_checkRange g v2 0 9)) fun _ =>
  mb (mon 0 v0 (mcall 2255 2241 (fX1_save g v0))) fun _ =>
  mb (oI 2 4 x1) fun x2 =>
  mb (pI 2 4 x1 v2) fun _ =>
  minr (mret x2)
def fX1_removeTable (g : Nat → Nat) (v0 : Option Nat) (v1 : Int32) : HM (Nat ⊕ Int32) :=
  mb (oR 0 0 v0) fun x1 =>
  mb (oR 1 4 x1) fun x2 =>
  mb (mon 13 x2 (mcall0 (fJ2_size g x2))) fun x3 =>
  mbx (mcall 2448 7 (fX1_checkNumber g v1 x3)) fun _ =>
  mb (oR 0 0 v0) fun x4 =>
  mb (mon 1 x4 (mcall0 (fX2_hasGuestsAt g x4 v1))) fun x5 =>
  mjn (fun (x6 : Int32) =>
  mbx (mcall 2448 7 (fX1_checkState g x6)) fun _ =>
  mb (mon 0 v0 (mcall 2448 2241 (fX1_save g v0))) fun _ =>
  mb (oR 0 0 v0) fun x7 =>
  mb (mon 1 x7 (mcall 2448 193 (fX2_removeTable g x7 v1))) fun _ =>
  mb (oR 0 0 v0) fun x8 =>
  mb (oR 1 4 x8) fun x9 =>
  mb (mon 13 x9 (mcall0 (fJ2_size g x9))) fun x10 =>
  minr (mret x10)) fun j32 =>
  if x5 = 0 then
  (j32 1)
  else
  (j32 0)
def fX1_isName_L54 (g : Nat → Nat) : Nat → Option Nat → Int32 → Int32 → Int32 → HM (Int32)
  | 0, _, _, _, _ => mfail
  | n + 1, v0, v1, v2, v3 =>
  if v1 ≤ v3 then
  (mretT .boolean v2)
  else
  (if v2 = 0 then
  (mretT .boolean v2)
  else
  (mb (oR 0 3 v0) fun x1 =>
  mb (mon 15 x1 (mcall0 (fJ12_charAt g x1 v3))) fun x2 =>
  mjn (fun (x3 : Int32) =>
  fX1_isName_L54 g n v0 v1 x3 (v3 + 1)) fun j122 =>
  if x2 = 32 then
  (mb (oR 0 3 v0) fun x4 =>
  mb (mon 15 x4 (mcall0 (fJ12_charAt g x4 (v3 - 1)))) fun x5 =>
  if x5 = 32 then
  (j122 0)
  else
  (j122 1))
  else
  (if x2 < 97 then
  (j122 0)
  else
  (if 122 < x2 then
  (j122 0)
  else
  (j122 1)))))
def fX1_isName (g : Nat → Nat) (v0 : Option Nat) : HM (Int32) :=
  mb (oR 0 3 v0) fun x6 =>
  mb (mon 15 x6 (mcall0 (fJ12_length g x6))) fun x7 =>
  mjn (fun (x8 : Int32) =>
  fX1_isName_L54 g 5000 v0 x7 x8 0 ) fun j51 =>
  if x7 ≤ 0 then
  (j51 0)
  else
  (if 14 < x7 then
  (j51 0)
  else
  (mb (oR 0 3 v0) fun x9 =>
  mb (mon 15 x9 (mcall0 (fJ12_charAt g x9 0))) fun x10 =>
  if x10 = 32 then
  (j51 0)
  else
  (mb (oR 0 3 v0) fun x11 =>
  mb (mon 15 x11 (mcall0 (fJ12_charAt g x11 (x7 - 1)))) fun x12 =>
  if x12 = 32 then
  (j51 0)
  else
  (j51 1))))
def fX1_addGuest (g : Nat → Nat) (v0 : Option Nat) (v1 : Int32) : HM (Nat ⊕ Int32) :=
  mbx (mcall 2405 7 (fX1_checkRange g v1 1 9)) fun _ =>
  mb (oR 0 0 v0) fun x1 =>
  mb (oR 1 5 x1) fun x2 =>
  mb (mon 13 x2 (mcall0 (fJ2_size g x2))) fun x3 =>
  mjn (fun (x4 : Int32) =>
  mbx (mcall 2405 7 (fX1_checkState g x4)) fun _ =>
  mb (mon 0 v0 (mcall 2405 2241 (fX1_save g v0))) fun _ =>
  mb (oR 0 0 v0) fun x5 =>
  mb (oR 1 5 x5) fun x6 =>
  mb (nO 2405 3 [.int 0, .null, .int 0, .int 0, .int 0]) fun x7 =>
  mb (oR 0 0 v0) fun x8 =>
  mb (oR 1 5 x8) fun x9 =>
  mb (mon 13 x9 (mcall0 (fJ2_size g x9))) fun x10 =>
  mb (oR 0 3 v0) fun x11 =>
  mb (mon 15 x11 (mcall 2405 59 (fJ12_toString g x11))) fun x12 =>
  mb (mnn x7) fun _ => mb (mcall0 (fX8_init g x7 x10 x12 v1)) fun _ =>
  mb (mon 13 x6 (mcall 2405 34 (fJ2_add g x6 x7))) fun x14 =>
  mb (oR 0 3 v0) fun x15 =>
  mb (mon 15 x15 (mcall 2405 51 (fJ12_setLength g x15 0))) fun _ =>
  mb (oR 0 0 v0) fun x16 =>
  mb (oR 1 5 x16) fun x17 =>
  mb (mon 13 x17 (mcall0 (fJ2_size g x17))) fun x18 =>
  minr (mret (x18 - 1))) fun j36 =>
  if 30 ≤ x3 then
  (j36 0)
  else
  (mb (mon 0 v0 (mcall0 (fX1_isName g v0))) fun x19 =>
  if x19 = 0 then
  (j36 0)
  else
  (j36 1))
def fX1_guest (g : Nat → Nat) (v0 : Option Nat) (v1 : Int32) : HM (Nat ⊕ Option Nat) :=
  mb (oR 0 0 v0) fun x1 =>
  mb (oR 1 5 x1) fun x2 =>
  mb (mon 13 x2 (mcall0 (fJ2_size g x2))) fun x3 =>
  mbx (mcall 7 7 (fX1_checkNumber g v1 x3)) fun _ =>
  mb (oR 0 0 v0) fun x4 =>
  mb (oR 1 5 x4) fun x5 =>
  mb (mon 13 x5 (mcall0 (fJ2_get g x5 v1))) fun x6 =>
  mb (mcst [3] x6) fun _ =>
  minr (mret x6)
def fX1_chair (g : Nat → Nat) (v0 : Option Nat) (v1 : Int32) (v2 : Int32) : HM (Nat ⊕ Int32) :=
  mbx (mon 0 v0 (mcall 21 7 (fX1_table g v0 v1))) fun x1 =>
  mb (oR 2 0 x1) fun x2 =>
  mb (mdsp x2 [(7, mcall0 (fX5_chairs g x2)), (6, mcall0 (fX6_chairs g x2)), (8, mcall0 (fX9_chairs g x2))]) fun x3 =>
  mbx (mcall 21 7 (fX1_checkNumber g v2 x3)) fun _ =>
  mbx (mon 0 v0 (mcall 21 7 (fX1_table g v0 v1))) fun x4 =>
  mb (mon 2 x4 (mcall0 (fX3_chair g x4 v2))) fun x5 =>
  minr (mret x5)
def fX1_seat (g : Nat → Nat) (v0 : Option Nat) (v1 : Int32) (v2 : Int32) (v3 : Int32) : HM (Nat ⊕ Int32) :=
  mbx (mon 0 v0 (mcall 2276 7 (fX1_guest g v0 v1))) fun x1 =>
  mbx (mon 0 v0 (mcall 2276 21 (fX1_chair g v0 v2 v3))) fun x2 =>
  mb (oR 0 0 v0) fun x3 =>
  mb (mon 1 x3 (mcall0 (fX2_whyNotSeated g x3 v1 v2 v3))) fun x4 =>
  mjn (fun (x5 : Int32) =>
  mbx (mcall 2276 7 (fX1_checkState g x5)) fun _ =>
  mb (mon 0 v0 (mcall 2276 2241 (fX1_save g v0))) fun _ =>
  mb (oR 0 0 v0) fun x6 =>
  mb (mon 1 x6 (mcall0 (fX2_seat g x6 v1 v2 v3))) fun x7 =>
  minr (mret x2)) fun j32 =>
  if x4 = 0 then
  (j32 1)
  else
  (j32 0)
def fX1_unseat (g : Nat → Nat) (v0 : Option Nat) (v1 : Int32) : HM (Nat ⊕ Int32) :=
  mbx (mon 0 v0 (mcall 2262 7 (fX1_guest g v0 v1))) fun x1 =>
  mb (mon 3 x1 (mcall0 (fX8_sits g x1))) fun x2 =>
  mbx (mcall 2262 7 (fX1_checkState g x2)) fun _ =>
  mb (mon 0 v0 (mcall 2262 2241 (fX1_save g v0))) fun _ =>
  mb (oR 0 0 v0) fun x3 =>
  mbx (mon 0 v0 (mcall 2262 7 (fX1_guest g v0 v1))) fun x4 =>
  mb (mon 1 x3 (mcall0 (fX2_cellOf g x3 x4))) fun x5 =>
  mb (oR 0 0 v0) fun x6 =>
  mb (mon 1 x6 (mcall0 (fX2_unseat g x6 v1))) fun x7 =>
  minr (mret x5)
def fX1_swapGuests (g : Nat → Nat) (v0 : Option Nat) (v1 : Int32) (v2 : Int32) : HM (Nat ⊕ Int32) :=
  mbx (mon 0 v0 (mcall 2262 7 (fX1_guest g v0 v1))) fun x1 =>
  mbx (mon 0 v0 (mcall 2262 7 (fX1_guest g v0 v2))) fun x2 =>
  mb (oR 0 0 v0) fun x3 =>
  mb (mon 1 x3 (mcall0 (fX2_whyNotSwapped g x3 v1 v2))) fun x4 =>
  mjn (fun (x5 : Int32) =>
  mbx (mcall 2262 7 (fX1_checkState g x5)) fun _ =>
  mb (mon 0 v0 (mcall 2262 2241 (fX1_save g v0))) fun _ =>
  mb (oR 0 0 v0) fun x6 =>
  mb (mon 1 x6 (mcall0 (fX2_seeing g x6))) fun x7 =>
  mb (oR 0 0 v0) fun x8 =>
  mb (mon 1 x8 (mcall0 (fX2_swapGuests g x8 v1 v2))) fun x9 =>
  mb (oR 0 0 v0) fun x10 =>
  mb (mon 1 x10 (mcall0 (fX2_seeing g x10))) fun x11 =>
  minr (mret (x11 - x7))) fun j29 =>
  if x4 = 0 then
  (j29 1)
  else
  (j29 0)
def fX1_turnPair (g : Nat → Nat) (v0 : Option Nat) (v1 : Int32) (v2 : Int32) : HM (Nat ⊕ Int32) :=
  mbx (mon 0 v0 (mcall 2279 7 (fX1_guest g v0 v1))) fun x1 =>
  mbx (mon 0 v0 (mcall 2279 7 (fX1_guest g v0 v2))) fun x2 =>
  if v1 = v2 then
  (mthr 2279 1)
  else
  (mb (mon 0 v0 (mcall 2279 2241 (fX1_save g v0))) fun _ =>
  mb (nO 2279 4 [.int 0, .int 0]) fun x3 =>
  mb (mnn x3) fun _ => mb (mcall0 (fX10_init g x3 v1 v2)) fun _ =>
  mb (oR 0 0 v0) fun x5 =>
  mb (oR 1 6 x5) fun x6 =>
  mb (mon 17 x6 (mcall0 (fJ4_remove g x6 x3))) fun x7 =>
  mjn0 (  mb (oR 0 0 v0) fun x8 =>
  mb (oR 1 6 x8) fun x9 =>
  mb (mon 17 x9 (mcall0 (fJ4_size g x9))) fun x10 =>
  minr (mret x10)) fun j65 =>
  if x7 = 0 then
  (mb (oR 0 0 v0) fun x11 =>
  mb (oR 1 6 x11) fun x12 =>
  mb (mon 17 x12 (mcall 2279 14 (fJ4_add g x12 x3))) fun x13 =>
  j65)
  else
  (j65))
def fX1_whatIsAt (g : Nat → Nat) (v0 : Option Nat) (v1 : Int32) (v2 : Int32) : HM (Nat ⊕ Int32) :=
  mbx (mcall 14 14 (fX1_checkPlace g v1 v2)) fun _ =>
  mb (oR 0 0 v0) fun x1 =>
  mb (oR 1 7 x1) fun x2 =>
  mb (aI 0 x2 ((16 * v2) + v1)) fun x3 =>
  if 40 ≤ x3 then
  (minr (mret ((x3 - 40) + 20)))
  else
  (minr (mret x3))
def fX1_whyNoDoor (g : Nat → Nat) (v0 : Option Nat) (v1 : Int32) (v2 : Int32) : HM (Nat ⊕ Int32) :=
  mbx (mcall 2425 14 (fX1_checkPlace g v1 v2)) fun _ =>
  mb (oR 0 0 v0) fun x1 =>
  mb (mon 1 x1 (mcall 2425 2411 (fX2_whyNoDoor g x1 ((16 * v2) + v1)))) fun x2 =>
  minr (mret x2)
def fX1_whyNoPillar (g : Nat → Nat) (v0 : Option Nat) (v1 : Int32) (v2 : Int32) : HM (Nat ⊕ Int32) :=
  mbx (mcall 2425 14 (fX1_checkPlace g v1 v2)) fun _ =>
  mb (oR 0 0 v0) fun x1 =>
  mb (mon 1 x1 (mcall 2425 2411 (fX2_whyNoPillar g x1 ((16 * v2) + v1)))) fun x2 =>
  minr (mret x2)
def fX1_whyNoTable (g : Nat → Nat) (v0 : Option Nat) (v1 : Int32) (v2 : Int32) (v3 : Int32) (v4 : Int32) : HM (Nat ⊕ Int32) :=
  mbx (mcall 2482 7 (fX1_checkRange g v1 0 2)) fun _ =>
  mbx (mcall 2482 14 (fX1_checkPlace g v2 v3)) fun _ =>
  mbx (mcall 2482 7 (fX1_checkRange g v4 0 3)) fun _ =>
  mb (oR 0 0 v0) fun x1 =>
  mb (mon 1 x1 (mcall 2482 2454 (fX2_whyNoTable g x1 v1 v2 v3 v4))) fun x2 =>
  minr (mret x2)
def fX1_kind (g : Nat → Nat) (v0 : Option Nat) : HM (Int32) :=
  mb (mins [6] [7, 8] v0) fun x1 =>
  if x1 = 0 then
  (mb (mins [7] [6, 8] v0) fun x2 =>
  if x2 = 0 then
  (mret 2)
  else
  (mret 1))
  else
  (mret 0)
def fX1_kindOf (g : Nat → Nat) (v0 : Option Nat) (v1 : Int32) : HM (Nat ⊕ Int32) :=
  mbx (mon 0 v0 (mcall 7 7 (fX1_table g v0 v1))) fun x1 =>
  mb (oR 2 0 x1) fun x2 =>
  mb (mcall0 (fX1_kind g x2)) fun x3 =>
  minr (mret x3)
def fX1_turnOf (g : Nat → Nat) (v0 : Option Nat) (v1 : Int32) : HM (Nat ⊕ Int32) :=
  mbx (mon 0 v0 (mcall 7 7 (fX1_table g v0 v1))) fun x1 =>
  mb (oI 2 3 x1) fun x2 =>
  minr (mret x2)
def fX1_flowersOf (g : Nat → Nat) (v0 : Option Nat) (v1 : Int32) : HM (Nat ⊕ Int32) :=
  mbx (mon 0 v0 (mcall 7 7 (fX1_table g v0 v1))) fun x1 =>
  mb (oI 2 4 x1) fun x2 =>
  minr (mret x2)
def fX1_chairsOf (g : Nat → Nat) (v0 : Option Nat) (v1 : Int32) : HM (Nat ⊕ Int32) :=
  mbx (mon 0 v0 (mcall 7 7 (fX1_table g v0 v1))) fun x1 =>
  mb (oR 2 0 x1) fun x2 =>
  mb (mdsp x2 [(7, mcall0 (fX5_chairs g x2)), (6, mcall0 (fX6_chairs g x2)), (8, mcall0 (fX9_chairs g x2))]) fun x3 =>
  minr (mret x3)
def fX1_cellOf (g : Nat → Nat) (v0 : Option Nat) (v1 : Int32) (v2 : Int32) : HM (Nat ⊕ Int32) :=
  mbx (mon 0 v0 (mcall 21 21 (fX1_chair g v0 v1 v2))) fun x1 =>
  minr (mret x1)
def fX1_guestOn (g : Nat → Nat) (v0 : Option Nat) (v1 : Int32) (v2 : Int32) : HM (Nat ⊕ Int32) :=
  mb (oR 0 0 v0) fun x1 =>
  mb (oR 1 9 x1) fun x2 =>
  mbx (mon 0 v0 (mcall 21 21 (fX1_chair g v0 v1 v2))) fun x3 =>
  mb (aI 0 x2 x3) fun x4 =>
  minr (mret x4)
def fX1_stepsFromDoor (g : Nat → Nat) (v0 : Option Nat) (v1 : Int32) (v2 : Int32) : HM (Nat ⊕ Int32) :=
  mb (oR 0 0 v0) fun x1 =>
  mb (oR 1 8 x1) fun x2 =>
  mbx (mon 0 v0 (mcall 21 21 (fX1_chair g v0 v1 v2))) fun x3 =>
  mb (aI 0 x2 x3) fun x4 =>
  minr (mret x4)
def fX1_stepsFromChair (g : Nat → Nat) (v0 : Option Nat) (v1 : Int32) (v2 : Int32) : HM (Nat ⊕ Int32) :=
  mb (oR 0 0 v0) fun x1 =>
  mbx (mon 0 v0 (mcall 407 21 (fX1_chair g v0 v1 v2))) fun x2 =>
  mb (mon 1 x1 (mcall 407 386 (fX2_stepsFromChair g x1 x2))) fun x3 =>
  minr (mret x3)
def fX1_letterOf (g : Nat → Nat) (v0 : Option Nat) (v1 : Int32) (v2 : Int32) : HM (Nat ⊕ Int32) :=
  mbx (mon 0 v0 (mcall 14 7 (fX1_guest g v0 v1))) fun x1 =>
  mb (oR 3 1 x1) fun x2 =>
  if 0 ≤ v2 then
  (mb (mon 16 x2 (mcall0 (fJ13_length g x2))) fun x3 =>
  if x3 ≤ v2 then
  (minr (mret (-1)))
  else
  (mb (mon 16 x2 (mcall0 (fJ13_charAt g x2 v2))) fun x4 =>
  minr (mret x4)))
  else
  (mthr 14 0)
def fX1_nameWidth (g : Nat → Nat) (v0 : Option Nat) (v1 : Int32) : HM (Nat ⊕ Int32) :=
  mbx (mon 0 v0 (mcall 7 7 (fX1_guest g v0 v1))) fun x1 =>
  mb (mon 3 x1 (mcall0 (fX8_nameWidth g x1))) fun x2 =>
  minr (mret x2)
def fX1_placeByName (g : Nat → Nat) (v0 : Option Nat) (v1 : Int32) : HM (Nat ⊕ Int32) :=
  mbx (mon 0 v0 (mcall 210 7 (fX1_guest g v0 v1))) fun x1 =>
  mb (oR 0 0 v0) fun x2 =>
  mb (mon 1 x2 (mcall 210 203 (fX2_placeByName g x2 v1))) fun x3 =>
  minr (mret x3)
def fX1_heightOf (g : Nat → Nat) (v0 : Option Nat) (v1 : Int32) : HM (Nat ⊕ Int32) :=
  mbx (mon 0 v0 (mcall 7 7 (fX1_guest g v0 v1))) fun x1 =>
  mb (oI 3 2 x1) fun x2 =>
  minr (mret x2)
def fX1_tableOf (g : Nat → Nat) (v0 : Option Nat) (v1 : Int32) : HM (Nat ⊕ Int32) :=
  mbx (mon 0 v0 (mcall 7 7 (fX1_guest g v0 v1))) fun x1 =>
  mb (oI 3 3 x1) fun x2 =>
  minr (mret x2)
def fX1_chairOf (g : Nat → Nat) (v0 : Option Nat) (v1 : Int32) : HM (Nat ⊕ Int32) :=
  mbx (mon 0 v0 (mcall 7 7 (fX1_guest g v0 v1))) fun x1 =>
  mb (oI 3 4 x1) fun x2 =>
  minr (mret x2)
def fX1_whyNotSeated (g : Nat → Nat) (v0 : Option Nat) (v1 : Int32) (v2 : Int32) (v3 : Int32) : HM (Nat ⊕ Int32) :=
  mbx (mon 0 v0 (mcall 28 7 (fX1_guest g v0 v1))) fun x1 =>
  mbx (mon 0 v0 (mcall 28 21 (fX1_chair g v0 v2 v3))) fun x2 =>
  mb (oR 0 0 v0) fun x3 =>
  mb (mon 1 x3 (mcall0 (fX2_whyNotSeated g x3 v1 v2 v3))) fun x4 =>
  minr (mret x4)
def fX1_whyNotSwapped (g : Nat → Nat) (v0 : Option Nat) (v1 : Int32) (v2 : Int32) : HM (Nat ⊕ Int32) :=
  mbx (mon 0 v0 (mcall 14 7 (fX1_guest g v0 v1))) fun x1 =>
  mbx (mon 0 v0 (mcall 14 7 (fX1_guest g v0 v2))) fun x2 =>
  mb (oR 0 0 v0) fun x3 =>
  mb (mon 1 x3 (mcall0 (fX2_whyNotSwapped g x3 v1 v2))) fun x4 =>
  minr (mret x4)
def fX1_lineOf (g : Nat → Nat) (v0 : Option Nat) (v1 : Int32) (v2 : Int32) (v3 : Int32) : HM (Nat ⊕ Int32) :=
  mbx (mon 0 v0 (mcall 28 21 (fX1_chair g v0 v1 v2))) fun x1 =>
  mbx (mcall 28 7 (fX1_checkRange g v3 0 ((x1 / 16) - 1))) fun _ =>
  mb (oR 0 0 v0) fun x2 =>
  mb (mon 1 x2 (mcall0 (fX2_line g x2 x1 v3))) fun x3 =>
  minr (mret x3)
def fX1_seesByRows (g : Nat → Nat) (v0 : Option Nat) (v1 : Int32) : HM (Nat ⊕ Int32) :=
  mbx (mon 0 v0 (mcall 7 7 (fX1_guest g v0 v1))) fun x1 =>
  mb (oR 0 0 v0) fun x2 =>
  mb (mon 1 x2 (mcall0 (fX2_sees g x2 v1))) fun x3 =>
  minr (mretT .boolean x3)
def fX1_seesByObstacles (g : Nat → Nat) (v0 : Option Nat) (v1 : Int32) : HM (Nat ⊕ Int32) :=
  mbx (mon 0 v0 (mcall 7 7 (fX1_guest g v0 v1))) fun x1 =>
  mb (oR 0 0 v0) fun x2 =>
  mb (mon 1 x2 (mcall0 (fX2_seesByObstacles g x2 v1))) fun x3 =>
  minr (mretT .boolean x3)
def fX1_blockedAt (g : Nat → Nat) (v0 : Option Nat) (v1 : Int32) : HM (Nat ⊕ Int32) :=
  mbx (mon 0 v0 (mcall 7 7 (fX1_guest g v0 v1))) fun x1 =>
  mb (mon 3 x1 (mcall0 (fX8_sits g x1))) fun x2 =>
  if x2 = 0 then
  (minr (mret (-1)))
  else
  (mb (oR 0 0 v0) fun x3 =>
  mb (oR 0 0 v0) fun x4 =>
  mb (mon 1 x4 (mcall0 (fX2_cellOf g x4 x1))) fun x5 =>
  mb (mon 1 x3 (mcall0 (fX2_blockedFrom g x3 x5 x1))) fun x6 =>
  minr (mret x6))
def fX1_bestChair (g : Nat → Nat) (v0 : Option Nat) (v1 : Int32) : HM (Nat ⊕ Int32) :=
  mbx (mon 0 v0 (mcall 7 7 (fX1_guest g v0 v1))) fun x1 =>
  mb (oR 0 0 v0) fun x2 =>
  mb (mon 1 x2 (mcall0 (fX2_bestChair g x2 v1))) fun x3 =>
  minr (mret x3)
def fX1_servedAt (g : Nat → Nat) (v0 : Option Nat) (v1 : Int32) : HM (Nat ⊕ Int32) :=
  mb (oR 0 0 v0) fun x1 =>
  mb (mon 1 x1 (mcall0 (fX2_seated g x1))) fun x2 =>
  mbx (mcall 337 7 (fX1_checkNumber g v1 x2)) fun _ =>
  mb (oR 0 0 v0) fun x3 =>
  mb (mon 1 x3 (mcall 337 330 (fX2_servedAt g x3 v1))) fun x4 =>
  minr (mret x4)
def fX1_placeOf (g : Nat → Nat) (v0 : Option Nat) (v1 : Int32) : HM (Nat ⊕ Int32) :=
  mbx (mon 0 v0 (mcall 7 7 (fX1_guest g v0 v1))) fun x1 =>
  mb (oR 0 0 v0) fun x2 =>
  mb (mon 1 x2 (mcall0 (fX2_placeOf g x2 v1))) fun x3 =>
  minr (mret x3)
def fX1_append (g : Nat → Nat) (v0 : Option Nat) (v1 : Int32) : HM (Nat ⊕ Int32) :=
  mbx (mcall 65 7 (fX1_checkRange g v1 32 126)) fun _ =>
  mb (oR 0 3 v0) fun x1 =>
  mb (mon 15 x1 (mcall0 (fJ12_length g x1))) fun x2 =>
  mjn (fun (x3 : Int32) =>
  mbx (mcall 65 7 (fX1_checkState g x3)) fun _ =>
  mb (oR 0 3 v0) fun x4 =>
  mb (mon 15 x4 (mcall 65 51 (fJ12_append_3 g x4 (i2c v1)))) fun x5 =>
  mb (oR 0 3 v0) fun x6 =>
  mb (mon 15 x6 (mcall0 (fJ12_length g x6))) fun x7 =>
  minr (mret x7)) fun j25 =>
  if 60 ≤ x2 then
  (j25 0)
  else
  (j25 1)
def fX14_lambda_adding_0 (g : Nat → Nat) (v0 : Int32) (v1 : Int32) (v2 : Int32) (v3 : Int32) (v4 : Option Nat) : HM (Int32) :=
  mb (mon 1 v4 (mcall 2690 2690 (fX2_addTable g v4 v0 v1 v2 v3))) fun x1 =>
  mretT .boolean x1
def fX14_lambda_moving_1 (g : Nat → Nat) (v0 : Int32) (v1 : Int32) (v2 : Int32) (v3 : Option Nat) : HM (Int32) :=
  mb (mon 1 v3 (mcall 2604 2604 (fX2_moveTable g v3 v0 v1 v2))) fun x1 =>
  mretT .boolean x1
def fX14_lambda_turning_2 (g : Nat → Nat) (v0 : Int32) (v1 : Int32) (v2 : Option Nat) : HM (Int32) :=
  mb (mon 1 v2 (mcall 2604 2604 (fX2_turnTable g v2 v0 v1))) fun x1 =>
  mretT .boolean x1
def fX14_lambda_pillar_3 (g : Nat → Nat) (v0 : Int32) (v1 : Int32) (v2 : Option Nat) : HM (Int32) :=
  mb (mon 1 v2 (mcall 2604 2604 (fX2_turnPillar g v2 ((16 * v0) + v1)))) fun x1 =>
  mretT .boolean x1
def fX14_lambda_seating_4 (g : Nat → Nat) (v0 : Int32) (v1 : Int32) (v2 : Int32) (v3 : Option Nat) : HM (Int32) :=
  mb (mon 1 v3 (mcall0 (fX2_seat g v3 v0 v1 v2))) fun x1 =>
  mretT .boolean x1
def fX14_lambda_rising_5 (g : Nat → Nat) (v0 : Int32) (v1 : Option Nat) : HM (Int32) :=
  mb (mon 1 v1 (mcall0 (fX2_unseat g v1 v0))) fun x1 =>
  mretT .boolean x1
def fX14_lambda_swapping_6 (g : Nat → Nat) (v0 : Int32) (v1 : Int32) (v2 : Option Nat) : HM (Int32) :=
  mb (mon 1 v2 (mcall0 (fX2_swapGuests g v2 v0 v1))) fun x1 =>
  mretT .boolean x1
def fX14_carryOut_L2 (g : Nat → Nat) : Nat → Option Nat → Option Nat → Int32 → HM (Int32)
  | 0, _, _, _ => mfail
  | n + 1, v0, v1, v2 =>
  mb (oI 11 3 v0) fun x1 =>
  if x1 ≤ v2 then
  (mret v2)
  else
  (mb (oR 11 2 v0) fun x2 =>
  mb (aQ x2 v2) fun x3 =>
  mb (mlm 21520 0 4 2690 x3 (fun vs => fX14_lambda_adding_0 g (vs.getD 0 0) (vs.getD 1 0) (vs.getD 2 0) (vs.getD 3 0) v1) (mlm 21520 1 3 2604 x3 (fun vs => fX14_lambda_moving_1 g (vs.getD 0 0) (vs.getD 1 0) (vs.getD 2 0) v1) (mlm 21520 2 2 2604 x3 (fun vs => fX14_lambda_turning_2 g (vs.getD 0 0) (vs.getD 1 0) v1) (mlm 21520 3 2 2604 x3 (fun vs => fX14_lambda_pillar_3 g (vs.getD 0 0) (vs.getD 1 0) v1) (mlm 21520 4 3 0 x3 (fun vs => fX14_lambda_seating_4 g (vs.getD 0 0) (vs.getD 1 0) (vs.getD 2 0) v1) (mlm 21520 5 1 0 x3 (fun vs => fX14_lambda_rising_5 g (vs.getD 0 0) v1) (mlm 21520 6 2 0 x3 (fun vs => fX14_lambda_swapping_6 g (vs.getD 0 0) (vs.getD 1 0) v1) (mfail)))))))) fun x4 =>
  if x4 = 0 then
  (mret v2)
  else
  (fX14_carryOut_L2 g n v0 v1 (v2 + 1)))
def fX14_carryOut (g : Nat → Nat) (v0 : Option Nat) (v1 : Option Nat) : HM (Int32) :=
  fX14_carryOut_L2 g 5000 v0 v1 0 
def fX1_runText (g : Nat → Nat) (v0 : Option Nat) : HM (Nat ⊕ Int32) :=
  mb (nO 24051 11 [.int 0, .int 0, .null, .int 0, .null]) fun x1 =>
  mb (mnn x1) fun _ => mb (mcall 24051 61 (fX14_init g x1 v0)) fun _ =>
  mb (mon 11 x1 (mcall 24051 216 (fX14_readAll g x1))) fun x3 =>
  if x3 = 0 then
  (mthr 24051 1)
  else
  (mb (mon 0 v0 (mcall 24051 2241 (fX1_save g v0))) fun _ =>
  mb (oR 0 0 v0) fun x4 =>
  mb (mon 11 x1 (mcall 24051 21520 (fX14_carryOut g x1 x4))) fun x5 =>
  minr (mret x5))
def fX1_undo (g : Nat → Nat) (v0 : Option Nat) : HM (Nat ⊕ Int32) :=
  mb (oR 0 2 v0) fun x1 =>
  mb (mon 14 x1 (mcall0 (fJ10_isEmpty g x1))) fun x2 =>
  mjn (fun (x3 : Int32) =>
  mbx (mcall 7 7 (fX1_checkState g x3)) fun _ =>
  mb (oR 0 2 v0) fun x4 =>
  mb (mon 14 x4 (mcall0 (fJ10_removeLast g x4))) fun x5 =>
  mb (mcst [1] x5) fun _ =>
  mb (pR 0 0 v0 x5) fun _ =>
  mb (oR 0 2 v0) fun x6 =>
  mb (mon 14 x6 (mcall0 (fJ10_size g x6))) fun x7 =>
  minr (mret x7)) fun j15 =>
  if x2 = 0 then
  (j15 1)
  else
  (j15 0)
def fX1_restoreSnapshot (g : Nat → Nat) (v0 : Option Nat) : HM (Nat ⊕ Int32) :=
  mb (oR 0 1 v0) fun x1 =>
  mjn (fun (x2 : Int32) =>
  mbx (mcall 4466 7 (fX1_checkState g x2)) fun _ =>
  mb (mon 0 v0 (mcall 4466 2241 (fX1_save g v0))) fun _ =>
  mb (oR 0 1 v0) fun x3 =>
  mb (mon 1 x3 (mcall 4466 2218 (fX2_copy g x3))) fun x4 =>
  mb (pR 0 0 v0 x4) fun _ =>
  mb (oR 0 0 v0) fun x5 =>
  mb (oR 1 5 x5) fun x6 =>
  mb (mon 13 x6 (mcall0 (fJ2_size g x6))) fun x7 =>
  minr (mret x7)) fun j12 =>
  if x1 = none then
  (j12 0)
  else
  (j12 1)
def fX7_init (g : Nat → Nat) (v0 : Option Nat) : HM (Unit) :=
  mb (mnn v0) fun _ =>
  mb (nA 5060 0 631) fun x1 =>
  mb (pR 12 1 v0 x1) fun _ =>
  mb (nA 5060 0 3155) fun x2 =>
  mb (pR 12 2 v0 x2) fun _ =>
  mb (nA 5060 0 631) fun x3 =>
  mb (pR 12 4 v0 x3) fun _ =>
  mb (nA 5060 0 60) fun x4 =>
  mb (pR 12 6 v0 x4) fun _ =>
  mb (nA 5060 0 192) fun x5 =>
  mb (pR 12 8 v0 x5) fun _ =>
  mb (nA 5060 0 192) fun x6 =>
  mb (pR 12 9 v0 x6) fun _ =>
  mb (nA 5060 0 192) fun x7 =>
  mb (pR 12 10 v0 x7) fun _ =>
  mb (oR 12 1 v0) fun x8 =>
  mb (sI x8 0 8) fun _ =>
  mb (oR 12 1 v0) fun x9 =>
  mb (sI x9 1 176) fun _ =>
  mret ()
def fX7_thrown (g : Nat → Nat) (v0 : Option Nat) : HM (Int32) :=
  mb (oI 12 0 v0) fun x1 =>
  mret x1
def fX7_undo_L37 (g : Nat → Nat) : Nat → Option Nat → Int32 → (HM (Int32)) → HM (Int32)
  | 0, _, _, _ => mfail
  | n + 1, v0, v1, K0 =>
  if 631 ≤ v1 then
  (K0)
  else
  (mb (oR 12 1 v0) fun x1 =>
  mb (oR 12 2 v0) fun x2 =>
  mb (oI 12 3 v0) fun x3 =>
  mb (aI 0 x2 ((631 * x3) + v1)) fun x4 =>
  mb (sI x1 v1 x4) fun _ =>
  fX7_undo_L37 g n v0 (v1 + 1) K0)
def fX7_undo (g : Nat → Nat) (v0 : Option Nat) : HM (Int32) :=
  mb (oI 12 3 v0) fun x5 =>
  mjn (fun (x6 : Int32) =>
  mb (pI 12 0 v0 x6) fun _ =>
  mb (oI 12 0 v0) fun x7 =>
  if x7 ≤ 0 then
  (mb (oI 12 3 v0) fun x8 =>
  mb (pI 12 3 v0 (x8 - 1)) fun _ =>
  fX7_undo_L37 g 5000 v0 0 (mb (oI 12 3 v0) fun x9 =>
  mret x9))
  else
  (mret 0)) fun j13 =>
  if x5 = 0 then
  (j13 1)
  else
  (j13 0)
def fX7_savedStates (g : Nat → Nat) (v0 : Option Nat) : HM (Int32) :=
  mb (pI 12 0 v0 0) fun _ =>
  mb (oI 12 3 v0) fun x1 =>
  mret x1
def fX7_takeSnapshot_L7 (g : Nat → Nat) : Nat → Option Nat → Int32 → (HM (Int32)) → HM (Int32)
  | 0, _, _, _ => mfail
  | n + 1, v0, v1, K0 =>
  if 631 ≤ v1 then
  (K0)
  else
  (mb (oR 12 4 v0) fun x1 =>
  mb (oR 12 1 v0) fun x2 =>
  mb (aI 0 x2 v1) fun x3 =>
  mb (sI x1 v1 x3) fun _ =>
  fX7_takeSnapshot_L7 g n v0 (v1 + 1) K0)
def fX7_takeSnapshot (g : Nat → Nat) (v0 : Option Nat) : HM (Int32) :=
  mb (pI 12 0 v0 0) fun _ =>
  fX7_takeSnapshot_L7 g 5000 v0 0 (mb (pZ 12 5 v0 1) fun _ =>
  mb (oR 12 1 v0) fun x4 =>
  mb (aI 0 x4 60) fun x5 =>
  mret x5)
def fX7_record_L51 (g : Nat → Nat) : Nat → Option Nat → Int32 → (HM (Unit)) → HM (Unit)
  | 0, _, _, _ => mfail
  | n + 1, v0, v1, K0 =>
  if 631 ≤ v1 then
  (K0)
  else
  (mb (oR 12 2 v0) fun x1 =>
  mb (oI 12 3 v0) fun x2 =>
  mb (oR 12 1 v0) fun x3 =>
  mb (aI 0 x3 v1) fun x4 =>
  mb (sI x1 ((631 * x2) + v1) x4) fun _ =>
  fX7_record_L51 g n v0 (v1 + 1) K0)
def fX7_record_L10 (g : Nat → Nat) : Nat → Option Nat → Int32 → (HM (Unit)) → HM (Unit)
  | 0, _, _, _ => mfail
  | n + 1, v0, v1, K0 =>
  if 2524 ≤ v1 then
  (K0)
  else
  (mb (oR 12 2 v0) fun x5 =>
  mb (oR 12 2 v0) fun x6 =>
  mb (aI 0 x6 (631 + v1)) fun x7 =>
  mb (sI x5 v1 x7) fun _ =>
  fX7_record_L10 g n v0 (v1 + 1) K0)
def fX7_record (g : Nat → Nat) (v0 : Option Nat) : HM (Unit) :=
  mb (oI 12 3 v0) fun x8 =>
  mjn0 (  fX7_record_L51 g 5000 v0 0 (mb (oI 12 3 v0) fun x9 =>
  mb (pI 12 3 v0 (x9 + 1)) fun _ =>
  mret ())) fun j49 =>
  if x8 = 5 then
  (fX7_record_L10 g 5000 v0 0 (mb (oI 12 3 v0) fun x10 =>
  mb (pI 12 3 v0 (x10 - 1)) fun _ =>
  j49))
  else
  (j49)
def fX7_restoreSnapshot_L31 (g : Nat → Nat) : Nat → Option Nat → Int32 → (HM (Int32)) → HM (Int32)
  | 0, _, _, _ => mfail
  | n + 1, v0, v1, K0 =>
  if 631 ≤ v1 then
  (K0)
  else
  (mb (oR 12 1 v0) fun x1 =>
  mb (oR 12 4 v0) fun x2 =>
  mb (aI 0 x2 v1) fun x3 =>
  mb (sI x1 v1 x3) fun _ =>
  fX7_restoreSnapshot_L31 g n v0 (v1 + 1) K0)
def fX7_restoreSnapshot (g : Nat → Nat) (v0 : Option Nat) : HM (Int32) :=
  mb (oI 12 5 v0) fun x4 =>
  mjn (fun (x5 : Int32) =>
  mb (pI 12 0 v0 x5) fun _ =>
  mb (oI 12 0 v0) fun x6 =>
  if x6 ≤ 0 then
  (mb (mon 12 v0 (mcall0 (fX7_record g v0))) fun _ =>
  fX7_restoreSnapshot_L31 g 5000 v0 0 (mb (oR 12 1 v0) fun x7 =>
  mb (aI 0 x7 60) fun x8 =>
  mret x8))
  else
  (mret 0)) fun j13 =>
  if x4 = 0 then
  (j13 1)
  else
  (j13 0)
def fX7_in (g : Nat → Nat) (v0 : Int32) (v1 : Int32) (v2 : Int32) : HM (Int32) :=
  if v0 < v1 then
  (mretT .boolean 0)
  else
  (if v2 < v0 then
  (mretT .boolean 0)
  else
  (mretT .boolean 1))
def fX7_moveStage (g : Nat → Nat) (v0 : Option Nat) (v1 : Int32) : HM (Int32) :=
  mb (mcall0 (fX7_in g v1 0 15)) fun x1 =>
  mjn (fun (x2 : Int32) =>
  mb (pI 12 0 v0 x2) fun _ =>
  mb (oI 12 0 v0) fun x3 =>
  if x3 ≤ 0 then
  (mb (mon 12 v0 (mcall0 (fX7_record g v0))) fun _ =>
  mb (oR 12 1 v0) fun x4 =>
  mb (aI 0 x4 0) fun x5 =>
  mb (oR 12 1 v0) fun x6 =>
  mb (sI x6 0 v1) fun _ =>
  mret x5)
  else
  (mret 0)) fun j16 =>
  if x1 = 0 then
  (j16 1)
  else
  (j16 0)
def fX7_isCell (g : Nat → Nat) (v0 : Int32) (v1 : Int32) : HM (Int32) :=
  mb (mcall0 (fX7_in g v0 0 15)) fun x1 =>
  if x1 = 0 then
  (mretT .boolean 0)
  else
  (mb (mcall0 (fX7_in g v1 0 11)) fun x2 =>
  if x2 = 0 then
  (mretT .boolean 0)
  else
  (mretT .boolean 1))
def fX7_table (g : Nat → Nat) (v0 : Option Nat) (v1 : Int32) (v2 : Int32) : HM (Int32) :=
  mb (oR 12 1 v0) fun x1 =>
  mb (aI 0 x1 ((16 + (4 * v1)) + v2)) fun x2 =>
  mret x2
def fX7_cells (g : Nat → Nat) (v0 : Int32) : HM (Int32) :=
  if v0 = 2 then
  (mret 3)
  else
  (mret 4)
def fX7_cellRight (g : Nat → Nat) (v0 : Int32) (v1 : Int32) (v2 : Int32) : HM (Int32) :=
  if v0 = 0 then
  (mret (imod v2 2))
  else
  (if (imod v1 2) = 0 then
  (mret v2)
  else
  (mret 0))
def fX7_cellDown (g : Nat → Nat) (v0 : Int32) (v1 : Int32) (v2 : Int32) : HM (Int32) :=
  if v0 = 0 then
  (mret (v2 / 2))
  else
  (if (imod v1 2) = 0 then
  (mret 0)
  else
  (mret v2))
def fX7_chairs (g : Nat → Nat) (v0 : Int32) : HM (Int32) :=
  if v0 = 0 then
  (mret 4)
  else
  (if v0 = 1 then
  (mret 8)
  else
  (mret 3))
def fX7_chairRight (g : Nat → Nat) (v0 : Int32) (v1 : Int32) (v2 : Int32) : HM (Int32) :=
  mjn (fun (x1 : Int32) =>
  if v0 = 0 then
  (if v2 = 0 then
  (if x1 = 0 then
  (mret 1)
  else
  (mret 0))
  else
  (if v2 = 1 then
  (mret 2)
  else
  (if v2 = 2 then
  (if x1 = 0 then
  (mret 0)
  else
  (mret 1))
  else
  (mret (-1)))))
  else
  (if v0 = 1 then
  (if x1 = 0 then
  (if 4 ≤ v2 then
  (mret 1)
  else
  (mret (-1)))
  else
  (mret (imod v2 4)))
  else
  (if x1 = 0 then
  (if v1 = 1 then
  (mret (-1))
  else
  (mret 1))
  else
  (mret v2)))) fun j11 =>
  if (imod v1 2) = 0 then
  (j11 1)
  else
  (j11 0)
def fX7_chairDown (g : Nat → Nat) (v0 : Int32) (v1 : Int32) (v2 : Int32) : HM (Int32) :=
  mjn (fun (x1 : Int32) =>
  if v0 = 0 then
  (if v2 = 0 then
  (mret (-1))
  else
  (if v2 = 1 then
  (if x1 = 0 then
  (mret 1)
  else
  (mret 0))
  else
  (if v2 = 2 then
  (mret 2)
  else
  (if x1 = 0 then
  (mret 0)
  else
  (mret 1)))))
  else
  (if v0 = 1 then
  (if x1 = 0 then
  (mret (imod v2 4))
  else
  (if 4 ≤ v2 then
  (mret 1)
  else
  (mret (-1))))
  else
  (if x1 = 0 then
  (mret v2)
  else
  (if v1 = 0 then
  (mret 1)
  else
  (mret (-1)))))) fun j11 =>
  if (imod v1 2) = 0 then
  (j11 1)
  else
  (j11 0)
def fX7_isIn_L98 (g : Nat → Nat) : Nat → Int32 → Int32 → Int32 → Int32 → Int32 → Int32 → HM (Int32)
  | 0, _, _, _, _, _, _ => mfail
  | n + 1, v2, v3, v4, v5, v6, v7 =>
  mb (mcall0 (fX7_chairs g v2)) fun x1 =>
  if x1 ≤ v7 then
  (mretT .boolean v6)
  else
  (mjn (fun (x2 : Int32) =>
  fX7_isIn_L98 g n v2 v3 v4 v5 x2 (v7 + 1)) fun j143 =>
  if v6 = 0 then
  (j143 0)
  else
  (mb (mcall0 (fX7_chairRight g v2 v3 v7)) fun x3 =>
  mb (mcall0 (fX7_chairDown g v2 v3 v7)) fun x4 =>
  mb (mcall0 (fX7_isCell g (v4 + x3) (v5 + x4))) fun x5 =>
  if x5 = 0 then
  (j143 0)
  else
  (j143 1)))
def fX7_isIn_L42 (g : Nat → Nat) : Nat → Int32 → Int32 → Int32 → Int32 → Int32 → Int32 → (Int32 → HM (Int32)) → HM (Int32)
  | 0, _, _, _, _, _, _, _ => mfail
  | n + 1, v2, v3, v4, v5, v6, v7, K0 =>
  mb (mcall0 (fX7_cells g v2)) fun x6 =>
  if x6 ≤ v7 then
  (K0 v6)
  else
  (mjn (fun (x7 : Int32) =>
  fX7_isIn_L42 g n v2 v3 v4 v5 x7 (v7 + 1) K0) fun j87 =>
  if v6 = 0 then
  (j87 0)
  else
  (mb (mcall0 (fX7_cellRight g v2 v3 v7)) fun x8 =>
  mb (mcall0 (fX7_cellDown g v2 v3 v7)) fun x9 =>
  mb (mcall0 (fX7_isCell g (v4 + x8) (v5 + x9))) fun x10 =>
  if x10 = 0 then
  (j87 0)
  else
  (j87 1)))
def fX7_isIn (g : Nat → Nat) (v0 : Option Nat) (v1 : Int32) : HM (Int32) :=
  mb (mon 12 v0 (mcall0 (fX7_table g v0 v1 0))) fun x11 =>
  mb (mon 12 v0 (mcall0 (fX7_table g v0 v1 2))) fun x12 =>
  mb (mon 12 v0 (mcall0 (fX7_table g v0 v1 1))) fun x13 =>
  mb (mon 12 v0 (mcall0 (fX7_table g v0 v1 1))) fun x14 =>
  fX7_isIn_L42 g 5000 x11 x12 (imod x13 16) (x14 / 16) 1 0 (fun (x15 : Int32) =>
  fX7_isIn_L98 g 5000 x11 x12 (imod x13 16) (x14 / 16) x15 0 )
def fX7_lays (g : Nat → Nat) (v0 : Option Nat) (v1 : Int32) (v2 : Int32) : HM (Int32) :=
  mb (oR 12 8 v0) fun x1 =>
  mb (aI 0 x1 v1) fun x2 =>
  mjn (fun (x3 : Int32) =>
  mb (oR 12 8 v0) fun x4 =>
  mb (sI x4 v1 v2) fun _ =>
  mretT .boolean x3) fun j14 =>
  if x2 = 0 then
  (j14 1)
  else
  (j14 0)
def fX7_cellOfTable (g : Nat → Nat) (v0 : Option Nat) (v1 : Int32) (v2 : Int32) : HM (Int32) :=
  mb (mon 12 v0 (mcall0 (fX7_table g v0 v1 1))) fun x1 =>
  mb (mon 12 v0 (mcall0 (fX7_table g v0 v1 0))) fun x2 =>
  mb (mon 12 v0 (mcall0 (fX7_table g v0 v1 2))) fun x3 =>
  mb (mcall0 (fX7_cellRight g x2 x3 v2)) fun x4 =>
  mb (mon 12 v0 (mcall0 (fX7_table g v0 v1 0))) fun x5 =>
  mb (mon 12 v0 (mcall0 (fX7_table g v0 v1 2))) fun x6 =>
  mb (mcall0 (fX7_cellDown g x5 x6 v2)) fun x7 =>
  mret ((x1 + x4) + (16 * x7))
def fX7_cellOfChair (g : Nat → Nat) (v0 : Option Nat) (v1 : Int32) (v2 : Int32) : HM (Int32) :=
  mb (mon 12 v0 (mcall0 (fX7_table g v0 v1 1))) fun x1 =>
  mb (mon 12 v0 (mcall0 (fX7_table g v0 v1 0))) fun x2 =>
  mb (mon 12 v0 (mcall0 (fX7_table g v0 v1 2))) fun x3 =>
  mb (mcall0 (fX7_chairRight g x2 x3 v2)) fun x4 =>
  mb (mon 12 v0 (mcall0 (fX7_table g v0 v1 0))) fun x5 =>
  mb (mon 12 v0 (mcall0 (fX7_table g v0 v1 2))) fun x6 =>
  mb (mcall0 (fX7_chairDown g x5 x6 v2)) fun x7 =>
  mret ((x1 + x4) + (16 * x7))
def fX7_spread_L2 (g : Nat → Nat) : Nat → Option Nat → Int32 → (HM (Unit)) → HM (Unit)
  | 0, _, _, _ => mfail
  | n + 1, v0, v1, K0 =>
  if 192 ≤ v1 then
  (K0)
  else
  (mb (oR 12 9 v0) fun x1 =>
  mb (sI x1 v1 (-1)) fun _ =>
  fX7_spread_L2 g n v0 (v1 + 1) K0)
def fX7_spread_L65 (g : Nat → Nat) : Nat → Option Nat → Int32 → Int32 → Int32 → Int32 → (Int32 → HM (Unit)) → HM (Unit)
  | 0, _, _, _, _, _, _ => mfail
  | n + 1, v0, v1, v2, v3, v4, K0 =>
  if 4 ≤ v4 then
  (K0 v1)
  else
  (mjn (fun (x2 : Int32) =>
  mjn (fun (x3 : Int32) =>
  mb (mcall0 (fX7_isCell g ((imod v3 16) + x2) ((v3 / 16) + x3))) fun x4 =>
  mjn (fun (x5 : Int32) =>
  fX7_spread_L65 g n v0 x5 v2 v3 (v4 + 1) K0) fun j241 =>
  if x4 = 0 then
  (j241 v1)
  else
  (mb (oR 12 9 v0) fun x6 =>
  mb (aI 0 x6 ((16 * ((v3 / 16) + x3)) + ((imod v3 16) + x2))) fun x7 =>
  if x7 = (-1) then
  (mb (oR 12 8 v0) fun x8 =>
  mb (aI 0 x8 ((16 * ((v3 / 16) + x3)) + ((imod v3 16) + x2))) fun x9 =>
  mjn0 (  mb (oR 12 9 v0) fun x10 =>
  mb (oR 12 9 v0) fun x11 =>
  mb (aI 0 x11 v3) fun x12 =>
  mb (sI x10 ((16 * ((v3 / 16) + x3)) + ((imod v3 16) + x2)) (x12 + 1)) fun _ =>
  mb (oR 12 8 v0) fun x13 =>
  mb (aI 0 x13 ((16 * ((v3 / 16) + x3)) + ((imod v3 16) + x2))) fun x14 =>
  if x14 = 0 then
  (mb (oR 12 10 v0) fun x15 =>
  mb (sI x15 v1 ((16 * ((v3 / 16) + x3)) + ((imod v3 16) + x2))) fun _ =>
  j241 (v1 + 1))
  else
  (j241 v1)) fun j187 =>
  if x9 = 0 then
  (j187)
  else
  (mb (oR 12 8 v0) fun x16 =>
  mb (aI 0 x16 ((16 * ((v3 / 16) + x3)) + ((imod v3 16) + x2))) fun x17 =>
  if x17 < 30 then
  (j241 v1)
  else
  (j187)))
  else
  (j241 v1))) fun j123 =>
  if v4 = 2 then
  (j123 1)
  else
  (if v4 = 3 then
  (j123 (-1))
  else
  (j123 0))) fun j95 =>
  if v4 = 0 then
  (j95 1)
  else
  (if v4 = 1 then
  (j95 (-1))
  else
  (j95 0)))
def fX7_spread_L50 (g : Nat → Nat) : Nat → Option Nat → Int32 → Int32 → HM (Unit)
  | 0, _, _, _ => mfail
  | n + 1, v0, v1, v2 =>
  if v1 ≤ v2 then
  (mret ())
  else
  (mb (oR 12 10 v0) fun x18 =>
  mb (aI 0 x18 v2) fun x19 =>
  fX7_spread_L65 g 5000 v0 v1 v2 x19 0 (fun (x20 : Int32) =>
  fX7_spread_L50 g n v0 x20 (v2 + 1)))
def fX7_spread (g : Nat → Nat) (v0 : Option Nat) : HM (Unit) :=
  fX7_spread_L2 g 5000 v0 0 (mb (oR 12 10 v0) fun x21 =>
  mb (oR 12 1 v0) fun x22 =>
  mb (aI 0 x22 1) fun x23 =>
  mb (sI x21 0 x23) fun _ =>
  mb (oR 12 9 v0) fun x24 =>
  mb (oR 12 1 v0) fun x25 =>
  mb (aI 0 x25 1) fun x26 =>
  mb (sI x24 x26 0) fun _ =>
  fX7_spread_L50 g 5000 v0 1 0)
def fX7_check_L31 (g : Nat → Nat) : Nat → Option Nat → Int32 → (HM (Int32)) → HM (Int32)
  | 0, _, _, _ => mfail
  | n + 1, v0, v1, K0 =>
  if 192 ≤ v1 then
  (K0)
  else
  (mb (oR 12 8 v0) fun x1 =>
  mb (sI x1 v1 0) fun _ =>
  fX7_check_L31 g n v0 (v1 + 1) K0)
def fX7_check_L2 (g : Nat → Nat) : Nat → Option Nat → Int32 → (HM (Int32)) → HM (Int32)
  | 0, _, _, _ => mfail
  | n + 1, v0, v1, K0 =>
  mb (oR 12 1 v0) fun x2 =>
  mb (aI 0 x2 15) fun x3 =>
  if x3 ≤ v1 then
  (K0)
  else
  (mb (mon 12 v0 (mcall0 (fX7_isIn g v0 v1))) fun x4 =>
  if x4 = 0 then
  (mret 1)
  else
  (fX7_check_L2 g n v0 (v1 + 1) K0))
def fX7_check_L170 (g : Nat → Nat) : Nat → Option Nat → Int32 → Int32 → Int32 → (Int32 → HM (Int32)) → HM (Int32)
  | 0, _, _, _, _, _ => mfail
  | n + 1, v0, v1, v2, v3, K0 =>
  mb (mon 12 v0 (mcall0 (fX7_table g v0 v2 0))) fun x5 =>
  mb (mcall0 (fX7_chairs g x5)) fun x6 =>
  if x6 ≤ v3 then
  (K0 v1)
  else
  (mb (mon 12 v0 (mcall0 (fX7_cellOfChair g v0 v2 v3))) fun x7 =>
  mb (mon 12 v0 (mcall0 (fX7_lays g v0 x7 (30 + v2)))) fun x8 =>
  mjn (fun (x9 : Int32) =>
  fX7_check_L170 g n v0 x9 v2 (v3 + 1) K0) fun j209 =>
  if x8 = 0 then
  (j209 0)
  else
  (if v1 = 0 then
  (j209 0)
  else
  (j209 1)))
def fX7_check_L122 (g : Nat → Nat) : Nat → Option Nat → Int32 → Int32 → Int32 → (Int32 → HM (Int32)) → HM (Int32)
  | 0, _, _, _, _, _ => mfail
  | n + 1, v0, v1, v2, v3, K0 =>
  mb (mon 12 v0 (mcall0 (fX7_table g v0 v2 0))) fun x10 =>
  mb (mcall0 (fX7_cells g x10)) fun x11 =>
  if x11 ≤ v3 then
  (K0 v1)
  else
  (mb (mon 12 v0 (mcall0 (fX7_cellOfTable g v0 v2 v3))) fun x12 =>
  mb (mon 12 v0 (mcall0 (fX7_lays g v0 x12 (10 + v2)))) fun x13 =>
  mjn (fun (x14 : Int32) =>
  fX7_check_L122 g n v0 x14 v2 (v3 + 1) K0) fun j161 =>
  if x13 = 0 then
  (j161 0)
  else
  (if v1 = 0 then
  (j161 0)
  else
  (j161 1)))
def fX7_check_L65 (g : Nat → Nat) : Nat → Option Nat → Int32 → Int32 → (Int32 → HM (Int32)) → HM (Int32)
  | 0, _, _, _, _ => mfail
  | n + 1, v0, v1, v2, K0 =>
  mb (oR 12 1 v0) fun x15 =>
  mb (aI 0 x15 2) fun x16 =>
  if x16 ≤ v2 then
  (K0 v1)
  else
  (mb (oR 12 1 v0) fun x17 =>
  mb (aI 0 x17 (3 + v2)) fun x18 =>
  mb (mon 12 v0 (mcall0 (fX7_lays g v0 x18 1))) fun x19 =>
  mjn (fun (x20 : Int32) =>
  fX7_check_L65 g n v0 x20 (v2 + 1) K0) fun j100 =>
  if x19 = 0 then
  (j100 0)
  else
  (if v1 = 0 then
  (j100 0)
  else
  (j100 1)))
def fX7_check_L234 (g : Nat → Nat) : Nat → Option Nat → Int32 → Int32 → (Int32 → HM (Int32)) → HM (Int32)
  | 0, _, _, _, _ => mfail
  | n + 1, v0, v1, v2, K0 =>
  if 192 ≤ v2 then
  (K0 v1)
  else
  (mjn (fun (x21 : Int32) =>
  fX7_check_L234 g n v0 x21 (v2 + 1) K0) fun j270 =>
  if v1 = 0 then
  (j270 0)
  else
  (mb (oR 12 8 v0) fun x22 =>
  mb (aI 0 x22 v2) fun x23 =>
  if x23 < 30 then
  (j270 1)
  else
  (mb (oR 12 9 v0) fun x24 =>
  mb (aI 0 x24 v2) fun x25 =>
  if x25 ≤ 0 then
  (j270 0)
  else
  (j270 1))))
def fX7_check_L109 (g : Nat → Nat) : Nat → Option Nat → Int32 → Int32 → (Int32 → HM (Int32)) → HM (Int32)
  | 0, _, _, _, _ => mfail
  | n + 1, v0, v1, v2, K0 =>
  mb (oR 12 1 v0) fun x26 =>
  mb (aI 0 x26 15) fun x27 =>
  if x27 ≤ v2 then
  (K0 v1)
  else
  (fX7_check_L122 g 5000 v0 v1 v2 0 (fun (x28 : Int32) =>
  fX7_check_L170 g 5000 v0 x28 v2 0 (fun (x29 : Int32) =>
  fX7_check_L109 g n v0 x29 (v2 + 1) K0)))
def fX7_check (g : Nat → Nat) (v0 : Option Nat) : HM (Int32) :=
  fX7_check_L2 g 5000 v0 0 (fX7_check_L31 g 5000 v0 0 (mb (oR 12 1 v0) fun x30 =>
  mb (aI 0 x30 1) fun x31 =>
  mb (mon 12 v0 (mcall0 (fX7_lays g v0 x31 2))) fun x32 =>
  fX7_check_L65 g 5000 v0 x32 0 (fun (x33 : Int32) =>
  fX7_check_L109 g 5000 v0 x33 0 (fun (x34 : Int32) =>
  if x34 = 0 then
  (mret 2)
  else
  (mb (mon 12 v0 (mcall0 (fX7_spread g v0))) fun _ =>
  fX7_check_L234 g 5000 v0 x34 0 (fun (x35 : Int32) =>
  if x35 = 0 then
  (mret 3)
  else
  (mret 0)))))))
def fX7_noDoor (g : Nat → Nat) (v0 : Option Nat) (v1 : Int32) : HM (Int32) :=
  mb (oR 12 1 v0) fun x1 =>
  mb (aI 0 x1 1) fun x2 =>
  mb (oR 12 1 v0) fun x3 =>
  mb (sI x3 1 v1) fun _ =>
  mb (mon 12 v0 (mcall0 (fX7_check g v0))) fun x4 =>
  mb (oR 12 1 v0) fun x5 =>
  mb (sI x5 1 x2) fun _ =>
  mret x4
def fX7_moveDoor (g : Nat → Nat) (v0 : Option Nat) (v1 : Int32) (v2 : Int32) : HM (Int32) :=
  mb (mcall0 (fX7_isCell g v1 v2)) fun x1 =>
  mjn (fun (x2 : Int32) =>
  mb (pI 12 0 v0 x2) fun _ =>
  mb (oI 12 0 v0) fun x3 =>
  if x3 ≤ 0 then
  (mb (mon 12 v0 (mcall0 (fX7_record g v0))) fun _ =>
  mb (oR 12 1 v0) fun x4 =>
  mb (aI 0 x4 1) fun x5 =>
  mb (oR 12 1 v0) fun x6 =>
  mb (sI x6 1 ((16 * v2) + v1)) fun _ =>
  mret x5)
  else
  (mret 0)) fun j31 =>
  if x1 = 0 then
  (j31 1)
  else
  (mb (mon 12 v0 (mcall0 (fX7_noDoor g v0 ((16 * v2) + v1)))) fun x7 =>
  if x7 ≤ 0 then
  (j31 0)
  else
  (j31 2))
def fX7_pillarAt_L4 (g : Nat → Nat) : Nat → Option Nat → Int32 → Int32 → Int32 → HM (Int32)
  | 0, _, _, _, _ => mfail
  | n + 1, v0, v1, v2, v3 =>
  mb (oR 12 1 v0) fun x1 =>
  mb (aI 0 x1 2) fun x2 =>
  if x2 ≤ v3 then
  (mret v2)
  else
  (mb (oR 12 1 v0) fun x3 =>
  mb (aI 0 x3 (3 + v3)) fun x4 =>
  mjn (fun (x5 : Int32) =>
  fX7_pillarAt_L4 g n v0 v1 x5 (v3 + 1)) fun j31 =>
  if x4 = v1 then
  (j31 v3)
  else
  (j31 v2))
def fX7_pillarAt (g : Nat → Nat) (v0 : Option Nat) (v1 : Int32) : HM (Int32) :=
  fX7_pillarAt_L4 g 5000 v0 v1 (-1) 0 
def fX7_noPillar (g : Nat → Nat) (v0 : Option Nat) (v1 : Int32) : HM (Int32) :=
  mb (oR 12 1 v0) fun x1 =>
  mb (aI 0 x1 2) fun x2 =>
  if x2 = 12 then
  (mret 1)
  else
  (mb (oR 12 1 v0) fun x3 =>
  mb (oR 12 1 v0) fun x4 =>
  mb (aI 0 x4 2) fun x5 =>
  mb (sI x3 (3 + x5) v1) fun _ =>
  mb (oR 12 1 v0) fun x6 =>
  mb (aI 0 x6 2) fun x7 =>
  mb (sI x6 2 (x7 + 1)) fun _ =>
  mb (mon 12 v0 (mcall0 (fX7_check g v0))) fun x8 =>
  mb (oR 12 1 v0) fun x9 =>
  mb (aI 0 x9 2) fun x10 =>
  mb (sI x9 2 (x10 - 1)) fun _ =>
  mret x8)
def fX7_noTurnPillar (g : Nat → Nat) (v0 : Option Nat) (v1 : Int32) (v2 : Int32) : HM (Int32) :=
  mb (mcall0 (fX7_isCell g v1 v2)) fun x1 =>
  if x1 = 0 then
  (mret 1)
  else
  (mb (mon 12 v0 (mcall0 (fX7_pillarAt g v0 ((16 * v2) + v1)))) fun x2 =>
  if x2 = (-1) then
  (mb (mon 12 v0 (mcall0 (fX7_noPillar g v0 ((16 * v2) + v1)))) fun x3 =>
  if x3 ≤ 0 then
  (mret 0)
  else
  (mret 2))
  else
  (mret 0))
def fX7_turnsPillar (g : Nat → Nat) (v0 : Option Nat) (v1 : Int32) : HM (Int32) :=
  mb (mon 12 v0 (mcall0 (fX7_pillarAt g v0 v1))) fun x1 =>
  if x1 = (-1) then
  (mb (oR 12 1 v0) fun x9 =>
  mb (oR 12 1 v0) fun x10 =>
  mb (aI 0 x10 2) fun x11 =>
  mb (sI x9 (3 + x11) v1) fun _ =>
  mb (oR 12 1 v0) fun x12 =>
  mb (aI 0 x12 2) fun x13 =>
  mb (sI x12 2 (x13 + 1)) fun _ =>
  mretT .boolean 1)
  else
  (mb (oR 12 1 v0) fun x2 =>
  mb (aI 0 x2 2) fun x3 =>
  mb (sI x2 2 (x3 - 1)) fun _ =>
  mb (oR 12 1 v0) fun x4 =>
  mb (oR 12 1 v0) fun x5 =>
  mb (oR 12 1 v0) fun x6 =>
  mb (aI 0 x6 2) fun x7 =>
  mb (aI 0 x5 (3 + x7)) fun x8 =>
  mb (sI x4 (3 + x1) x8) fun _ =>
  mretT .boolean 0)
def fX7_turnPillar (g : Nat → Nat) (v0 : Option Nat) (v1 : Int32) (v2 : Int32) : HM (Int32) :=
  mb (mon 12 v0 (mcall0 (fX7_noTurnPillar g v0 v1 v2))) fun x1 =>
  mb (pI 12 0 v0 x1) fun _ =>
  mb (oI 12 0 v0) fun x2 =>
  if x2 ≤ 0 then
  (mb (mon 12 v0 (mcall0 (fX7_record g v0))) fun _ =>
  mb (mon 12 v0 (mcall0 (fX7_turnsPillar g v0 ((16 * v2) + v1)))) fun x3 =>
  mretT .boolean x3)
  else
  (mretT .boolean 0)
def fX7_isShape (g : Nat → Nat) (v0 : Int32) (v1 : Int32) (v2 : Int32) (v3 : Int32) : HM (Int32) :=
  mb (mcall0 (fX7_in g v0 0 2)) fun x1 =>
  if x1 = 0 then
  (mretT .boolean 0)
  else
  (mb (mcall0 (fX7_isCell g v1 v2)) fun x2 =>
  if x2 = 0 then
  (mretT .boolean 0)
  else
  (mb (mcall0 (fX7_in g v3 0 3)) fun x3 =>
  if x3 = 0 then
  (mretT .boolean 0)
  else
  (mretT .boolean 1)))
def fX7_setTable (g : Nat → Nat) (v0 : Option Nat) (v1 : Int32) (v2 : Int32) (v3 : Int32) : HM (Unit) :=
  mb (oR 12 1 v0) fun x1 =>
  mb (sI x1 ((16 + (4 * v1)) + v2) v3) fun _ =>
  mret ()
def fX7_layTable (g : Nat → Nat) (v0 : Option Nat) (v1 : Int32) (v2 : Int32) (v3 : Int32) (v4 : Int32) : HM (Unit) :=
  mb (oR 12 1 v0) fun x1 =>
  mb (aI 0 x1 15) fun x2 =>
  mb (mon 12 v0 (mcall0 (fX7_setTable g v0 x2 0 v1))) fun _ =>
  mb (mon 12 v0 (mcall0 (fX7_setTable g v0 x2 1 ((16 * v3) + v2)))) fun _ =>
  mb (mon 12 v0 (mcall0 (fX7_setTable g v0 x2 2 v4))) fun _ =>
  mb (mon 12 v0 (mcall0 (fX7_setTable g v0 x2 3 0))) fun _ =>
  mb (oR 12 1 v0) fun x3 =>
  mb (aI 0 x3 15) fun x4 =>
  mb (sI x3 15 (x4 + 1)) fun _ =>
  mret ()
def fX7_noTable (g : Nat → Nat) (v0 : Option Nat) (v1 : Int32) (v2 : Int32) (v3 : Int32) (v4 : Int32) : HM (Int32) :=
  mb (oR 12 1 v0) fun x1 =>
  mb (aI 0 x1 15) fun x2 =>
  mb (mon 12 v0 (mcall0 (fX7_layTable g v0 v1 v2 v3 v4))) fun _ =>
  mb (mon 12 v0 (mcall0 (fX7_check g v0))) fun x3 =>
  mb (oR 12 1 v0) fun x4 =>
  mb (sI x4 15 x2) fun _ =>
  mret x3
def fX7_noAdd (g : Nat → Nat) (v0 : Option Nat) (v1 : Int32) (v2 : Int32) (v3 : Int32) (v4 : Int32) : HM (Int32) :=
  mb (mcall0 (fX7_isShape g v1 v2 v3 v4)) fun x1 =>
  if x1 = 0 then
  (mret 1)
  else
  (mb (oR 12 1 v0) fun x2 =>
  mb (aI 0 x2 15) fun x3 =>
  if x3 = 10 then
  (mret 2)
  else
  (mb (mon 12 v0 (mcall0 (fX7_noTable g v0 v1 v2 v3 v4))) fun x4 =>
  if x4 ≤ 0 then
  (mret 0)
  else
  (mret 2)))
def fX7_addTable (g : Nat → Nat) (v0 : Option Nat) (v1 : Int32) (v2 : Int32) (v3 : Int32) (v4 : Int32) : HM (Int32) :=
  mb (mon 12 v0 (mcall0 (fX7_noAdd g v0 v1 v2 v3 v4))) fun x1 =>
  mb (pI 12 0 v0 x1) fun _ =>
  mb (oI 12 0 v0) fun x2 =>
  if x2 ≤ 0 then
  (mb (mon 12 v0 (mcall0 (fX7_record g v0))) fun _ =>
  mb (mon 12 v0 (mcall0 (fX7_layTable g v0 v1 v2 v3 v4))) fun _ =>
  mb (oR 12 1 v0) fun x3 =>
  mb (aI 0 x3 15) fun x4 =>
  mret (x4 - 1))
  else
  (mret 0)
def fX7_isTable (g : Nat → Nat) (v0 : Option Nat) (v1 : Int32) : HM (Int32) :=
  mb (oR 12 1 v0) fun x1 =>
  mb (aI 0 x1 15) fun x2 =>
  mb (mcall0 (fX7_in g v1 0 (x2 - 1))) fun x3 =>
  mretT .boolean x3
def fX7_canStand (g : Nat → Nat) (v0 : Option Nat) (v1 : Int32) (v2 : Int32) (v3 : Int32) : HM (Int32) :=
  mb (mon 12 v0 (mcall0 (fX7_table g v0 v1 1))) fun x1 =>
  mb (mon 12 v0 (mcall0 (fX7_table g v0 v1 2))) fun x2 =>
  mb (mon 12 v0 (mcall0 (fX7_setTable g v0 v1 1 v2))) fun _ =>
  mb (mon 12 v0 (mcall0 (fX7_setTable g v0 v1 2 v3))) fun _ =>
  mb (mon 12 v0 (mcall0 (fX7_check g v0))) fun x3 =>
  mb (mon 12 v0 (mcall0 (fX7_setTable g v0 v1 1 x1))) fun _ =>
  mb (mon 12 v0 (mcall0 (fX7_setTable g v0 v1 2 x2))) fun _ =>
  if x3 = 0 then
  (mretT .boolean 1)
  else
  (mretT .boolean 0)
def fX7_noMove (g : Nat → Nat) (v0 : Option Nat) (v1 : Int32) (v2 : Int32) (v3 : Int32) : HM (Int32) :=
  mb (mon 12 v0 (mcall0 (fX7_isTable g v0 v1))) fun x1 =>
  if x1 = 0 then
  (mret 1)
  else
  (mb (mcall0 (fX7_isCell g v2 v3)) fun x2 =>
  if x2 = 0 then
  (mret 2)
  else
  (mb (mon 12 v0 (mcall0 (fX7_table g v0 v1 2))) fun x3 =>
  mb (mon 12 v0 (mcall0 (fX7_canStand g v0 v1 ((16 * v3) + v2) x3))) fun x4 =>
  if x4 = 0 then
  (mret 3)
  else
  (mret 0)))
def fX7_moveTable (g : Nat → Nat) (v0 : Option Nat) (v1 : Int32) (v2 : Int32) (v3 : Int32) : HM (Int32) :=
  mb (mon 12 v0 (mcall0 (fX7_noMove g v0 v1 v2 v3))) fun x1 =>
  mb (pI 12 0 v0 x1) fun _ =>
  mb (oI 12 0 v0) fun x2 =>
  if x2 ≤ 0 then
  (mb (mon 12 v0 (mcall0 (fX7_record g v0))) fun _ =>
  mb (mon 12 v0 (mcall0 (fX7_table g v0 v1 1))) fun x3 =>
  mb (mon 12 v0 (mcall0 (fX7_setTable g v0 v1 1 ((16 * v3) + v2)))) fun _ =>
  mret x3)
  else
  (mret 0)
def fX7_noTurn (g : Nat → Nat) (v0 : Option Nat) (v1 : Int32) (v2 : Int32) : HM (Int32) :=
  mb (mon 12 v0 (mcall0 (fX7_isTable g v0 v1))) fun x1 =>
  if x1 = 0 then
  (mret 1)
  else
  (mb (mcall0 (fX7_in g v2 0 3)) fun x2 =>
  if x2 = 0 then
  (mret 2)
  else
  (mb (mon 12 v0 (mcall0 (fX7_table g v0 v1 1))) fun x3 =>
  mb (mon 12 v0 (mcall0 (fX7_canStand g v0 v1 x3 v2))) fun x4 =>
  if x4 = 0 then
  (mret 3)
  else
  (mret 0)))
def fX7_turnTable (g : Nat → Nat) (v0 : Option Nat) (v1 : Int32) (v2 : Int32) : HM (Int32) :=
  mb (mon 12 v0 (mcall0 (fX7_noTurn g v0 v1 v2))) fun x1 =>
  mb (pI 12 0 v0 x1) fun _ =>
  mb (oI 12 0 v0) fun x2 =>
  if x2 ≤ 0 then
  (mb (mon 12 v0 (mcall0 (fX7_record g v0))) fun _ =>
  mb (mon 12 v0 (mcall0 (fX7_table g v0 v1 2))) fun x3 =>
  mb (mon 12 v0 (mcall0 (fX7_setTable g v0 v1 2 v2))) fun _ =>
  mret x3)
  else
  (mret 0)
def fX7_setFlowers (g : Nat → Nat) (v0 : Option Nat) (v1 : Int32) (v2 : Int32) : HM (Int32) :=
  mb (mon 12 v0 (mcall0 (fX7_isTable g v0 v1))) fun x1 =>
  mjn (fun (x2 : Int32) =>
  mb (pI 12 0 v0 x2) fun _ =>
  mb (oI 12 0 v0) fun x3 =>
  if x3 ≤ 0 then
  (mb (mon 12 v0 (mcall0 (fX7_record g v0))) fun _ =>
  mb (mon 12 v0 (mcall0 (fX7_table g v0 v1 3))) fun x4 =>
  mb (mon 12 v0 (mcall0 (fX7_setTable g v0 v1 3 v2))) fun _ =>
  mret x4)
  else
  (mret 0)) fun j28 =>
  if x1 = 0 then
  (j28 1)
  else
  (mb (mcall0 (fX7_in g v2 0 9)) fun x5 =>
  if x5 = 0 then
  (j28 2)
  else
  (j28 0))
def fX7_guest (g : Nat → Nat) (v0 : Option Nat) (v1 : Int32) (v2 : Int32) : HM (Int32) :=
  mb (oR 12 1 v0) fun x1 =>
  mb (aI 0 x1 ((61 + (18 * v1)) + v2)) fun x2 =>
  mret x2
def fX7_sitters_L4 (g : Nat → Nat) : Nat → Option Nat → Int32 → Int32 → Int32 → HM (Int32)
  | 0, _, _, _, _ => mfail
  | n + 1, v0, v1, v2, v3 =>
  mb (oR 12 1 v0) fun x1 =>
  mb (aI 0 x1 60) fun x2 =>
  if x2 ≤ v3 then
  (mret v2)
  else
  (mb (mon 12 v0 (mcall0 (fX7_guest g v0 v3 1))) fun x3 =>
  mjn (fun (x4 : Int32) =>
  fX7_sitters_L4 g n v0 v1 (v2 + x4) (v3 + 1)) fun j31 =>
  if x3 = v1 then
  (j31 1)
  else
  (j31 0))
def fX7_sitters (g : Nat → Nat) (v0 : Option Nat) (v1 : Int32) : HM (Int32) :=
  fX7_sitters_L4 g 5000 v0 v1 0 0 
def fX7_setGuest (g : Nat → Nat) (v0 : Option Nat) (v1 : Int32) (v2 : Int32) (v3 : Int32) : HM (Unit) :=
  mb (oR 12 1 v0) fun x1 =>
  mb (sI x1 ((61 + (18 * v1)) + v2) v3) fun _ =>
  mret ()
def fX7_removeTable_L60 (g : Nat → Nat) : Nat → Option Nat → Int32 → Int32 → (HM (Int32)) → HM (Int32)
  | 0, _, _, _, _ => mfail
  | n + 1, v0, v1, v2, K0 =>
  mb (oR 12 1 v0) fun x1 =>
  mb (aI 0 x1 15) fun x2 =>
  if (16 + (4 * x2)) ≤ v2 then
  (K0)
  else
  (mb (oR 12 1 v0) fun x3 =>
  mb (oR 12 1 v0) fun x4 =>
  mb (aI 0 x4 (v2 + 4)) fun x5 =>
  mb (sI x3 v2 x5) fun _ =>
  fX7_removeTable_L60 g n v0 v1 (v2 + 1) K0)
def fX7_removeTable_L98 (g : Nat → Nat) : Nat → Option Nat → Int32 → Int32 → (HM (Int32)) → HM (Int32)
  | 0, _, _, _, _ => mfail
  | n + 1, v0, v1, v2, K0 =>
  mb (oR 12 1 v0) fun x6 =>
  mb (aI 0 x6 60) fun x7 =>
  if x7 ≤ v2 then
  (K0)
  else
  (mb (mon 12 v0 (mcall0 (fX7_guest g v0 v2 1))) fun x8 =>
  mjn (fun (x9 : Int32) =>
  mb (mon 12 v0 (mcall0 (fX7_setGuest g v0 v2 1 x9))) fun _ =>
  fX7_removeTable_L98 g n v0 v1 (v2 + 1) K0) fun j139 =>
  if x8 ≤ v1 then
  (mb (mon 12 v0 (mcall0 (fX7_guest g v0 v2 1))) fun x10 =>
  j139 x10)
  else
  (mb (mon 12 v0 (mcall0 (fX7_guest g v0 v2 1))) fun x11 =>
  j139 (x11 - 1)))
def fX7_removeTable (g : Nat → Nat) (v0 : Option Nat) (v1 : Int32) : HM (Int32) :=
  mb (mon 12 v0 (mcall0 (fX7_isTable g v0 v1))) fun x12 =>
  mjn (fun (x13 : Int32) =>
  mb (pI 12 0 v0 x13) fun _ =>
  mb (oI 12 0 v0) fun x14 =>
  if x14 ≤ 0 then
  (mb (mon 12 v0 (mcall0 (fX7_record g v0))) fun _ =>
  mb (oR 12 1 v0) fun x15 =>
  mb (aI 0 x15 15) fun x16 =>
  mb (sI x15 15 (x16 - 1)) fun _ =>
  fX7_removeTable_L60 g 5000 v0 v1 (16 + (4 * v1)) (fX7_removeTable_L98 g 5000 v0 v1 0 (mb (oR 12 1 v0) fun x17 =>
  mb (aI 0 x17 15) fun x18 =>
  mret x18)))
  else
  (mret 0)) fun j26 =>
  if x12 = 0 then
  (j26 1)
  else
  (mb (mon 12 v0 (mcall0 (fX7_sitters g v0 v1))) fun x19 =>
  if x19 ≤ 0 then
  (j26 0)
  else
  (j26 2))
def fX7_isLetter (g : Nat → Nat) (v0 : Int32) : HM (Int32) :=
  mb (mcall0 (fX7_in g v0 97 122)) fun x1 =>
  mretT .boolean x1
def fX7_isName_L50 (g : Nat → Nat) : Nat → Option Nat → Int32 → Int32 → HM (Int32)
  | 0, _, _, _ => mfail
  | n + 1, v0, v1, v2 =>
  mb (oI 12 7 v0) fun x1 =>
  if x1 ≤ v2 then
  (mretT .boolean v1)
  else
  (if v1 = 0 then
  (mretT .boolean v1)
  else
  (mb (oR 12 6 v0) fun x2 =>
  mb (aI 0 x2 v2) fun x3 =>
  mb (mcall0 (fX7_isLetter g x3)) fun x4 =>
  mjn (fun (x5 : Int32) =>
  fX7_isName_L50 g n v0 x5 (v2 + 1)) fun j103 =>
  if x4 = 0 then
  (mb (oR 12 6 v0) fun x6 =>
  mb (aI 0 x6 v2) fun x7 =>
  if x7 = 32 then
  (mb (oR 12 6 v0) fun x8 =>
  mb (aI 0 x8 (v2 - 1)) fun x9 =>
  if x9 = 32 then
  (j103 0)
  else
  (j103 1))
  else
  (j103 0))
  else
  (j103 1)))
def fX7_isName (g : Nat → Nat) (v0 : Option Nat) : HM (Int32) :=
  mb (oI 12 7 v0) fun x10 =>
  mb (mcall0 (fX7_in g x10 1 14)) fun x11 =>
  mjn (fun (x12 : Int32) =>
  fX7_isName_L50 g 5000 v0 x12 1 ) fun j47 =>
  if x11 = 0 then
  (j47 0)
  else
  (mb (oR 12 6 v0) fun x13 =>
  mb (aI 0 x13 0) fun x14 =>
  mb (mcall0 (fX7_isLetter g x14)) fun x15 =>
  if x15 = 0 then
  (j47 0)
  else
  (mb (oR 12 6 v0) fun x16 =>
  mb (oI 12 7 v0) fun x17 =>
  mb (aI 0 x16 (x17 - 1)) fun x18 =>
  mb (mcall0 (fX7_isLetter g x18)) fun x19 =>
  if x19 = 0 then
  (j47 0)
  else
  (j47 1)))
def fX7_addGuest_L96 (g : Nat → Nat) : Nat → Option Nat → Int32 → Int32 → (HM (Int32)) → HM (Int32)
  | 0, _, _, _, _ => mfail
  | n + 1, v0, v2, v3, K0 =>
  if 14 ≤ v3 then
  (K0)
  else
  (mb (oI 12 7 v0) fun x1 =>
  mjn (fun (x2 : Int32) =>
  mb (mon 12 v0 (mcall0 (fX7_setGuest g v0 v2 (4 + v3) x2))) fun _ =>
  fX7_addGuest_L96 g n v0 v2 (v3 + 1) K0) fun j125 =>
  if x1 ≤ v3 then
  (j125 0)
  else
  (mb (oR 12 6 v0) fun x3 =>
  mb (aI 0 x3 v3) fun x4 =>
  j125 x4))
def fX7_addGuest (g : Nat → Nat) (v0 : Option Nat) (v1 : Int32) : HM (Int32) :=
  mb (mcall0 (fX7_in g v1 1 9)) fun x5 =>
  mjn (fun (x6 : Int32) =>
  mb (pI 12 0 v0 x6) fun _ =>
  mb (oI 12 0 v0) fun x7 =>
  if x7 ≤ 0 then
  (mb (mon 12 v0 (mcall0 (fX7_record g v0))) fun _ =>
  mb (oR 12 1 v0) fun x8 =>
  mb (aI 0 x8 60) fun x9 =>
  mb (mon 12 v0 (mcall0 (fX7_setGuest g v0 x9 0 v1))) fun _ =>
  mb (mon 12 v0 (mcall0 (fX7_setGuest g v0 x9 1 (-1)))) fun _ =>
  mb (mon 12 v0 (mcall0 (fX7_setGuest g v0 x9 2 (-1)))) fun _ =>
  mb (oI 12 7 v0) fun x10 =>
  mb (mon 12 v0 (mcall0 (fX7_setGuest g v0 x9 3 x10))) fun _ =>
  fX7_addGuest_L96 g 5000 v0 x9 0 (mb (oR 12 1 v0) fun x11 =>
  mb (sI x11 (601 + x9) 0) fun _ =>
  mb (oR 12 1 v0) fun x12 =>
  mb (aI 0 x12 60) fun x13 =>
  mb (sI x12 60 (x13 + 1)) fun _ =>
  mb (pI 12 7 v0 0) fun _ =>
  mret x9))
  else
  (mret 0)) fun j39 =>
  if x5 = 0 then
  (j39 1)
  else
  (mb (oR 12 1 v0) fun x14 =>
  mb (aI 0 x14 60) fun x15 =>
  if x15 = 30 then
  (j39 2)
  else
  (mb (mon 12 v0 (mcall0 (fX7_isName g v0))) fun x16 =>
  if x16 = 0 then
  (j39 2)
  else
  (j39 0)))
def fX7_isGuest (g : Nat → Nat) (v0 : Option Nat) (v1 : Int32) : HM (Int32) :=
  mb (oR 12 1 v0) fun x1 =>
  mb (aI 0 x1 60) fun x2 =>
  mb (mcall0 (fX7_in g v1 0 (x2 - 1))) fun x3 =>
  mretT .boolean x3
def fX7_isChair (g : Nat → Nat) (v0 : Option Nat) (v1 : Int32) (v2 : Int32) : HM (Int32) :=
  mb (mon 12 v0 (mcall0 (fX7_isTable g v0 v1))) fun x1 =>
  if x1 = 0 then
  (mretT .boolean 0)
  else
  (mb (mon 12 v0 (mcall0 (fX7_table g v0 v1 0))) fun x2 =>
  mb (mcall0 (fX7_chairs g x2)) fun x3 =>
  mb (mcall0 (fX7_in g v2 0 (x3 - 1))) fun x4 =>
  if x4 = 0 then
  (mretT .boolean 0)
  else
  (mretT .boolean 1))
def fX7_sits (g : Nat → Nat) (v0 : Option Nat) (v1 : Int32) : HM (Int32) :=
  mb (mon 12 v0 (mcall0 (fX7_guest g v0 v1 1))) fun x1 =>
  if x1 = (-1) then
  (mretT .boolean 0)
  else
  (mretT .boolean 1)
def fX7_sitter_L5 (g : Nat → Nat) : Nat → Option Nat → Int32 → Int32 → Int32 → Int32 → HM (Int32)
  | 0, _, _, _, _, _ => mfail
  | n + 1, v0, v1, v2, v3, v4 =>
  mb (oR 12 1 v0) fun x1 =>
  mb (aI 0 x1 60) fun x2 =>
  if x2 ≤ v4 then
  (mret v3)
  else
  (mb (mon 12 v0 (mcall0 (fX7_guest g v0 v4 1))) fun x3 =>
  mjn (fun (x4 : Int32) =>
  fX7_sitter_L5 g n v0 v1 v2 x4 (v4 + 1)) fun j45 =>
  if x3 = v1 then
  (mb (mon 12 v0 (mcall0 (fX7_guest g v0 v4 2))) fun x5 =>
  if x5 = v2 then
  (j45 v4)
  else
  (j45 v3))
  else
  (j45 v3))
def fX7_sitter (g : Nat → Nat) (v0 : Option Nat) (v1 : Int32) (v2 : Int32) : HM (Int32) :=
  fX7_sitter_L5 g 5000 v0 v1 v2 (-1) 0 
def fX7_width_L4 (g : Nat → Nat) : Nat → Option Nat → Int32 → Int32 → Int32 → HM (Int32)
  | 0, _, _, _, _ => mfail
  | n + 1, v0, v1, v2, v3 =>
  mb (mon 12 v0 (mcall0 (fX7_guest g v0 v1 3))) fun x1 =>
  if x1 ≤ v3 then
  (mret v2)
  else
  (mb (mon 12 v0 (mcall0 (fX7_guest g v0 v1 (4 + v3)))) fun x2 =>
  mjn (fun (x3 : Int32) =>
  fX7_width_L4 g n v0 v1 (v2 + x3) (v3 + 1)) fun j102 =>
  if x2 = 105 then
  (j102 2)
  else
  (if x2 = 106 then
  (j102 2)
  else
  (if x2 = 108 then
  (j102 2)
  else
  (if x2 = 32 then
  (j102 2)
  else
  (if x2 = 102 then
  (j102 3)
  else
  (if x2 = 114 then
  (j102 3)
  else
  (if x2 = 116 then
  (j102 3)
  else
  (if x2 = 109 then
  (j102 6)
  else
  (if x2 = 119 then
  (j102 6)
  else
  (j102 4))))))))))
def fX7_width (g : Nat → Nat) (v0 : Option Nat) (v1 : Int32) : HM (Int32) :=
  fX7_width_L4 g 5000 v0 v1 0 0 
def fX7_card (g : Nat → Nat) (v0 : Int32) : HM (Int32) :=
  if v0 = 0 then
  (mret 34)
  else
  (if v0 = 1 then
  (mret 28)
  else
  (mret 40))
def fX7_noSeat (g : Nat → Nat) (v0 : Option Nat) (v1 : Int32) (v2 : Int32) (v3 : Int32) : HM (Int32) :=
  mb (mon 12 v0 (mcall0 (fX7_sits g v0 v1))) fun x1 =>
  if x1 = 0 then
  (mb (mon 12 v0 (mcall0 (fX7_sitter g v0 v2 v3))) fun x2 =>
  if x2 = (-1) then
  (mb (mon 12 v0 (mcall0 (fX7_width g v0 v1))) fun x3 =>
  mb (mon 12 v0 (mcall0 (fX7_table g v0 v2 0))) fun x4 =>
  mb (mcall0 (fX7_card g x4)) fun x5 =>
  if x3 ≤ x5 then
  (mret 0)
  else
  (mret 3))
  else
  (mret 2))
  else
  (mret 1)
def fX7_put (g : Nat → Nat) (v0 : Option Nat) (v1 : Int32) (v2 : Int32) (v3 : Int32) : HM (Unit) :=
  mb (mon 12 v0 (mcall0 (fX7_setGuest g v0 v1 1 v2))) fun _ =>
  mb (mon 12 v0 (mcall0 (fX7_setGuest g v0 v1 2 v3))) fun _ =>
  mret ()
def fX7_seat (g : Nat → Nat) (v0 : Option Nat) (v1 : Int32) (v2 : Int32) (v3 : Int32) : HM (Int32) :=
  mb (mon 12 v0 (mcall0 (fX7_isGuest g v0 v1))) fun x1 =>
  mjn (fun (x2 : Int32) =>
  mb (pI 12 0 v0 x2) fun _ =>
  mb (oI 12 0 v0) fun x3 =>
  if x3 ≤ 0 then
  (mb (mon 12 v0 (mcall0 (fX7_record g v0))) fun _ =>
  mb (mon 12 v0 (mcall0 (fX7_put g v0 v1 v2 v3))) fun _ =>
  mb (mon 12 v0 (mcall0 (fX7_cellOfChair g v0 v2 v3))) fun x4 =>
  mret x4)
  else
  (mret 0)) fun j37 =>
  if x1 = 0 then
  (j37 1)
  else
  (mb (mon 12 v0 (mcall0 (fX7_isChair g v0 v2 v3))) fun x5 =>
  if x5 = 0 then
  (j37 1)
  else
  (mb (mon 12 v0 (mcall0 (fX7_noSeat g v0 v1 v2 v3))) fun x6 =>
  if x6 ≤ 0 then
  (j37 0)
  else
  (j37 2)))
def fX7_cellOfGuest (g : Nat → Nat) (v0 : Option Nat) (v1 : Int32) : HM (Int32) :=
  mb (mon 12 v0 (mcall0 (fX7_guest g v0 v1 1))) fun x1 =>
  mb (mon 12 v0 (mcall0 (fX7_guest g v0 v1 2))) fun x2 =>
  mb (mon 12 v0 (mcall0 (fX7_cellOfChair g v0 x1 x2))) fun x3 =>
  mret x3
def fX7_unseat (g : Nat → Nat) (v0 : Option Nat) (v1 : Int32) : HM (Int32) :=
  mb (mon 12 v0 (mcall0 (fX7_isGuest g v0 v1))) fun x1 =>
  mjn (fun (x2 : Int32) =>
  mb (pI 12 0 v0 x2) fun _ =>
  mb (oI 12 0 v0) fun x3 =>
  if x3 ≤ 0 then
  (mb (mon 12 v0 (mcall0 (fX7_record g v0))) fun _ =>
  mb (mon 12 v0 (mcall0 (fX7_cellOfGuest g v0 v1))) fun x4 =>
  mb (mon 12 v0 (mcall0 (fX7_put g v0 v1 (-1) (-1)))) fun _ =>
  mret x4)
  else
  (mret 0)) fun j26 =>
  if x1 = 0 then
  (j26 1)
  else
  (mb (mon 12 v0 (mcall0 (fX7_sits g v0 v1))) fun x5 =>
  if x5 = 0 then
  (j26 2)
  else
  (j26 0))
def fX7_noSwap (g : Nat → Nat) (v0 : Option Nat) (v1 : Int32) (v2 : Int32) : HM (Int32) :=
  mb (mon 12 v0 (mcall0 (fX7_sits g v0 v1))) fun x1 =>
  if x1 = 0 then
  (mret 1)
  else
  (mb (mon 12 v0 (mcall0 (fX7_sits g v0 v2))) fun x2 =>
  if x2 = 0 then
  (mret 1)
  else
  (if v1 = v2 then
  (mret 2)
  else
  (mb (mon 12 v0 (mcall0 (fX7_width g v0 v1))) fun x3 =>
  mb (mon 12 v0 (mcall0 (fX7_guest g v0 v2 1))) fun x4 =>
  mb (mon 12 v0 (mcall0 (fX7_table g v0 x4 0))) fun x5 =>
  mb (mcall0 (fX7_card g x5)) fun x6 =>
  if x6 < x3 then
  (mret 3)
  else
  (mb (mon 12 v0 (mcall0 (fX7_width g v0 v2))) fun x7 =>
  mb (mon 12 v0 (mcall0 (fX7_guest g v0 v1 1))) fun x8 =>
  mb (mon 12 v0 (mcall0 (fX7_table g v0 x8 0))) fun x9 =>
  mb (mcall0 (fX7_card g x9)) fun x10 =>
  if x7 ≤ x10 then
  (mret 0)
  else
  (mret 3)))))
def fX7_column (g : Nat → Nat) (v0 : Option Nat) (v1 : Int32) (v2 : Int32) : HM (Int32) :=
  mb (oR 12 1 v0) fun x1 =>
  mb (aI 0 x1 0) fun x2 =>
  mjn (fun (x3 : Int32) =>
  mret ((imod v1 16) + x3)) fun j65 =>
  if ((((2 * ((v1 / 16) - v2)) * (x2 - (imod v1 16))) + (v1 / 16)) + 1) < 0 then
  (mb (mnz (2 * ((v1 / 16) + 1))) fun _ =>
  j65 (-((((2 * ((v1 / 16) + 1)) - 1) - ((((2 * ((v1 / 16) - v2)) * (x2 - (imod v1 16))) + (v1 / 16)) + 1)) / (2 * ((v1 / 16) + 1)))))
  else
  (mb (mnz (2 * ((v1 / 16) + 1))) fun _ =>
  j65 (((((2 * ((v1 / 16) - v2)) * (x2 - (imod v1 16))) + (v1 / 16)) + 1) / (2 * ((v1 / 16) + 1))))
def fX7_stands_L64 (g : Nat → Nat) : Nat → Option Nat → Int32 → Int32 → Int32 → Int32 → HM (Int32)
  | 0, _, _, _, _, _ => mfail
  | n + 1, v0, v1, v2, v3, v4 =>
  mb (oR 12 1 v0) fun x1 =>
  mb (aI 0 x1 60) fun x2 =>
  if x2 ≤ v4 then
  (mretT .boolean v3)
  else
  (mjn (fun (x3 : Int32) =>
  fX7_stands_L64 g n v0 v1 v2 x3 (v4 + 1)) fun j126 =>
  if v3 = 0 then
  (if v4 = v1 then
  (j126 0)
  else
  (mb (mon 12 v0 (mcall0 (fX7_sits g v0 v4))) fun x4 =>
  if x4 = 0 then
  (j126 0)
  else
  (mb (mon 12 v0 (mcall0 (fX7_cellOfGuest g v0 v4))) fun x5 =>
  if x5 = v2 then
  (mb (mon 12 v0 (mcall0 (fX7_guest g v0 v4 0))) fun x6 =>
  mb (mon 12 v0 (mcall0 (fX7_guest g v0 v1 0))) fun x7 =>
  if x6 ≤ x7 then
  (j126 0)
  else
  (j126 1))
  else
  (j126 0))))
  else
  (j126 1))
def fX7_stands (g : Nat → Nat) (v0 : Option Nat) (v1 : Int32) (v2 : Int32) : HM (Int32) :=
  mb (oR 12 8 v0) fun x8 =>
  mb (aI 0 x8 v2) fun x9 =>
  mjn (fun (x10 : Int32) =>
  mb (oR 12 8 v0) fun x11 =>
  mb (aI 0 x11 v2) fun x12 =>
  mb (mcall0 (fX7_in g x12 10 29)) fun x13 =>
  mjn (fun (x14 : Int32) =>
  fX7_stands_L64 g 5000 v0 v1 v2 x14 0 ) fun j61 =>
  if x13 = 0 then
  (j61 x10)
  else
  (mb (oR 12 8 v0) fun x15 =>
  mb (aI 0 x15 v2) fun x16 =>
  mb (mon 12 v0 (mcall0 (fX7_table g v0 (x16 - 10) 3))) fun x17 =>
  mb (mon 12 v0 (mcall0 (fX7_guest g v0 v1 0))) fun x18 =>
  mjn (fun (x19 : Int32) =>
  j61 x19) fun j60 =>
  if x17 < x18 then
  (j60 0)
  else
  (j60 1))) fun j15 =>
  if x9 = 1 then
  (j15 1)
  else
  (j15 0)
def fX7_blocked_L7 (g : Nat → Nat) : Nat → Option Nat → Int32 → Int32 → Int32 → HM (Int32)
  | 0, _, _, _, _ => mfail
  | n + 1, v0, v1, v2, v3 =>
  if v3 < 0 then
  (mret (-1))
  else
  (mb (mon 12 v0 (mcall0 (fX7_column g v0 v2 v3))) fun x1 =>
  mb (mon 12 v0 (mcall0 (fX7_stands g v0 v1 ((16 * v3) + x1)))) fun x2 =>
  if x2 = 0 then
  (fX7_blocked_L7 g n v0 v1 v2 (v3 + (-1)))
  else
  (mret ((16 * v3) + x1)))
def fX7_blocked (g : Nat → Nat) (v0 : Option Nat) (v1 : Int32) (v2 : Int32) : HM (Int32) :=
  fX7_blocked_L7 g 5000 v0 v1 v2 ((v2 / 16) - 1) 
def fX7_see_L7 (g : Nat → Nat) : Nat → Option Nat → Int32 → Int32 → HM (Int32)
  | 0, _, _, _ => mfail
  | n + 1, v0, v1, v2 =>
  mb (oR 12 1 v0) fun x1 =>
  mb (aI 0 x1 60) fun x2 =>
  if x2 ≤ v2 then
  (mret v1)
  else
  (mb (mon 12 v0 (mcall0 (fX7_sits g v0 v2))) fun x3 =>
  mjn (fun (x4 : Int32) =>
  fX7_see_L7 g n v0 (v1 + x4) (v2 + 1)) fun j46 =>
  if x3 = 0 then
  (j46 0)
  else
  (mb (mon 12 v0 (mcall0 (fX7_cellOfGuest g v0 v2))) fun x5 =>
  mb (mon 12 v0 (mcall0 (fX7_blocked g v0 v2 x5))) fun x6 =>
  if x6 = (-1) then
  (j46 1)
  else
  (j46 0)))
def fX7_see (g : Nat → Nat) (v0 : Option Nat) : HM (Int32) :=
  mb (mon 12 v0 (mcall0 (fX7_check g v0))) fun x7 =>
  fX7_see_L7 g 5000 v0 x7 0 
def fX7_swaps (g : Nat → Nat) (v0 : Option Nat) (v1 : Int32) (v2 : Int32) : HM (Unit) :=
  mb (mon 12 v0 (mcall0 (fX7_guest g v0 v1 1))) fun x1 =>
  mb (mon 12 v0 (mcall0 (fX7_guest g v0 v1 2))) fun x2 =>
  mb (mon 12 v0 (mcall0 (fX7_guest g v0 v2 1))) fun x3 =>
  mb (mon 12 v0 (mcall0 (fX7_guest g v0 v2 2))) fun x4 =>
  mb (mon 12 v0 (mcall0 (fX7_put g v0 v1 x3 x4))) fun _ =>
  mb (mon 12 v0 (mcall0 (fX7_put g v0 v2 x1 x2))) fun _ =>
  mret ()
def fX7_swapGuests (g : Nat → Nat) (v0 : Option Nat) (v1 : Int32) (v2 : Int32) : HM (Int32) :=
  mb (mon 12 v0 (mcall0 (fX7_isGuest g v0 v1))) fun x1 =>
  mjn (fun (x2 : Int32) =>
  mb (pI 12 0 v0 x2) fun _ =>
  mb (oI 12 0 v0) fun x3 =>
  if x3 ≤ 0 then
  (mb (mon 12 v0 (mcall0 (fX7_record g v0))) fun _ =>
  mb (mon 12 v0 (mcall0 (fX7_see g v0))) fun x4 =>
  mb (mon 12 v0 (mcall0 (fX7_swaps g v0 v1 v2))) fun _ =>
  mb (mon 12 v0 (mcall0 (fX7_see g v0))) fun x5 =>
  mret (x5 - x4))
  else
  (mret 0)) fun j35 =>
  if x1 = 0 then
  (j35 1)
  else
  (mb (mon 12 v0 (mcall0 (fX7_isGuest g v0 v2))) fun x6 =>
  if x6 = 0 then
  (j35 1)
  else
  (mb (mon 12 v0 (mcall0 (fX7_noSwap g v0 v1 v2))) fun x7 =>
  if x7 ≤ 0 then
  (j35 0)
  else
  (j35 2)))
def fX7_pairCount_L17 (g : Nat → Nat) : Nat → Option Nat → Int32 → Int32 → Int32 → (Int32 → HM (Int32)) → HM (Int32)
  | 0, _, _, _, _, _ => mfail
  | n + 1, v0, v1, v2, v3, K0 =>
  if v2 ≤ v3 then
  (K0 v1)
  else
  (mb (oR 12 1 v0) fun x1 =>
  mb (aI 0 x1 (601 + v2)) fun x2 =>
  fX7_pairCount_L17 g n v0 (v1 + ((ishr x2 v3) &&& 1)) v2 (v3 + 1) K0)
def fX7_pairCount_L4 (g : Nat → Nat) : Nat → Option Nat → Int32 → Int32 → HM (Int32)
  | 0, _, _, _ => mfail
  | n + 1, v0, v1, v2 =>
  mb (oR 12 1 v0) fun x3 =>
  mb (aI 0 x3 60) fun x4 =>
  if x4 ≤ v2 then
  (mret v1)
  else
  (fX7_pairCount_L17 g 5000 v0 v1 v2 0 (fun (x5 : Int32) =>
  fX7_pairCount_L4 g n v0 x5 (v2 + 1)))
def fX7_pairCount (g : Nat → Nat) (v0 : Option Nat) : HM (Int32) :=
  fX7_pairCount_L4 g 5000 v0 0 0 
def fX7_turnPair (g : Nat → Nat) (v0 : Option Nat) (v1 : Int32) (v2 : Int32) : HM (Int32) :=
  mb (mon 12 v0 (mcall0 (fX7_isGuest g v0 v1))) fun x1 =>
  mjn (fun (x2 : Int32) =>
  mb (pI 12 0 v0 x2) fun _ =>
  mb (oI 12 0 v0) fun x3 =>
  if x3 ≤ 0 then
  (mb (mon 12 v0 (mcall0 (fX7_record g v0))) fun _ =>
  mb (oR 12 1 v0) fun x4 =>
  mb (aI 0 x4 (601 + v1)) fun x5 =>
  mb (sI x4 (601 + v1) (x5 ^^^ (ishl 1 v2))) fun _ =>
  mb (oR 12 1 v0) fun x6 =>
  mb (aI 0 x6 (601 + v2)) fun x7 =>
  mb (sI x6 (601 + v2) (x7 ^^^ (ishl 1 v1))) fun _ =>
  mb (mon 12 v0 (mcall0 (fX7_pairCount g v0))) fun x8 =>
  mret x8)
  else
  (mret 0)) fun j31 =>
  if x1 = 0 then
  (j31 1)
  else
  (mb (mon 12 v0 (mcall0 (fX7_isGuest g v0 v2))) fun x9 =>
  if x9 = 0 then
  (j31 1)
  else
  (if v1 = v2 then
  (j31 2)
  else
  (j31 0)))
def fX7_stage (g : Nat → Nat) (v0 : Option Nat) : HM (Int32) :=
  mb (pI 12 0 v0 0) fun _ =>
  mb (oR 12 1 v0) fun x1 =>
  mb (aI 0 x1 0) fun x2 =>
  mret x2
def fX7_door (g : Nat → Nat) (v0 : Option Nat) : HM (Int32) :=
  mb (pI 12 0 v0 0) fun _ =>
  mb (oR 12 1 v0) fun x1 =>
  mb (aI 0 x1 1) fun x2 =>
  mret x2
def fX7_pillars (g : Nat → Nat) (v0 : Option Nat) : HM (Int32) :=
  mb (pI 12 0 v0 0) fun _ =>
  mb (oR 12 1 v0) fun x1 =>
  mb (aI 0 x1 2) fun x2 =>
  mret x2
def fX7_whatIsAt (g : Nat → Nat) (v0 : Option Nat) (v1 : Int32) (v2 : Int32) : HM (Int32) :=
  mb (mcall0 (fX7_isCell g v1 v2)) fun x1 =>
  mjn (fun (x2 : Int32) =>
  mb (pI 12 0 v0 x2) fun _ =>
  mb (oI 12 0 v0) fun x3 =>
  if x3 ≤ 0 then
  (mb (mon 12 v0 (mcall0 (fX7_check g v0))) fun x4 =>
  mb (oR 12 8 v0) fun x5 =>
  mb (aI 0 x5 ((16 * v2) + v1)) fun x6 =>
  if (x4 + x6) < 30 then
  (mret (x4 + x6))
  else
  (mret ((x4 + x6) - 10)))
  else
  (mret 0)) fun j14 =>
  if x1 = 0 then
  (j14 1)
  else
  (j14 0)
def fX7_whyNoDoor (g : Nat → Nat) (v0 : Option Nat) (v1 : Int32) (v2 : Int32) : HM (Int32) :=
  mb (mcall0 (fX7_isCell g v1 v2)) fun x1 =>
  mjn (fun (x2 : Int32) =>
  mb (pI 12 0 v0 x2) fun _ =>
  mb (oI 12 0 v0) fun x3 =>
  if x3 ≤ 0 then
  (mb (mon 12 v0 (mcall0 (fX7_noDoor g v0 ((16 * v2) + v1)))) fun x4 =>
  mret x4)
  else
  (mret 0)) fun j14 =>
  if x1 = 0 then
  (j14 1)
  else
  (j14 0)
def fX7_whyNoPillar (g : Nat → Nat) (v0 : Option Nat) (v1 : Int32) (v2 : Int32) : HM (Int32) :=
  mb (mcall0 (fX7_isCell g v1 v2)) fun x1 =>
  mjn (fun (x2 : Int32) =>
  mb (pI 12 0 v0 x2) fun _ =>
  mb (oI 12 0 v0) fun x3 =>
  if x3 ≤ 0 then
  (mb (mon 12 v0 (mcall0 (fX7_noPillar g v0 ((16 * v2) + v1)))) fun x4 =>
  mret x4)
  else
  (mret 0)) fun j14 =>
  if x1 = 0 then
  (j14 1)
  else
  (j14 0)
def fX7_whyNoTable (g : Nat → Nat) (v0 : Option Nat) (v1 : Int32) (v2 : Int32) (v3 : Int32) (v4 : Int32) : HM (Int32) :=
  mb (mcall0 (fX7_isShape g v1 v2 v3 v4)) fun x1 =>
  mjn (fun (x2 : Int32) =>
  mb (pI 12 0 v0 x2) fun _ =>
  mb (oI 12 0 v0) fun x3 =>
  if x3 ≤ 0 then
  (mb (mon 12 v0 (mcall0 (fX7_noTable g v0 v1 v2 v3 v4))) fun x4 =>
  mret x4)
  else
  (mret 0)) fun j17 =>
  if x1 = 0 then
  (j17 1)
  else
  (j17 0)
def fX7_tables (g : Nat → Nat) (v0 : Option Nat) : HM (Int32) :=
  mb (pI 12 0 v0 0) fun _ =>
  mb (oR 12 1 v0) fun x1 =>
  mb (aI 0 x1 15) fun x2 =>
  mret x2
def fX7_ofTable (g : Nat → Nat) (v0 : Option Nat) (v1 : Int32) (v2 : Int32) : HM (Int32) :=
  mb (mon 12 v0 (mcall0 (fX7_isTable g v0 v1))) fun x1 =>
  mjn (fun (x2 : Int32) =>
  mb (pI 12 0 v0 x2) fun _ =>
  mb (oI 12 0 v0) fun x3 =>
  if x3 ≤ 0 then
  (mb (mon 12 v0 (mcall0 (fX7_table g v0 v1 v2))) fun x4 =>
  mret x4)
  else
  (mret 0)) fun j14 =>
  if x1 = 0 then
  (j14 1)
  else
  (j14 0)
def fX7_kindOf (g : Nat → Nat) (v0 : Option Nat) (v1 : Int32) : HM (Int32) :=
  mb (mon 12 v0 (mcall0 (fX7_ofTable g v0 v1 0))) fun x1 =>
  mret x1
def fX7_turnOf (g : Nat → Nat) (v0 : Option Nat) (v1 : Int32) : HM (Int32) :=
  mb (mon 12 v0 (mcall0 (fX7_ofTable g v0 v1 2))) fun x1 =>
  mret x1
def fX7_flowersOf (g : Nat → Nat) (v0 : Option Nat) (v1 : Int32) : HM (Int32) :=
  mb (mon 12 v0 (mcall0 (fX7_ofTable g v0 v1 3))) fun x1 =>
  mret x1
def fX7_chairsOf (g : Nat → Nat) (v0 : Option Nat) (v1 : Int32) : HM (Int32) :=
  mb (mon 12 v0 (mcall0 (fX7_isTable g v0 v1))) fun x1 =>
  mjn (fun (x2 : Int32) =>
  mb (pI 12 0 v0 x2) fun _ =>
  mb (oI 12 0 v0) fun x3 =>
  if x3 ≤ 0 then
  (mb (mon 12 v0 (mcall0 (fX7_table g v0 v1 0))) fun x4 =>
  mb (mcall0 (fX7_chairs g x4)) fun x5 =>
  mret x5)
  else
  (mret 0)) fun j14 =>
  if x1 = 0 then
  (j14 1)
  else
  (j14 0)
def fX7_cellOf (g : Nat → Nat) (v0 : Option Nat) (v1 : Int32) (v2 : Int32) : HM (Int32) :=
  mb (mon 12 v0 (mcall0 (fX7_isChair g v0 v1 v2))) fun x1 =>
  mjn (fun (x2 : Int32) =>
  mb (pI 12 0 v0 x2) fun _ =>
  mb (oI 12 0 v0) fun x3 =>
  if x3 ≤ 0 then
  (mb (mon 12 v0 (mcall0 (fX7_cellOfChair g v0 v1 v2))) fun x4 =>
  mret x4)
  else
  (mret 0)) fun j15 =>
  if x1 = 0 then
  (j15 1)
  else
  (j15 0)
def fX7_guestOn (g : Nat → Nat) (v0 : Option Nat) (v1 : Int32) (v2 : Int32) : HM (Int32) :=
  mb (mon 12 v0 (mcall0 (fX7_isChair g v0 v1 v2))) fun x1 =>
  mjn (fun (x2 : Int32) =>
  mb (pI 12 0 v0 x2) fun _ =>
  mb (oI 12 0 v0) fun x3 =>
  if x3 ≤ 0 then
  (mb (mon 12 v0 (mcall0 (fX7_sitter g v0 v1 v2))) fun x4 =>
  mret x4)
  else
  (mret 0)) fun j15 =>
  if x1 = 0 then
  (j15 1)
  else
  (j15 0)
def fX7_stepsFromDoor (g : Nat → Nat) (v0 : Option Nat) (v1 : Int32) (v2 : Int32) : HM (Int32) :=
  mb (mon 12 v0 (mcall0 (fX7_isChair g v0 v1 v2))) fun x1 =>
  mjn (fun (x2 : Int32) =>
  mb (pI 12 0 v0 x2) fun _ =>
  mb (oI 12 0 v0) fun x3 =>
  if x3 ≤ 0 then
  (mb (mon 12 v0 (mcall0 (fX7_check g v0))) fun x4 =>
  mb (oR 12 9 v0) fun x5 =>
  mb (mon 12 v0 (mcall0 (fX7_cellOfChair g v0 v1 v2))) fun x6 =>
  mb (aI 0 x5 x6) fun x7 =>
  mret (x4 + x7))
  else
  (mret 0)) fun j15 =>
  if x1 = 0 then
  (j15 1)
  else
  (j15 0)
def fX7_stepsFromChair (g : Nat → Nat) (v0 : Option Nat) (v1 : Int32) (v2 : Int32) : HM (Int32) :=
  mb (mon 12 v0 (mcall0 (fX7_stepsFromDoor g v0 v1 v2))) fun x1 =>
  mret x1
def fX7_longestWay_L12 (g : Nat → Nat) : Nat → Option Nat → Int32 → Int32 → HM (Int32)
  | 0, _, _, _ => mfail
  | n + 1, v0, v1, v2 =>
  if 192 ≤ v2 then
  (mret v1)
  else
  (mb (oR 12 8 v0) fun x1 =>
  mb (aI 0 x1 v2) fun x2 =>
  mjn (fun (x3 : Int32) =>
  fX7_longestWay_L12 g n v0 x3 (v2 + 1)) fun j50 =>
  if x2 < 30 then
  (j50 v1)
  else
  (mb (oR 12 9 v0) fun x4 =>
  mb (aI 0 x4 v2) fun x5 =>
  if x5 ≤ v1 then
  (j50 v1)
  else
  (mb (oR 12 9 v0) fun x6 =>
  mb (aI 0 x6 v2) fun x7 =>
  j50 x7)))
def fX7_longestWay (g : Nat → Nat) (v0 : Option Nat) : HM (Int32) :=
  mb (pI 12 0 v0 0) fun _ =>
  mb (mon 12 v0 (mcall0 (fX7_check g v0))) fun x8 =>
  fX7_longestWay_L12 g 5000 v0 x8 0 
def fX7_guests (g : Nat → Nat) (v0 : Option Nat) : HM (Int32) :=
  mb (pI 12 0 v0 0) fun _ =>
  mb (oR 12 1 v0) fun x1 =>
  mb (aI 0 x1 60) fun x2 =>
  mret x2
def fX7_letterOf (g : Nat → Nat) (v0 : Option Nat) (v1 : Int32) (v2 : Int32) : HM (Int32) :=
  mb (mon 12 v0 (mcall0 (fX7_isGuest g v0 v1))) fun x1 =>
  mjn (fun (x2 : Int32) =>
  mb (pI 12 0 v0 x2) fun _ =>
  mb (oI 12 0 v0) fun x3 =>
  if x3 ≤ 0 then
  (mb (mon 12 v0 (mcall0 (fX7_guest g v0 v1 3))) fun x4 =>
  if x4 ≤ v2 then
  (mret (-1))
  else
  (mb (mon 12 v0 (mcall0 (fX7_guest g v0 v1 (4 + v2)))) fun x5 =>
  mret x5))
  else
  (mret 0)) fun j18 =>
  if x1 = 0 then
  (j18 1)
  else
  (if v2 < 0 then
  (j18 1)
  else
  (j18 0))
def fX7_nameWidth (g : Nat → Nat) (v0 : Option Nat) (v1 : Int32) : HM (Int32) :=
  mb (mon 12 v0 (mcall0 (fX7_isGuest g v0 v1))) fun x1 =>
  mjn (fun (x2 : Int32) =>
  mb (pI 12 0 v0 x2) fun _ =>
  mb (oI 12 0 v0) fun x3 =>
  if x3 ≤ 0 then
  (mb (mon 12 v0 (mcall0 (fX7_width g v0 v1))) fun x4 =>
  mret x4)
  else
  (mret 0)) fun j14 =>
  if x1 = 0 then
  (j14 1)
  else
  (j14 0)
def fX7_isAhead_L2 (g : Nat → Nat) : Nat → Option Nat → Int32 → Int32 → Int32 → (Int32 → HM (Int32)) → HM (Int32)
  | 0, _, _, _, _, _ => mfail
  | n + 1, v0, v1, v2, v3, K0 =>
  if 14 ≤ v3 then
  (K0 v3)
  else
  (mb (mon 12 v0 (mcall0 (fX7_guest g v0 v1 (4 + v3)))) fun x1 =>
  mb (mon 12 v0 (mcall0 (fX7_guest g v0 v2 (4 + v3)))) fun x2 =>
  if x1 = x2 then
  (fX7_isAhead_L2 g n v0 v1 v2 (v3 + 1) K0)
  else
  (K0 v3))
def fX7_isAhead (g : Nat → Nat) (v0 : Option Nat) (v1 : Int32) (v2 : Int32) : HM (Int32) :=
  fX7_isAhead_L2 g 5000 v0 v1 v2 0 (fun (x3 : Int32) =>
  if x3 = 14 then
  (if v2 ≤ v1 then
  (mretT .boolean 0)
  else
  (mretT .boolean 1))
  else
  (mb (mon 12 v0 (mcall0 (fX7_guest g v0 v1 (4 + x3)))) fun x4 =>
  mb (mon 12 v0 (mcall0 (fX7_guest g v0 v2 (4 + x3)))) fun x5 =>
  if x5 ≤ x4 then
  (mretT .boolean 0)
  else
  (mretT .boolean 1)))
def fX7_placeByName_L21 (g : Nat → Nat) : Nat → Option Nat → Int32 → Int32 → Int32 → HM (Int32)
  | 0, _, _, _, _ => mfail
  | n + 1, v0, v1, v2, v3 =>
  mb (oR 12 1 v0) fun x1 =>
  mb (aI 0 x1 60) fun x2 =>
  if x2 ≤ v3 then
  (mret v2)
  else
  (mb (oI 12 0 v0) fun x3 =>
  if x3 = 0 then
  (mjn (fun (x4 : Int32) =>
  fX7_placeByName_L21 g n v0 v1 (v2 + x4) (v3 + 1)) fun j59 =>
  if v3 = v1 then
  (j59 0)
  else
  (mb (mon 12 v0 (mcall0 (fX7_isAhead g v0 v3 v1))) fun x5 =>
  if x5 = 0 then
  (j59 0)
  else
  (j59 1)))
  else
  (mret v2))
def fX7_placeByName (g : Nat → Nat) (v0 : Option Nat) (v1 : Int32) : HM (Int32) :=
  mb (mon 12 v0 (mcall0 (fX7_isGuest g v0 v1))) fun x6 =>
  mjn (fun (x7 : Int32) =>
  mb (pI 12 0 v0 x7) fun _ =>
  fX7_placeByName_L21 g 5000 v0 v1 0 0 ) fun j14 =>
  if x6 = 0 then
  (j14 1)
  else
  (j14 0)
def fX7_ofGuest (g : Nat → Nat) (v0 : Option Nat) (v1 : Int32) (v2 : Int32) : HM (Int32) :=
  mb (mon 12 v0 (mcall0 (fX7_isGuest g v0 v1))) fun x1 =>
  mjn (fun (x2 : Int32) =>
  mb (pI 12 0 v0 x2) fun _ =>
  mb (oI 12 0 v0) fun x3 =>
  if x3 ≤ 0 then
  (mb (mon 12 v0 (mcall0 (fX7_guest g v0 v1 v2))) fun x4 =>
  mret x4)
  else
  (mret 0)) fun j14 =>
  if x1 = 0 then
  (j14 1)
  else
  (j14 0)
def fX7_heightOf (g : Nat → Nat) (v0 : Option Nat) (v1 : Int32) : HM (Int32) :=
  mb (mon 12 v0 (mcall0 (fX7_ofGuest g v0 v1 0))) fun x1 =>
  mret x1
def fX7_tableOf (g : Nat → Nat) (v0 : Option Nat) (v1 : Int32) : HM (Int32) :=
  mb (mon 12 v0 (mcall0 (fX7_ofGuest g v0 v1 1))) fun x1 =>
  mret x1
def fX7_chairOf (g : Nat → Nat) (v0 : Option Nat) (v1 : Int32) : HM (Int32) :=
  mb (mon 12 v0 (mcall0 (fX7_ofGuest g v0 v1 2))) fun x1 =>
  mret x1
def fX7_whyNotSeated (g : Nat → Nat) (v0 : Option Nat) (v1 : Int32) (v2 : Int32) (v3 : Int32) : HM (Int32) :=
  mb (mon 12 v0 (mcall0 (fX7_isGuest g v0 v1))) fun x1 =>
  mjn (fun (x2 : Int32) =>
  mb (pI 12 0 v0 x2) fun _ =>
  mb (oI 12 0 v0) fun x3 =>
  if x3 ≤ 0 then
  (mb (mon 12 v0 (mcall0 (fX7_noSeat g v0 v1 v2 v3))) fun x4 =>
  mret x4)
  else
  (mret 0)) fun j23 =>
  if x1 = 0 then
  (j23 1)
  else
  (mb (mon 12 v0 (mcall0 (fX7_isChair g v0 v2 v3))) fun x5 =>
  if x5 = 0 then
  (j23 1)
  else
  (j23 0))
def fX7_whyNotSwapped (g : Nat → Nat) (v0 : Option Nat) (v1 : Int32) (v2 : Int32) : HM (Int32) :=
  mb (mon 12 v0 (mcall0 (fX7_isGuest g v0 v1))) fun x1 =>
  mjn (fun (x2 : Int32) =>
  mb (pI 12 0 v0 x2) fun _ =>
  mb (oI 12 0 v0) fun x3 =>
  if x3 ≤ 0 then
  (mb (mon 12 v0 (mcall0 (fX7_noSwap g v0 v1 v2))) fun x4 =>
  mret x4)
  else
  (mret 0)) fun j22 =>
  if x1 = 0 then
  (j22 1)
  else
  (mb (mon 12 v0 (mcall0 (fX7_isGuest g v0 v2))) fun x5 =>
  if x5 = 0 then
  (j22 1)
  else
  (j22 0))
def fX7_lineOf (g : Nat → Nat) (v0 : Option Nat) (v1 : Int32) (v2 : Int32) (v3 : Int32) : HM (Int32) :=
  mb (mon 12 v0 (mcall0 (fX7_isChair g v0 v1 v2))) fun x1 =>
  mjn (fun (x2 : Int32) =>
  mb (pI 12 0 v0 x2) fun _ =>
  mb (oI 12 0 v0) fun x3 =>
  if x3 ≤ 0 then
  (mb (mon 12 v0 (mcall0 (fX7_cellOfChair g v0 v1 v2))) fun x4 =>
  mb (mon 12 v0 (mcall0 (fX7_column g v0 x4 v3))) fun x5 =>
  mret x5)
  else
  (mret 0)) fun j38 =>
  if x1 = 0 then
  (j38 1)
  else
  (mb (mon 12 v0 (mcall0 (fX7_cellOfChair g v0 v1 v2))) fun x6 =>
  mb (mcall0 (fX7_in g v3 0 ((x6 / 16) - 1))) fun x7 =>
  if x7 = 0 then
  (j38 2)
  else
  (j38 0))
def fX7_seesByRows (g : Nat → Nat) (v0 : Option Nat) (v1 : Int32) : HM (Int32) :=
  mb (mon 12 v0 (mcall0 (fX7_isGuest g v0 v1))) fun x1 =>
  mjn (fun (x2 : Int32) =>
  mb (pI 12 0 v0 x2) fun _ =>
  mb (oI 12 0 v0) fun x3 =>
  if x3 = 0 then
  (mb (mon 12 v0 (mcall0 (fX7_sits g v0 v1))) fun x4 =>
  if x4 = 0 then
  (mretT .boolean 0)
  else
  (mb (mon 12 v0 (mcall0 (fX7_check g v0))) fun x5 =>
  if x5 = 0 then
  (mb (mon 12 v0 (mcall0 (fX7_cellOfGuest g v0 v1))) fun x6 =>
  mb (mon 12 v0 (mcall0 (fX7_blocked g v0 v1 x6))) fun x7 =>
  if x7 = (-1) then
  (mretT .boolean 1)
  else
  (mretT .boolean 0))
  else
  (mretT .boolean 0)))
  else
  (mretT .boolean 0)) fun j14 =>
  if x1 = 0 then
  (j14 1)
  else
  (j14 0)
def fX7_seesByObstacles (g : Nat → Nat) (v0 : Option Nat) (v1 : Int32) : HM (Int32) :=
  mb (mon 12 v0 (mcall0 (fX7_seesByRows g v0 v1))) fun x1 =>
  mretT .boolean x1
def fX7_blockedAt (g : Nat → Nat) (v0 : Option Nat) (v1 : Int32) : HM (Int32) :=
  mb (mon 12 v0 (mcall0 (fX7_isGuest g v0 v1))) fun x1 =>
  mjn (fun (x2 : Int32) =>
  mb (pI 12 0 v0 x2) fun _ =>
  mb (oI 12 0 v0) fun x3 =>
  if x3 ≤ 0 then
  (mb (mon 12 v0 (mcall0 (fX7_sits g v0 v1))) fun x4 =>
  if x4 = 0 then
  (mret (-1))
  else
  (mb (mon 12 v0 (mcall0 (fX7_check g v0))) fun x5 =>
  if x5 = 0 then
  (mb (mon 12 v0 (mcall0 (fX7_cellOfGuest g v0 v1))) fun x6 =>
  mb (mon 12 v0 (mcall0 (fX7_blocked g v0 v1 x6))) fun x7 =>
  mret x7)
  else
  (mret (-1))))
  else
  (mret 0)) fun j14 =>
  if x1 = 0 then
  (j14 1)
  else
  (j14 0)
def fX7_seeing (g : Nat → Nat) (v0 : Option Nat) : HM (Int32) :=
  mb (pI 12 0 v0 0) fun _ =>
  mb (mon 12 v0 (mcall0 (fX7_see g v0))) fun x1 =>
  mret x1
def fX7_sitting_L4 (g : Nat → Nat) : Nat → Option Nat → Int32 → Int32 → HM (Int32)
  | 0, _, _, _ => mfail
  | n + 1, v0, v1, v2 =>
  mb (oR 12 1 v0) fun x1 =>
  mb (aI 0 x1 60) fun x2 =>
  if x2 ≤ v2 then
  (mret v1)
  else
  (mb (mon 12 v0 (mcall0 (fX7_sits g v0 v2))) fun x3 =>
  mjn (fun (x4 : Int32) =>
  fX7_sitting_L4 g n v0 (v1 + x4) (v2 + 1)) fun j29 =>
  if x3 = 0 then
  (j29 0)
  else
  (j29 1))
def fX7_sitting (g : Nat → Nat) (v0 : Option Nat) : HM (Int32) :=
  fX7_sitting_L4 g 5000 v0 0 0 
noncomputable def fX7_seeingShare (g : Nat → Nat) (v0 : Option Nat) : HM (UInt64) :=
  mb (pI 12 0 v0 0) fun _ =>
  mb (mon 12 v0 (mcall0 (fX7_sitting g v0))) fun x1 =>
  mjn (fun (x2 : UInt64) =>
  mret x2) fun j26 =>
  if x1 = 0 then
  (j26 (FP.dconst0))
  else
  (mb (mon 12 v0 (mcall0 (fX7_see g v0))) fun x3 =>
  mb (mdv (FP.i2d x3) (FP.i2d x1)) fun _ =>
  j26 (FP.ddiv (FP.i2d x3) (FP.i2d x1)))
def fX7_bestChair_L51 (g : Nat → Nat) : Nat → Option Nat → Int32 → Int32 → Int32 → Int32 → Int32 → (Int32 → Int32 → HM (Int32)) → HM (Int32)
  | 0, _, _, _, _, _, _, _ => mfail
  | n + 1, v0, v1, v2, v3, v4, v5, K0 =>
  mb (mon 12 v0 (mcall0 (fX7_table g v0 v4 0))) fun x1 =>
  mb (mcall0 (fX7_chairs g x1)) fun x2 =>
  if x2 ≤ v5 then
  (K0 v2 v3)
  else
  (mb (mon 12 v0 (mcall0 (fX7_cellOfChair g v0 v4 v5))) fun x3 =>
  mb (mon 12 v0 (mcall0 (fX7_sitter g v0 v4 v5))) fun x4 =>
  mjn (fun (x5 : Int32) =>
  mjn (fun (x6 : Int32) =>
  mjn2 (fun (x7 : Int32) (x8 : Int32) =>
  fX7_bestChair_L51 g n v0 v1 x7 x8 v4 (v5 + 1) K0) fun j210 =>
  if x5 = 0 then
  (j210 v2 v3)
  else
  (if x6 = 0 then
  (j210 v2 v3)
  else
  (j210 ((8 * v4) + v5) x3))) fun j186 =>
  if v2 = (-1) then
  (j186 1)
  else
  (if (x3 / 16) < (v3 / 16) then
  (j186 1)
  else
  (if (x3 / 16) = (v3 / 16) then
  (mb (oR 12 9 v0) fun x9 =>
  mb (aI 0 x9 x3) fun x10 =>
  mb (oR 12 9 v0) fun x11 =>
  mb (aI 0 x11 v3) fun x12 =>
  if x12 ≤ x10 then
  (j186 0)
  else
  (j186 1))
  else
  (j186 0)))) fun j134 =>
  mjn0 (  mb (mon 12 v0 (mcall0 (fX7_width g v0 v1))) fun x13 =>
  mb (mon 12 v0 (mcall0 (fX7_table g v0 v4 0))) fun x14 =>
  mb (mcall0 (fX7_card g x14)) fun x15 =>
  if x15 < x13 then
  (j134 0)
  else
  (mb (mon 12 v0 (mcall0 (fX7_blocked g v0 v1 x3))) fun x16 =>
  if x16 = (-1) then
  (j134 1)
  else
  (j134 0))) fun j100 =>
  if x4 = (-1) then
  (j100)
  else
  (mb (mon 12 v0 (mcall0 (fX7_sitter g v0 v4 v5))) fun x17 =>
  if x17 = v1 then
  (j100)
  else
  (j134 0)))
def fX7_bestChair_L36 (g : Nat → Nat) : Nat → Option Nat → Int32 → Int32 → Int32 → Int32 → HM (Int32)
  | 0, _, _, _, _, _ => mfail
  | n + 1, v0, v1, v2, v3, v4 =>
  mb (oR 12 1 v0) fun x18 =>
  mb (aI 0 x18 15) fun x19 =>
  if x19 ≤ v4 then
  (mret v2)
  else
  (fX7_bestChair_L51 g 5000 v0 v1 v2 v3 v4 0 (fun (x20 : Int32) (x21 : Int32) =>
  fX7_bestChair_L36 g n v0 v1 x20 x21 (v4 + 1)))
def fX7_bestChair (g : Nat → Nat) (v0 : Option Nat) (v1 : Int32) : HM (Int32) :=
  mb (mon 12 v0 (mcall0 (fX7_isGuest g v0 v1))) fun x22 =>
  mjn (fun (x23 : Int32) =>
  mb (pI 12 0 v0 x23) fun _ =>
  mb (oI 12 0 v0) fun x24 =>
  if x24 ≤ 0 then
  (mb (mon 12 v0 (mcall0 (fX7_check g v0))) fun x25 =>
  fX7_bestChair_L36 g 5000 v0 v1 (-1) x25 0)
  else
  (mret 0)) fun j14 =>
  if x22 = 0 then
  (j14 1)
  else
  (j14 0)
def fX7_seated (g : Nat → Nat) (v0 : Option Nat) : HM (Int32) :=
  mb (pI 12 0 v0 0) fun _ =>
  mb (mon 12 v0 (mcall0 (fX7_sitting g v0))) fun x1 =>
  mret x1
def fX7_servedAhead_L4 (g : Nat → Nat) : Nat → Option Nat → Int32 → Int32 → Int32 → HM (Int32)
  | 0, _, _, _, _ => mfail
  | n + 1, v0, v1, v2, v3 =>
  mb (oR 12 1 v0) fun x1 =>
  mb (aI 0 x1 60) fun x2 =>
  if x2 ≤ v3 then
  (mret v2)
  else
  (mb (mon 12 v0 (mcall0 (fX7_sits g v0 v3))) fun x3 =>
  mjn (fun (x4 : Int32) =>
  mjn (fun (x5 : Int32) =>
  fX7_servedAhead_L4 g n v0 v1 (v2 + x5) (v3 + 1)) fun j71 =>
  if 0 < x4 then
  (j71 1)
  else
  (if x4 = 0 then
  (if v1 ≤ v3 then
  (j71 0)
  else
  (j71 1))
  else
  (j71 0))) fun j48 =>
  if x3 = 0 then
  (j48 (-1))
  else
  (mb (oR 12 9 v0) fun x6 =>
  mb (mon 12 v0 (mcall0 (fX7_cellOfGuest g v0 v1))) fun x7 =>
  mb (aI 0 x6 x7) fun x8 =>
  mb (oR 12 9 v0) fun x9 =>
  mb (mon 12 v0 (mcall0 (fX7_cellOfGuest g v0 v3))) fun x10 =>
  mb (aI 0 x9 x10) fun x11 =>
  j48 (x8 - x11)))
def fX7_servedAhead (g : Nat → Nat) (v0 : Option Nat) (v1 : Int32) : HM (Int32) :=
  fX7_servedAhead_L4 g 5000 v0 v1 0 0 
def fX7_servedAt_L39 (g : Nat → Nat) : Nat → Option Nat → Int32 → Int32 → Int32 → HM (Int32)
  | 0, _, _, _, _ => mfail
  | n + 1, v0, v1, v2, v3 =>
  mb (oR 12 1 v0) fun x1 =>
  mb (aI 0 x1 60) fun x2 =>
  if x2 ≤ v3 then
  (mret v2)
  else
  (mb (mon 12 v0 (mcall0 (fX7_sits g v0 v3))) fun x3 =>
  mjn (fun (x4 : Int32) =>
  fX7_servedAt_L39 g n v0 v1 x4 (v3 + 1)) fun j72 =>
  if x3 = 0 then
  (j72 v2)
  else
  (mb (mon 12 v0 (mcall0 (fX7_servedAhead g v0 v3))) fun x5 =>
  if x5 = v1 then
  (j72 v3)
  else
  (j72 v2)))
def fX7_servedAt (g : Nat → Nat) (v0 : Option Nat) (v1 : Int32) : HM (Int32) :=
  mb (mon 12 v0 (mcall0 (fX7_sitting g v0))) fun x6 =>
  mb (mcall0 (fX7_in g v1 0 (x6 - 1))) fun x7 =>
  mjn (fun (x8 : Int32) =>
  mb (pI 12 0 v0 x8) fun _ =>
  mb (oI 12 0 v0) fun x9 =>
  if x9 ≤ 0 then
  (mb (mon 12 v0 (mcall0 (fX7_check g v0))) fun x10 =>
  fX7_servedAt_L39 g 5000 v0 v1 x10 0)
  else
  (mret 0)) fun j20 =>
  if x7 = 0 then
  (j20 1)
  else
  (j20 0)
def fX7_placeOf (g : Nat → Nat) (v0 : Option Nat) (v1 : Int32) : HM (Int32) :=
  mb (mon 12 v0 (mcall0 (fX7_isGuest g v0 v1))) fun x1 =>
  mjn (fun (x2 : Int32) =>
  mb (pI 12 0 v0 x2) fun _ =>
  mb (oI 12 0 v0) fun x3 =>
  if x3 ≤ 0 then
  (mb (mon 12 v0 (mcall0 (fX7_sits g v0 v1))) fun x4 =>
  if x4 = 0 then
  (mret (-1))
  else
  (mb (mon 12 v0 (mcall0 (fX7_check g v0))) fun x5 =>
  if x5 = 0 then
  (mb (mon 12 v0 (mcall0 (fX7_servedAhead g v0 v1))) fun x6 =>
  mret x6)
  else
  (mret (-1))))
  else
  (mret 0)) fun j14 =>
  if x1 = 0 then
  (j14 1)
  else
  (j14 0)
def fX7_pairs (g : Nat → Nat) (v0 : Option Nat) : HM (Int32) :=
  mb (pI 12 0 v0 0) fun _ =>
  mb (mon 12 v0 (mcall0 (fX7_pairCount g v0))) fun x1 =>
  mret x1
def fX7_apart (g : Nat → Nat) (v0 : Int32) (v1 : Int32) : HM (Int32) :=
  if v1 ≤ v0 then
  (mret (v0 - v1))
  else
  (mret (v1 - v0))
def fX7_areNear (g : Nat → Nat) (v0 : Option Nat) (v1 : Int32) (v2 : Int32) : HM (Int32) :=
  mb (mon 12 v0 (mcall0 (fX7_sits g v0 v1))) fun x1 =>
  if x1 = 0 then
  (mretT .boolean 0)
  else
  (mb (mon 12 v0 (mcall0 (fX7_sits g v0 v2))) fun x2 =>
  if x2 = 0 then
  (mretT .boolean 0)
  else
  (mb (mon 12 v0 (mcall0 (fX7_cellOfGuest g v0 v1))) fun x3 =>
  mb (mon 12 v0 (mcall0 (fX7_cellOfGuest g v0 v2))) fun x4 =>
  mb (mcall0 (fX7_apart g (imod x3 16) (imod x4 16))) fun x5 =>
  if 2 ≤ x5 then
  (mretT .boolean 0)
  else
  (mb (mcall0 (fX7_apart g (x3 / 16) (x4 / 16))) fun x6 =>
  if 2 ≤ x6 then
  (mretT .boolean 0)
  else
  (mretT .boolean 1))))
def fX7_nearByPairs_L22 (g : Nat → Nat) : Nat → Option Nat → Int32 → Int32 → Int32 → (Int32 → HM (Int32)) → HM (Int32)
  | 0, _, _, _, _, _ => mfail
  | n + 1, v0, v1, v2, v3, K0 =>
  if v2 ≤ v3 then
  (K0 v1)
  else
  (mb (oR 12 1 v0) fun x1 =>
  mb (aI 0 x1 (601 + v2)) fun x2 =>
  mjn (fun (x3 : Int32) =>
  fX7_nearByPairs_L22 g n v0 (v1 + x3) v2 (v3 + 1) K0) fun j60 =>
  if ((ishr x2 v3) &&& 1) = 1 then
  (mb (mon 12 v0 (mcall0 (fX7_areNear g v0 v2 v3))) fun x4 =>
  if x4 = 0 then
  (j60 0)
  else
  (j60 1))
  else
  (j60 0))
def fX7_nearByPairs_L9 (g : Nat → Nat) : Nat → Option Nat → Int32 → Int32 → HM (Int32)
  | 0, _, _, _ => mfail
  | n + 1, v0, v1, v2 =>
  mb (oR 12 1 v0) fun x5 =>
  mb (aI 0 x5 60) fun x6 =>
  if x6 ≤ v2 then
  (mret v1)
  else
  (fX7_nearByPairs_L22 g 5000 v0 v1 v2 0 (fun (x7 : Int32) =>
  fX7_nearByPairs_L9 g n v0 x7 (v2 + 1)))
def fX7_nearByPairs (g : Nat → Nat) (v0 : Option Nat) : HM (Int32) :=
  mb (pI 12 0 v0 0) fun _ =>
  fX7_nearByPairs_L9 g 5000 v0 0 0 
def fX7_nearByChairs (g : Nat → Nat) (v0 : Option Nat) : HM (Int32) :=
  mb (mon 12 v0 (mcall0 (fX7_nearByPairs g v0))) fun x1 =>
  mret x1
def fX7_append (g : Nat → Nat) (v0 : Option Nat) (v1 : Int32) : HM (Int32) :=
  mb (mcall0 (fX7_in g v1 32 126)) fun x1 =>
  mjn (fun (x2 : Int32) =>
  mb (pI 12 0 v0 x2) fun _ =>
  mb (oI 12 0 v0) fun x3 =>
  if x3 ≤ 0 then
  (mb (oR 12 6 v0) fun x4 =>
  mb (oI 12 7 v0) fun x5 =>
  mb (sI x4 x5 v1) fun _ =>
  mb (oI 12 7 v0) fun x6 =>
  mb (pI 12 7 v0 (x6 + 1)) fun _ =>
  mb (oI 12 7 v0) fun x7 =>
  mret x7)
  else
  (mret 0)) fun j30 =>
  if x1 = 0 then
  (j30 1)
  else
  (mb (oI 12 7 v0) fun x8 =>
  if x8 = 60 then
  (j30 2)
  else
  (j30 0))
def fX7_clearText (g : Nat → Nat) (v0 : Option Nat) : HM (Int32) :=
  mb (pI 12 0 v0 0) fun _ =>
  mb (oI 12 7 v0) fun x1 =>
  mb (pI 12 7 v0 0) fun _ =>
  mret x1
def fX7_here (g : Nat → Nat) (v0 : Option Nat) : HM (Int32) :=
  mb (oI 12 11 v0) fun x1 =>
  mb (oI 12 7 v0) fun x2 =>
  if x2 ≤ x1 then
  (mret 0)
  else
  (mb (oR 12 6 v0) fun x3 =>
  mb (oI 12 11 v0) fun x4 =>
  mb (aI 0 x3 x4) fun x5 =>
  mret x5)
def fX7_number (g : Nat → Nat) (v0 : Option Nat) (v1 : Int32) : HM (Int32) :=
  mb (oI 12 12 v0) fun x1 =>
  mjn (fun (x2 : Int32) =>
  mb (pZ 12 12 v0 x2) fun _ =>
  mb (oI 12 12 v0) fun x3 =>
  if x3 = 0 then
  (mb (mon 12 v0 (mcall0 (fX7_here g v0))) fun x4 =>
  mb (oI 12 11 v0) fun x5 =>
  mb (pI 12 11 v0 (x5 + 1)) fun _ =>
  if (x4 - 48) ≤ 0 then
  (mret (x4 - 48))
  else
  (mb (mon 12 v0 (mcall0 (fX7_here g v0))) fun x6 =>
  mb (mcall0 (fX7_in g x6 48 57)) fun x7 =>
  if x7 = 0 then
  (mret (x4 - 48))
  else
  (mb (mon 12 v0 (mcall0 (fX7_here g v0))) fun x8 =>
  if v1 < (((10 * (x4 - 48)) + x8) - 48) then
  (mret (x4 - 48))
  else
  (mb (mon 12 v0 (mcall0 (fX7_here g v0))) fun x9 =>
  mb (oI 12 11 v0) fun x10 =>
  mb (pI 12 11 v0 (x10 + 1)) fun _ =>
  mret (((10 * (x4 - 48)) + x9) - 48)))))
  else
  (mret 0)) fun j39 =>
  if x1 = 0 then
  (mb (mon 12 v0 (mcall0 (fX7_here g v0))) fun x11 =>
  mjn (fun (x12 : Int32) =>
  mb (mcall0 (fX7_in g (x11 - 48) 0 x12)) fun x13 =>
  if x13 = 0 then
  (j39 1)
  else
  (j39 0)) fun j28 =>
  if 9 ≤ v1 then
  (j28 9)
  else
  (j28 v1))
  else
  (j39 1)
def fX7_take (g : Nat → Nat) (v0 : Option Nat) (v1 : Int32) : HM (Unit) :=
  mb (oI 12 12 v0) fun x1 =>
  mjn (fun (x2 : Int32) =>
  mb (pZ 12 12 v0 x2) fun _ =>
  mb (oI 12 11 v0) fun x3 =>
  mb (oI 12 12 v0) fun x4 =>
  mjn (fun (x5 : Int32) =>
  mb (pI 12 11 v0 (x3 + x5)) fun _ =>
  mret ()) fun j41 =>
  if x4 = 0 then
  (j41 1)
  else
  (j41 0)) fun j21 =>
  if x1 = 0 then
  (mb (mon 12 v0 (mcall0 (fX7_here g v0))) fun x6 =>
  if x6 = v1 then
  (j21 0)
  else
  (j21 1))
  else
  (j21 1)
def fX7_order (g : Nat → Nat) (v0 : Option Nat) : HM (Unit) :=
  mb (mon 12 v0 (mcall0 (fX7_here g v0))) fun x1 =>
  mb (pI 12 13 v0 x1) fun _ =>
  mb (oI 12 13 v0) fun x2 =>
  mjn (fun (x3 : Int32) =>
  mb (pZ 12 12 v0 x3) fun _ =>
  mb (oI 12 11 v0) fun x4 =>
  mb (oI 12 12 v0) fun x5 =>
  mjn (fun (x6 : Int32) =>
  mb (pI 12 11 v0 (x4 + x6)) fun _ =>
  mb (oI 12 13 v0) fun x7 =>
  mjn (fun (x8 : Int32) =>
  mb (mon 12 v0 (mcall0 (fX7_number g v0 x8))) fun x9 =>
  mb (pI 12 14 v0 x9) fun _ =>
  mb (oI 12 13 v0) fun x10 =>
  mjn0 (  mb (oI 12 13 v0) fun x11 =>
  if x11 = 116 then
  (mb (mon 12 v0 (mcall0 (fX7_take g v0 58))) fun _ =>
  mb (mon 12 v0 (mcall0 (fX7_number g v0 3))) fun x12 =>
  mb (pI 12 17 v0 x12) fun _ =>
  mret ())
  else
  (mret ())) fun j338 =>
  mjn0 (  mb (mon 12 v0 (mcall0 (fX7_take g v0 64))) fun _ =>
  mb (mon 12 v0 (mcall0 (fX7_number g v0 15))) fun x13 =>
  mb (pI 12 15 v0 x13) fun _ =>
  mb (mon 12 v0 (mcall0 (fX7_take g v0 44))) fun _ =>
  mb (mon 12 v0 (mcall0 (fX7_number g v0 11))) fun x14 =>
  mb (pI 12 16 v0 x14) fun _ =>
  j338) fun j179 =>
  if x10 = 116 then
  (j179)
  else
  (mb (oI 12 13 v0) fun x15 =>
  if x15 = 109 then
  (j179)
  else
  (mb (oI 12 13 v0) fun x16 =>
  if x16 = 114 then
  (mb (mon 12 v0 (mcall0 (fX7_take g v0 58))) fun _ =>
  mb (mon 12 v0 (mcall0 (fX7_number g v0 3))) fun x24 =>
  mb (pI 12 15 v0 x24) fun _ =>
  j338)
  else
  (mb (oI 12 13 v0) fun x17 =>
  if x17 = 112 then
  (mb (mon 12 v0 (mcall0 (fX7_take g v0 44))) fun _ =>
  mb (mon 12 v0 (mcall0 (fX7_number g v0 11))) fun x23 =>
  mb (pI 12 15 v0 x23) fun _ =>
  j338)
  else
  (mb (oI 12 13 v0) fun x18 =>
  if x18 = 115 then
  (mb (mon 12 v0 (mcall0 (fX7_take g v0 64))) fun _ =>
  mb (mon 12 v0 (mcall0 (fX7_number g v0 9))) fun x21 =>
  mb (pI 12 15 v0 x21) fun _ =>
  mb (mon 12 v0 (mcall0 (fX7_take g v0 46))) fun _ =>
  mb (mon 12 v0 (mcall0 (fX7_number g v0 7))) fun x22 =>
  mb (pI 12 16 v0 x22) fun _ =>
  j338)
  else
  (mb (oI 12 13 v0) fun x19 =>
  if x19 = 120 then
  (mb (mon 12 v0 (mcall0 (fX7_take g v0 44))) fun _ =>
  mb (mon 12 v0 (mcall0 (fX7_number g v0 29))) fun x20 =>
  mb (pI 12 15 v0 x20) fun _ =>
  j338)
  else
  (j338))))))) fun j155 =>
  if x7 = 116 then
  (j155 2)
  else
  (mb (oI 12 13 v0) fun x25 =>
  if x25 = 109 then
  (j155 9)
  else
  (mb (oI 12 13 v0) fun x26 =>
  if x26 = 114 then
  (j155 9)
  else
  (mb (oI 12 13 v0) fun x27 =>
  if x27 = 112 then
  (j155 15)
  else
  (j155 29))))) fun j97 =>
  if x5 = 0 then
  (j97 1)
  else
  (j97 0)) fun j77 =>
  if x2 = 116 then
  (j77 0)
  else
  (mb (oI 12 13 v0) fun x28 =>
  if x28 = 109 then
  (j77 0)
  else
  (mb (oI 12 13 v0) fun x29 =>
  if x29 = 114 then
  (j77 0)
  else
  (mb (oI 12 13 v0) fun x30 =>
  if x30 = 112 then
  (j77 0)
  else
  (mb (oI 12 13 v0) fun x31 =>
  if x31 = 115 then
  (j77 0)
  else
  (mb (oI 12 13 v0) fun x32 =>
  if x32 = 117 then
  (j77 0)
  else
  (mb (oI 12 13 v0) fun x33 =>
  if x33 = 120 then
  (j77 0)
  else
  (j77 1)))))))
def fX7_parse_L14 (g : Nat → Nat) : Nat → Option Nat → HM (Unit)
  | 0, _ => mfail
  | n + 1, v0 =>
  mb (oI 12 12 v0) fun x1 =>
  if x1 = 0 then
  (mb (oI 12 11 v0) fun x2 =>
  mb (oI 12 7 v0) fun x3 =>
  if x3 ≤ x2 then
  (mret ())
  else
  (mb (mon 12 v0 (mcall0 (fX7_take g v0 59))) fun _ =>
  mb (oI 12 12 v0) fun x4 =>
  if x4 = 0 then
  (mb (mon 12 v0 (mcall0 (fX7_order g v0))) fun _ =>
  fX7_parse_L14 g n v0)
  else
  (fX7_parse_L14 g n v0)))
  else
  (mret ())
def fX7_parse (g : Nat → Nat) (v0 : Option Nat) : HM (Unit) :=
  mb (pI 12 11 v0 0) fun _ =>
  mb (pZ 12 12 v0 0) fun _ =>
  mb (mon 12 v0 (mcall0 (fX7_order g v0))) fun _ =>
  fX7_parse_L14 g 5000 v0 
def fX7_errorPosition (g : Nat → Nat) (v0 : Option Nat) : HM (Int32) :=
  mb (pI 12 0 v0 0) fun _ =>
  mb (mon 12 v0 (mcall0 (fX7_parse g v0))) fun _ =>
  mb (oI 12 12 v0) fun x1 =>
  if x1 = 0 then
  (mb (oI 12 7 v0) fun x2 =>
  mret x2)
  else
  (mb (oI 12 11 v0) fun x3 =>
  mret x3)
def fX7_does (g : Nat → Nat) (v0 : Option Nat) : HM (Int32) :=
  mb (oI 12 13 v0) fun x1 =>
  if x1 = 109 then
  (mb (oI 12 14 v0) fun x2 =>
  mb (oI 12 15 v0) fun x3 =>
  mb (oI 12 16 v0) fun x4 =>
  mb (mon 12 v0 (mcall0 (fX7_noMove g v0 x2 x3 x4))) fun x5 =>
  if x5 ≤ 0 then
  (mb (oI 12 14 v0) fun x6 =>
  mb (oI 12 16 v0) fun x7 =>
  mb (oI 12 15 v0) fun x8 =>
  mb (mon 12 v0 (mcall0 (fX7_setTable g v0 x6 1 ((16 * x7) + x8)))) fun _ =>
  mretT .boolean 1)
  else
  (mretT .boolean 0))
  else
  if x1 = 110 then
  (mb (oI 12 14 v0) fun x9 =>
  mb (mon 12 v0 (mcall0 (fX7_isGuest g v0 x9))) fun x10 =>
  if x10 = 0 then
  (mretT .boolean 0)
  else
  (mb (oI 12 15 v0) fun x11 =>
  mb (mon 12 v0 (mcall0 (fX7_isGuest g v0 x11))) fun x12 =>
  if x12 = 0 then
  (mretT .boolean 0)
  else
  (mb (oI 12 14 v0) fun x13 =>
  mb (oI 12 15 v0) fun x14 =>
  mb (mon 12 v0 (mcall0 (fX7_noSwap g v0 x13 x14))) fun x15 =>
  if x15 ≤ 0 then
  (mb (oI 12 14 v0) fun x16 =>
  mb (oI 12 15 v0) fun x17 =>
  mb (mon 12 v0 (mcall0 (fX7_swaps g v0 x16 x17))) fun _ =>
  mretT .boolean 1)
  else
  (mretT .boolean 0))))
  else
  if x1 = 111 then
  (mb (oI 12 14 v0) fun x18 =>
  mb (mon 12 v0 (mcall0 (fX7_isGuest g v0 x18))) fun x19 =>
  if x19 = 0 then
  (mretT .boolean 0)
  else
  (mb (oI 12 15 v0) fun x20 =>
  mb (mon 12 v0 (mcall0 (fX7_isGuest g v0 x20))) fun x21 =>
  if x21 = 0 then
  (mretT .boolean 0)
  else
  (mb (oI 12 14 v0) fun x22 =>
  mb (oI 12 15 v0) fun x23 =>
  mb (mon 12 v0 (mcall0 (fX7_noSwap g v0 x22 x23))) fun x24 =>
  if x24 ≤ 0 then
  (mb (oI 12 14 v0) fun x25 =>
  mb (oI 12 15 v0) fun x26 =>
  mb (mon 12 v0 (mcall0 (fX7_swaps g v0 x25 x26))) fun _ =>
  mretT .boolean 1)
  else
  (mretT .boolean 0))))
  else
  if x1 = 112 then
  (mb (oI 12 14 v0) fun x27 =>
  mb (oI 12 15 v0) fun x28 =>
  mb (mon 12 v0 (mcall0 (fX7_noTurnPillar g v0 x27 x28))) fun x29 =>
  if x29 ≤ 0 then
  (mb (oI 12 15 v0) fun x30 =>
  mb (oI 12 14 v0) fun x31 =>
  mb (mon 12 v0 (mcall0 (fX7_turnsPillar g v0 ((16 * x30) + x31)))) fun x32 =>
  if x32 = 0 then
  (mretT .boolean 1)
  else
  (mretT .boolean 1))
  else
  (mretT .boolean 0))
  else
  if x1 = 113 then
  (mb (oI 12 14 v0) fun x33 =>
  mb (mon 12 v0 (mcall0 (fX7_isGuest g v0 x33))) fun x34 =>
  if x34 = 0 then
  (mretT .boolean 0)
  else
  (mb (oI 12 15 v0) fun x35 =>
  mb (mon 12 v0 (mcall0 (fX7_isGuest g v0 x35))) fun x36 =>
  if x36 = 0 then
  (mretT .boolean 0)
  else
  (mb (oI 12 14 v0) fun x37 =>
  mb (oI 12 15 v0) fun x38 =>
  mb (mon 12 v0 (mcall0 (fX7_noSwap g v0 x37 x38))) fun x39 =>
  if x39 ≤ 0 then
  (mb (oI 12 14 v0) fun x40 =>
  mb (oI 12 15 v0) fun x41 =>
  mb (mon 12 v0 (mcall0 (fX7_swaps g v0 x40 x41))) fun _ =>
  mretT .boolean 1)
  else
  (mretT .boolean 0))))
  else
  if x1 = 114 then
  (mb (oI 12 14 v0) fun x42 =>
  mb (oI 12 15 v0) fun x43 =>
  mb (mon 12 v0 (mcall0 (fX7_noTurn g v0 x42 x43))) fun x44 =>
  if x44 ≤ 0 then
  (mb (oI 12 14 v0) fun x45 =>
  mb (oI 12 15 v0) fun x46 =>
  mb (mon 12 v0 (mcall0 (fX7_setTable g v0 x45 2 x46))) fun _ =>
  mretT .boolean 1)
  else
  (mretT .boolean 0))
  else
  if x1 = 115 then
  (mb (oI 12 14 v0) fun x47 =>
  mb (mon 12 v0 (mcall0 (fX7_isGuest g v0 x47))) fun x48 =>
  if x48 = 0 then
  (mretT .boolean 0)
  else
  (mb (oI 12 15 v0) fun x49 =>
  mb (oI 12 16 v0) fun x50 =>
  mb (mon 12 v0 (mcall0 (fX7_isChair g v0 x49 x50))) fun x51 =>
  if x51 = 0 then
  (mretT .boolean 0)
  else
  (mb (oI 12 14 v0) fun x52 =>
  mb (oI 12 15 v0) fun x53 =>
  mb (oI 12 16 v0) fun x54 =>
  mb (mon 12 v0 (mcall0 (fX7_noSeat g v0 x52 x53 x54))) fun x55 =>
  if x55 ≤ 0 then
  (mb (oI 12 14 v0) fun x56 =>
  mb (oI 12 15 v0) fun x57 =>
  mb (oI 12 16 v0) fun x58 =>
  mb (mon 12 v0 (mcall0 (fX7_put g v0 x56 x57 x58))) fun _ =>
  mretT .boolean 1)
  else
  (mretT .boolean 0))))
  else
  if x1 = 116 then
  (mb (oI 12 14 v0) fun x59 =>
  mb (oI 12 15 v0) fun x60 =>
  mb (oI 12 16 v0) fun x61 =>
  mb (oI 12 17 v0) fun x62 =>
  mb (mon 12 v0 (mcall0 (fX7_noAdd g v0 x59 x60 x61 x62))) fun x63 =>
  if x63 ≤ 0 then
  (mb (oI 12 14 v0) fun x64 =>
  mb (oI 12 15 v0) fun x65 =>
  mb (oI 12 16 v0) fun x66 =>
  mb (oI 12 17 v0) fun x67 =>
  mb (mon 12 v0 (mcall0 (fX7_layTable g v0 x64 x65 x66 x67))) fun _ =>
  mretT .boolean 1)
  else
  (mretT .boolean 0))
  else
  if x1 = 117 then
  (mb (oI 12 14 v0) fun x68 =>
  mb (mon 12 v0 (mcall0 (fX7_isGuest g v0 x68))) fun x69 =>
  if x69 = 0 then
  (mretT .boolean 0)
  else
  (mb (oI 12 14 v0) fun x70 =>
  mb (mon 12 v0 (mcall0 (fX7_sits g v0 x70))) fun x71 =>
  if x71 = 0 then
  (mretT .boolean 0)
  else
  (mb (oI 12 14 v0) fun x72 =>
  mb (mon 12 v0 (mcall0 (fX7_put g v0 x72 (-1) (-1)))) fun _ =>
  mretT .boolean 1)))
  else
  (mb (oI 12 14 v0) fun x73 =>
  mb (mon 12 v0 (mcall0 (fX7_isGuest g v0 x73))) fun x74 =>
  if x74 = 0 then
  (mretT .boolean 0)
  else
  (mb (oI 12 15 v0) fun x75 =>
  mb (mon 12 v0 (mcall0 (fX7_isGuest g v0 x75))) fun x76 =>
  if x76 = 0 then
  (mretT .boolean 0)
  else
  (mb (oI 12 14 v0) fun x77 =>
  mb (oI 12 15 v0) fun x78 =>
  mb (mon 12 v0 (mcall0 (fX7_noSwap g v0 x77 x78))) fun x79 =>
  if x79 ≤ 0 then
  (mb (oI 12 14 v0) fun x80 =>
  mb (oI 12 15 v0) fun x81 =>
  mb (mon 12 v0 (mcall0 (fX7_swaps g v0 x80 x81))) fun _ =>
  mretT .boolean 1)
  else
  (mretT .boolean 0))))
def fX7_runText_L42 (g : Nat → Nat) : Nat → Option Nat → Int32 → Int32 → HM (Int32)
  | 0, _, _, _ => mfail
  | n + 1, v0, v1, v2 =>
  if v2 = 0 then
  (mret v1)
  else
  (mb (oI 12 11 v0) fun x1 =>
  mb (oI 12 7 v0) fun x2 =>
  if x2 ≤ x1 then
  (mret v1)
  else
  (mb (oI 12 11 v0) fun x3 =>
  mb (oI 12 11 v0) fun x4 =>
  mjn (fun (x5 : Int32) =>
  mb (pI 12 11 v0 (x3 + x5)) fun _ =>
  mb (mon 12 v0 (mcall0 (fX7_order g v0))) fun _ =>
  mb (mon 12 v0 (mcall0 (fX7_does g v0))) fun x6 =>
  mjn (fun (x7 : Int32) =>
  fX7_runText_L42 g n v0 (v1 + x7) x6) fun j97 =>
  if x6 = 0 then
  (j97 0)
  else
  (j97 1)) fun j74 =>
  if x4 ≤ 0 then
  (j74 0)
  else
  (j74 1)))
def fX7_runText (g : Nat → Nat) (v0 : Option Nat) : HM (Int32) :=
  mb (mon 12 v0 (mcall0 (fX7_parse g v0))) fun _ =>
  mb (oI 12 12 v0) fun x8 =>
  mjn (fun (x9 : Int32) =>
  mb (pI 12 0 v0 x9) fun _ =>
  mb (oI 12 0 v0) fun x10 =>
  if x10 ≤ 0 then
  (mb (mon 12 v0 (mcall0 (fX7_record g v0))) fun _ =>
  mb (pI 12 11 v0 0) fun _ =>
  fX7_runText_L42 g 5000 v0 0 1)
  else
  (mret 0)) fun j17 =>
  if x8 = 0 then
  (j17 0)
  else
  (j17 1)
