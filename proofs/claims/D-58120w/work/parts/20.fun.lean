/-! THE METHODS AS PURE FUNCTIONS, printed by gen/walk.py out of their bytecode -/
set_option maxRecDepth 100000
def xh_loop {α : Type} (z : α) (s : α → α) : Nat → α
  | 0 => z
  | n + 1 => s (xh_loop z s n)
def xh_mx (x y : Int32) : Int32 := if x < y then y else x
def xh_mn (x y : Int32) : Int32 := if y < x then y else x
def xh_ab (x : Int32) : Int32 := if 0 ≤ x then x else 0 - x
def xh_gs (h : xh_H) (k : Nat) : Option (Option Nat) := some (some (h.2.2 k))
def f_J0_init (N : Nat) (a0 : Option Nat) (h : xh_H) : xh_R Unit := (xh_chk h a0 8).bind fun _ =>
  some ((), h, 0, 0)
def f_J1_init (N : Nat) (a0 : Option Nat) (h : xh_H) : xh_R Unit := (xh_chk h a0 8).bind fun _ =>
  xh_cal (f_J0_init N a0 h) fun _ h =>
  (xh_pI h a0 8 0 (0 : Int32)).bind fun h =>
  some ((), h, 0, 0)
def f_J2_init (N : Nat) (a0 : Option Nat) (h : xh_H) : xh_R Unit := (xh_chk h a0 8).bind fun _ =>
  xh_cal (f_J1_init N a0 h) fun _ h =>
  (xh_gs h 1).bind fun x5 =>
  (xh_pR h a0 8 1 x5).bind fun h =>
  some ((), h, 0, 0)
def f_J3_init (N : Nat) (a0 : Option Nat) (a1 : Option Nat) (h : xh_H) : xh_R Unit := (xh_pR h a0 9 3 a1).bind fun h =>
  (xh_chk h a0 9).bind fun _ =>
  (xh_pI h a0 9 1 (-1 : Int32)).bind fun h =>
  (xh_gR h a0 9 3).bind fun x16 =>
  (xh_gI h x16 8 0).bind fun x19 =>
  (xh_pI h a0 9 2 x19).bind fun h =>
  some ((), h, 0, 0)
def f_J2_iterator (N : Nat) (a0 : Option Nat) (h : xh_H) : xh_R (Option Nat) := xh_new h 9 [.int 0, .int 0, .int 0, .null] fun x0 h =>
  (xh_chk h x0 9).bind fun _ =>
  xh_cal (f_J3_init N x0 a0 h) fun _ h =>
  some (x0, h, 0, 0)
def f_J4_hugeLength (N : Nat) (a0 : Int32) (a1 : Int32) (h : xh_H) : xh_R Int32 := if 0 ≤ (a0 + a1) then
  (if (2147483639 : Int32) < (a0 + a1) then
  (some ((a0 + a1), h, 0, 0))
  else some ((2147483639 : Int32), h, 0, 0))
  else none
def f_J4_newLength_b21 (N : Nat) (a0 : Int32) (a1 : Int32) (h : xh_H) : xh_R Int32 := xh_cal (f_J4_hugeLength N a0 a1 h) fun x23 h =>
  some (x23, h, 0, 0)
def f_J4_newLength (N : Nat) (a0 : Int32) (a1 : Int32) (a2 : Int32) (h : xh_H) : xh_R Int32 := if (a0 + (xh_mx a1 a2)) ≤ (0 : Int32) then
  (f_J4_newLength_b21 N a0 a1  h)
  else if (2147483639 : Int32) < (a0 + (xh_mx a1 a2)) then
  (f_J4_newLength_b21 N a0 a1  h)
  else some ((a0 + (xh_mx a1 a2)), h, 0, 0)
def f_J6_copyOf_2 (N : Nat) (a0 : Option Nat) (a1 : Int32) (a2 : Option Nat) (h : xh_H) : xh_R (Option Nat) := (xh_gs h 4).bind fun x1 =>
  if a2 = x1 then
  (xh_nq h a1 fun x7 h =>
  (xh_lq h a0).bind fun x30 =>
  (xh_cpy h a0 (0 : Int32) x7 (0 : Int32) (xh_mn x30 a1)).bind fun h =>
  some (x7, h, 0, 0))
  else none
def f_J6_copyOf (N : Nat) (a0 : Option Nat) (a1 : Int32) (h : xh_H) : xh_R (Option Nat) := (xh_cb h a0).bind fun _ =>
  (xh_gs h 4).bind fun x3 =>
  xh_cal (f_J6_copyOf_2 N a0 a1 x3 h) fun x6 h =>
  some (x6, h, 0, 0)
def f_J2_grow_2_b20 (N : Nat) (a0 : Option Nat) (a1 : Int32) (a2 : Int32) (h : xh_H) : xh_R (Option Nat) := xh_cal (f_J4_newLength N a2 (a1 - a2) (a2 >>> ((1 : Int32) &&& 31)) h) fun x27 h =>
  (xh_gR h a0 8 1).bind fun x33 =>
  xh_cal (f_J6_copyOf N x33 x27 h) fun x37 h =>
  (xh_pR h a0 8 1 x37).bind fun h =>
  some (x37, h, 0, 0)
def f_J2_grow_2 (N : Nat) (a0 : Option Nat) (a1 : Int32) (h : xh_H) : xh_R (Option Nat) := (xh_gR h a0 8 1).bind fun x1 =>
  (xh_lq h x1).bind fun x4 =>
  if 0 < x4 then
  (f_J2_grow_2_b20 N a0 a1 x4  h)
  else (xh_gR h a0 8 1).bind fun x11 =>
  (xh_gs h 1).bind fun x14 =>
  if x11 = x14 then
  (xh_nq h (xh_mx (10 : Int32) a1) fun x52 h =>
  (xh_pR h a0 8 1 x52).bind fun h =>
  some (x52, h, 0, 0))
  else f_J2_grow_2_b20 N a0 a1 x4  h
def f_J2_grow (N : Nat) (a0 : Option Nat) (h : xh_H) : xh_R (Option Nat) := (xh_gI h a0 8 2).bind fun x2 =>
  (xh_chk h a0 8).bind fun _ =>
  xh_cal (f_J2_grow_2 N a0 (x2 + (1 : Int32)) h) fun x7 h =>
  some (x7, h, 0, 0)
def f_J2_add_2_b11 (N : Nat) (a0 : Option Nat) (a1 : Option Nat) (a2 : Option Nat) (a3 : Int32) (h : xh_H) : xh_R Unit := (xh_sr h a2 a3 a1).bind fun h =>
  (xh_pI h a0 8 2 (a3 + (1 : Int32))).bind fun h =>
  some ((), h, 0, 0)
def f_J2_add_2 (N : Nat) (a0 : Option Nat) (a1 : Option Nat) (a2 : Option Nat) (a3 : Int32) (h : xh_H) : xh_R Unit := (xh_lq h a2).bind fun x2 =>
  if a3 = x2 then
  ((xh_chk h a0 8).bind fun _ =>
  xh_cal (f_J2_grow N a0 h) fun x7 h =>
  f_J2_add_2_b11 N a0 a1 x7 a3  h)
  else f_J2_add_2_b11 N a0 a1 a2 a3  h
def f_J2_add (N : Nat) (a0 : Option Nat) (a1 : Option Nat) (h : xh_H) : xh_R Int32 := (xh_gI h a0 8 0).bind fun x2 =>
  (xh_pI h a0 8 0 (x2 + (1 : Int32))).bind fun h =>
  (xh_gR h a0 8 1).bind fun x13 =>
  (xh_gI h a0 8 2).bind fun x17 =>
  (xh_chk h a0 8).bind fun _ =>
  xh_cal (f_J2_add_2 N a0 a1 x13 x17 h) fun _ h =>
  some ((1 : Int32), h, 0, 0)
def f_J2_isEmpty (N : Nat) (a0 : Option Nat) (h : xh_H) : xh_R Int32 := (xh_gI h a0 8 2).bind fun x1 =>
  if x1 = 0 then
  (some ((1 : Int32), h, 0, 0))
  else some ((0 : Int32), h, 0, 0)
def f_J2_size (N : Nat) (a0 : Option Nat) (h : xh_H) : xh_R Int32 := (xh_gI h a0 8 2).bind fun x1 =>
  some (x1, h, 0, 0)
def f_J2_elementData (N : Nat) (a0 : Option Nat) (a1 : Int32) (h : xh_H) : xh_R (Option Nat) := (xh_gR h a0 8 1).bind fun x1 =>
  (xh_lr h x1 a1).bind fun x5 =>
  some (x5, h, 0, 0)
def f_J8_checkIndex_b9 (N : Nat) (a0 : Int32) (a1 : Int32) (a2 : Option Nat) (h : xh_H) : xh_R Int32 := none
def f_J8_checkIndex (N : Nat) (a0 : Int32) (a1 : Int32) (a2 : Option Nat) (h : xh_H) : xh_R Int32 := if a0 < 0 then
  (f_J8_checkIndex_b9 N a0 a1 a2  h)
  else if a0 < a1 then
  (some (a0, h, 0, 0))
  else f_J8_checkIndex_b9 N a0 a1 a2  h
def f_J7_checkIndex (N : Nat) (a0 : Int32) (a1 : Int32) (h : xh_H) : xh_R Int32 := xh_cal (f_J8_checkIndex N a0 a1 none h) fun x3 h =>
  some (x3, h, 0, 0)
def f_J2_get (N : Nat) (a0 : Option Nat) (a1 : Int32) (h : xh_H) : xh_R (Option Nat) := (xh_gI h a0 8 2).bind fun x2 =>
  xh_cal (f_J7_checkIndex N a1 x2 h) fun x5 h =>
  (xh_chk h a0 8).bind fun _ =>
  xh_cal (f_J2_elementData N a0 a1 h) fun x11 h =>
  some (x11, h, 0, 0)
def f_J2_fastRemove_b34 (N : Nat) (a0 : Option Nat) (a1 : Option Nat) (a3 : Int32) (h : xh_H) : xh_R Unit := (xh_pI h a0 8 2 a3).bind fun h =>
  (xh_sr h a1 a3 none).bind fun h =>
  some ((), h, 0, 0)
def f_J2_fastRemove (N : Nat) (a0 : Option Nat) (a1 : Option Nat) (a2 : Int32) (h : xh_H) : xh_R Unit := (xh_gI h a0 8 0).bind fun x2 =>
  (xh_pI h a0 8 0 (x2 + (1 : Int32))).bind fun h =>
  (xh_gI h a0 8 2).bind fun x11 =>
  if (x11 - (1 : Int32)) ≤ a2 then
  (f_J2_fastRemove_b34 N a0 a1 (x11 - (1 : Int32))  h)
  else (xh_cpy h a1 (a2 + (1 : Int32)) a1 a2 ((x11 - (1 : Int32)) - a2)).bind fun h =>
  f_J2_fastRemove_b34 N a0 a1 (x11 - (1 : Int32))  h
def f_J2_remove (N : Nat) (a0 : Option Nat) (a1 : Int32) (h : xh_H) : xh_R (Option Nat) := (xh_gI h a0 8 2).bind fun x2 =>
  xh_cal (f_J7_checkIndex N a1 x2 h) fun x5 h =>
  (xh_gR h a0 8 1).bind fun x10 =>
  (xh_lr h x10 a1).bind fun x16 =>
  (xh_chk h a0 8).bind fun _ =>
  xh_cal (f_J2_fastRemove N a0 x10 a1 h) fun _ h =>
  some (x16, h, 0, 0)
def f_J2_clear_b27 (N : Nat) (k27 : Option Nat → Int32 → Int32 → xh_H → xh_R Unit) (a1 : Option Nat) (a2 : Int32) (a3 : Int32) (h : xh_H) : xh_R Unit := if a2 ≤ a3 then
  (some ((), h, 0, 0))
  else (xh_sr h a1 a3 none).bind fun h =>
  k27 a1 a2 (a3 + (1 : Int32))  h
def f_J2_clear_l27 (N : Nat) : Nat → Option Nat → Int32 → Int32 → xh_H → xh_R Unit := xh_loop (fun _ _ _ _ => none) (fun k27 => f_J2_clear_b27 N k27)
def f_J2_clear (N : Nat) (a0 : Option Nat) (h : xh_H) : xh_R Unit := (xh_gI h a0 8 0).bind fun x2 =>
  (xh_pI h a0 8 0 (x2 + (1 : Int32))).bind fun h =>
  (xh_gR h a0 8 1).bind fun x11 =>
  (xh_gI h a0 8 2).bind fun x16 =>
  (xh_pI h a0 8 2 (0 : Int32)).bind fun h =>
  f_J2_clear_l27 N N x11 x16 (0 : Int32)  h
def f_J3_hasNext (N : Nat) (a0 : Option Nat) (h : xh_H) : xh_R Int32 := (xh_gI h a0 9 0).bind fun x1 =>
  (xh_gR h a0 9 3).bind fun x5 =>
  (xh_gI h x5 8 2).bind fun x8 =>
  if x1 = x8 then
  (some ((0 : Int32), h, 0, 0))
  else some ((1 : Int32), h, 0, 0)
def f_J3_checkForComodification (N : Nat) (a0 : Option Nat) (h : xh_H) : xh_R Unit := (xh_gR h a0 9 3).bind fun x1 =>
  (xh_gI h x1 8 0).bind fun x4 =>
  (xh_gI h a0 9 2).bind fun x8 =>
  if x4 = x8 then
  (some ((), h, 0, 0))
  else none
def f_J3_next (N : Nat) (a0 : Option Nat) (h : xh_H) : xh_R (Option Nat) := (xh_chk h a0 9).bind fun _ =>
  xh_cal (f_J3_checkForComodification N a0 h) fun _ h =>
  (xh_gI h a0 9 0).bind fun x5 =>
  (xh_gR h a0 9 3).bind fun x11 =>
  (xh_gI h x11 8 2).bind fun x14 =>
  if x5 < x14 then
  ((xh_gR h a0 9 3).bind fun x29 =>
  (xh_gR h x29 8 1).bind fun x32 =>
  (xh_lq h x32).bind fun x38 =>
  if x5 < x38 then
  ((xh_pI h a0 9 0 (x5 + (1 : Int32))).bind fun h =>
  (xh_pI h a0 9 1 x5).bind fun h =>
  (xh_lr h x32 x5).bind fun x64 =>
  some (x64, h, 0, 0))
  else none)
  else none
def f_X1_init_2 (N : Nat) (a0 : Option Nat) (a1 : Option Nat) (a2 : Option Nat) (h : xh_H) : xh_R Unit := (xh_chk h a0 1).bind fun _ =>
  xh_new h 8 [.int 0, .null, .int 0] fun x5 h =>
  (xh_chk h x5 8).bind fun _ =>
  xh_cal (f_J2_init N x5 h) fun _ h =>
  (xh_pR h a0 1 0 x5).bind fun h =>
  (xh_pR h a0 1 1 a1).bind fun h =>
  (xh_pR h a0 1 2 a2).bind fun h =>
  some ((), h, 0, 0)
def f_X1_init_b36 (N : Nat) (k36 : Option Nat → Int32 → xh_H → xh_R Unit) (a0 : Option Nat) (a1 : Int32) (h : xh_H) : xh_R Unit := if (600 : Int32) ≤ a1 then
  (some ((), h, 0, 0))
  else (xh_gR h a0 1 1).bind fun x44 =>
  (xh_sv h x44 0 a1 (-1 : Int32)).bind fun h =>
  k36 a0 (a1 + (1 : Int32))  h
def f_X1_init_l36 (N : Nat) : Nat → Option Nat → Int32 → xh_H → xh_R Unit := xh_loop (fun _ _ _ => none) (fun k36 => f_X1_init_b36 N k36)
def f_X1_init (N : Nat) (a0 : Option Nat) (h : xh_H) : xh_R Unit := xh_na h 0 (600 : Int32) fun x4 h =>
  xh_na h 0 (5 : Int32) fun x7 h =>
  (xh_sv h x7 0 (0 : Int32) (16 : Int32)).bind fun h =>
  (xh_sv h x7 0 (1 : Int32) (1 : Int32)).bind fun h =>
  (xh_sv h x7 0 (2 : Int32) (2 : Int32)).bind fun h =>
  (xh_sv h x7 0 (3 : Int32) (0 : Int32)).bind fun h =>
  (xh_sv h x7 0 (4 : Int32) (50 : Int32)).bind fun h =>
  (xh_chk h a0 1).bind fun _ =>
  xh_cal (f_X1_init_2 N a0 x4 x7 h) fun _ h =>
  f_X1_init_l36 N N a0 (0 : Int32)  h
def f_X0_init (N : Nat) (a0 : Option Nat) (h : xh_H) : xh_R Unit := (xh_chk h a0 0).bind fun _ =>
  xh_new h 1 [.null, .null, .null] fun x5 h =>
  (xh_chk h x5 1).bind fun _ =>
  xh_cal (f_X1_init N x5 h) fun _ h =>
  (xh_pR h a0 0 0 x5).bind fun h =>
  xh_new h 8 [.int 0, .null, .int 0] fun x16 h =>
  (xh_chk h x16 8).bind fun _ =>
  xh_cal (f_J2_init N x16 h) fun _ h =>
  (xh_pR h a0 0 1 x16).bind fun h =>
  xh_na h 1 (60 : Int32) fun x29 h =>
  (xh_pR h a0 0 3 x29).bind fun h =>
  some ((), h, 0, 0)
def f_X0_changed_b24 (N : Nat) (a0 : Option Nat) (a1 : Option Nat) (a2 : Int32) (h : xh_H) : xh_R Int32 := (xh_gR h a0 0 1).bind fun x25 =>
  (xh_chk h x25 8).bind fun _ =>
  xh_cal (f_J2_add N x25 a1 h) fun x29 h =>
  some (a2, h, 0, 0)
def f_X0_changed (N : Nat) (a0 : Option Nat) (a1 : Option Nat) (a2 : Int32) (h : xh_H) : xh_R Int32 := (xh_gR h a0 0 1).bind fun x1 =>
  (xh_chk h x1 8).bind fun _ =>
  xh_cal (f_J2_size N x1 h) fun x4 h =>
  if x4 = (4 : Int32) then
  ((xh_gR h a0 0 1).bind fun x14 =>
  (xh_chk h x14 8).bind fun _ =>
  xh_cal (f_J2_remove N x14 (0 : Int32) h) fun x18 h =>
  f_X0_changed_b24 N a0 a1 a2  h)
  else f_X0_changed_b24 N a0 a1 a2  h
def f_X1_many (N : Nat) (a0 : Option Nat) (h : xh_H) : xh_R Int32 := (xh_gR h a0 1 0).bind fun x1 =>
  (xh_chk h x1 8).bind fun _ =>
  xh_cal (f_J2_size N x1 h) fun x4 h =>
  some (x4, h, 0, 0)
def f_X5_end (N : Nat) (a0 : Option Nat) (h : xh_H) : xh_R Int32 := (xh_gI h a0 5 0).bind fun x1 =>
  (xh_gI h a0 5 1).bind fun x5 =>
  some ((x1 + x5), h, 0, 0)
def f_X1_end (N : Nat) (a0 : Option Nat) (h : xh_H) : xh_R Int32 := (xh_gR h a0 1 0).bind fun x1 =>
  (xh_chk h x1 8).bind fun _ =>
  xh_cal (f_J2_isEmpty N x1 h) fun x4 h =>
  if x4 = 0 then
  ((xh_gR h a0 1 0).bind fun x17 =>
  (xh_chk h a0 1).bind fun _ =>
  xh_cal (f_X1_many N a0 h) fun x21 h =>
  (xh_chk h x17 8).bind fun _ =>
  xh_cal (f_J2_get N x17 (x21 - (1 : Int32)) h) fun x26 h =>
  (xh_cc h x26 5).bind fun _ =>
  (xh_chk h x26 5).bind fun _ =>
  xh_cal (f_X5_end N x26 h) fun x34 h =>
  some (x34, h, 0, 0))
  else some ((0 : Int32), h, 0, 0)
def f_X1_phrases (N : Nat) (a0 : Option Nat) (h : xh_H) : xh_R Int32 := (xh_gR h a0 1 0).bind fun x1 =>
  (xh_chk h x1 8).bind fun _ =>
  xh_cal (f_J2_isEmpty N x1 h) fun x4 h =>
  if x4 = 0 then
  ((xh_gR h a0 1 0).bind fun x17 =>
  (xh_chk h a0 1).bind fun _ =>
  xh_cal (f_X1_many N a0 h) fun x21 h =>
  (xh_chk h x17 8).bind fun _ =>
  xh_cal (f_J2_get N x17 (x21 - (1 : Int32)) h) fun x26 h =>
  (xh_cc h x26 5).bind fun _ =>
  (xh_gI h x26 5 4).bind fun x34 =>
  some ((x34 + (1 : Int32)), h, 0, 0))
  else some ((0 : Int32), h, 0, 0)
def f_X5_init (N : Nat) (a0 : Option Nat) (a1 : Int32) (a2 : Int32) (a3 : Int32) (a4 : Int32) (a5 : Int32) (h : xh_H) : xh_R Unit := (xh_chk h a0 5).bind fun _ =>
  (xh_pI h a0 5 0 a1).bind fun h =>
  (xh_pI h a0 5 1 a2).bind fun h =>
  (xh_pI h a0 5 2 a3).bind fun h =>
  (xh_pI h a0 5 3 a4).bind fun h =>
  (xh_pI h a0 5 4 a5).bind fun h =>
  some ((), h, 0, 0)
def f_X1_add_b71 (N : Nat) (a0 : Option Nat) (a1 : Option Nat) (a2 : Int32) (t0 : Int32) (h : xh_H) : xh_R Unit := (xh_gR h a0 1 0).bind fun x73 =>
  xh_new h 5 [.int 0, .int 0, .int 0, .int 0, .int 0] fun x76 h =>
  (xh_gI h a1 3 3).bind fun x82 =>
  (xh_gI h a1 3 1).bind fun x86 =>
  (xh_gI h a1 3 2).bind fun x90 =>
  (xh_chk h x76 5).bind fun _ =>
  xh_cal (f_X5_init N x76 a2 x82 x86 x90 t0 h) fun _ h =>
  (xh_chk h x73 8).bind fun _ =>
  xh_cal (f_J2_add N x73 x76 h) fun x97 h =>
  some ((), h, 0, 0)
def f_X1_add_b58 (N : Nat) (a0 : Option Nat) (a1 : Option Nat) (a2 : Int32) (h : xh_H) : xh_R Unit := (xh_chk h a0 1).bind fun _ =>
  xh_cal (f_X1_phrases N a0 h) fun x59 h =>
  f_X1_add_b71 N a0 a1 a2 x59 h
def f_X1_add_b31 (N : Nat) (h : xh_H) : xh_R Unit := none
def f_X1_add (N : Nat) (a0 : Option Nat) (a1 : Option Nat) (h : xh_H) : xh_R Unit := (xh_chk h a0 1).bind fun _ =>
  xh_cal (f_X1_end N a0 h) fun x1 h =>
  (xh_gI h a1 3 0).bind fun x5 =>
  (xh_chk h a0 1).bind fun _ =>
  xh_cal (f_X1_many N a0 h) fun x11 h =>
  if x11 = (40 : Int32) then
  (f_X1_add_b31 N  h)
  else (xh_gI h a1 3 3).bind fun x21 =>
  if ((x1 + x5) + x21) ≤ (600 : Int32) then
  ((xh_gI h a1 3 4).bind fun x40 =>
  if x40 = 0 then
  ((xh_gR h a0 1 0).bind fun x47 =>
  (xh_chk h x47 8).bind fun _ =>
  xh_cal (f_J2_isEmpty N x47 h) fun x50 h =>
  if x50 = 0 then
  ((xh_chk h a0 1).bind fun _ =>
  xh_cal (f_X1_phrases N a0 h) fun x66 h =>
  f_X1_add_b71 N a0 a1 (x1 + x5) (x66 - (1 : Int32)) h)
  else f_X1_add_b58 N a0 a1 (x1 + x5)  h)
  else f_X1_add_b58 N a0 a1 (x1 + x5)  h)
  else f_X1_add_b31 N  h
def f_X1_copy_b71 (N : Nat) (a1 : Option Nat) (h : xh_H) : xh_R (Option Nat) := some (a1, h, 0, 0)
def f_X1_copy_b38 (N : Nat) (k38 : Option Nat → Option Nat → xh_H → xh_R (Option Nat)) (a1 : Option Nat) (a2 : Option Nat) (h : xh_H) : xh_R (Option Nat) := (xh_chk h a2 9).bind fun _ =>
  xh_cal (f_J3_hasNext N a2 h) fun x39 h =>
  if x39 = 0 then
  (f_X1_copy_b71 N a1  h)
  else (xh_chk h a2 9).bind fun _ =>
  xh_cal (f_J3_next N a2 h) fun x48 h =>
  (xh_cc h x48 5).bind fun _ =>
  (xh_gR h a1 1 0).bind fun x58 =>
  (xh_chk h x58 8).bind fun _ =>
  xh_cal (f_J2_add N x58 x48 h) fun x62 h =>
  k38 a1 a2  h
def f_X1_copy_l38 (N : Nat) : Nat → Option Nat → Option Nat → xh_H → xh_R (Option Nat) := xh_loop (fun _ _ _ => none) (fun k38 => f_X1_copy_b38 N k38)
def f_X1_copy (N : Nat) (a0 : Option Nat) (h : xh_H) : xh_R (Option Nat) := xh_new h 1 [.null, .null, .null] fun x0 h =>
  (xh_gR h a0 1 1).bind fun x5 =>
  xh_cln h x5 fun x8 h =>
  (xh_ca h x8).bind fun _ =>
  (xh_gR h a0 1 2).bind fun x15 =>
  xh_cln h x15 fun x18 h =>
  (xh_ca h x18).bind fun _ =>
  (xh_chk h x0 1).bind fun _ =>
  xh_cal (f_X1_init_2 N x0 x8 x18 h) fun _ h =>
  (xh_gR h a0 1 0).bind fun x29 =>
  (xh_chk h x29 8).bind fun _ =>
  xh_cal (f_J2_iterator N x29 h) fun x32 h =>
  f_X1_copy_l38 N N x0 x32  h
def f_X3_init (N : Nat) (a0 : Option Nat) (a1 : Int32) (a2 : Int32) (a3 : Int32) (a4 : Int32) (a5 : Int32) (h : xh_H) : xh_R Unit := (xh_chk h a0 3).bind fun _ =>
  (xh_pI h a0 3 0 a1).bind fun h =>
  (xh_pI h a0 3 1 a2).bind fun h =>
  (xh_pI h a0 3 2 a3).bind fun h =>
  (xh_pI h a0 3 3 a4).bind fun h =>
  (xh_pZ h a0 3 4 a5).bind fun h =>
  some ((), h, 0, 0)
def f_X0_isBetween_b14 (N : Nat) (h : xh_H) : xh_R Int32 := some ((0 : Int32), h, 0, 0)
def f_X0_isBetween (N : Nat) (a0 : Int32) (a1 : Int32) (a2 : Int32) (h : xh_H) : xh_R Int32 := if a0 < a1 then
  (f_X0_isBetween_b14 N  h)
  else if a2 < a0 then
  (f_X0_isBetween_b14 N  h)
  else some ((1 : Int32), h, 0, 0)
def f_X0_isPitch (N : Nat) (a0 : Int32) (h : xh_H) : xh_R Int32 := xh_cal (f_X0_isBetween N a0 (0 : Int32) (60 : Int32) h) fun x4 h =>
  if x4 = 0 ∨ x4 = 1 then some (x4, h, 0, 0) else none
def f_X3_isRight_b50 (N : Nat) (h : xh_H) : xh_R Int32 := some ((0 : Int32), h, 0, 0)
def f_X3_isRight (N : Nat) (a0 : Option Nat) (h : xh_H) : xh_R Int32 := (xh_gI h a0 3 0).bind fun x1 =>
  xh_cal (f_X0_isBetween N x1 (0 : Int32) (32 : Int32) h) fun x7 h =>
  if x7 = 0 then
  (f_X3_isRight_b50 N  h)
  else (xh_gI h a0 3 1).bind fun x14 =>
  xh_cal (f_X0_isPitch N x14 h) fun x17 h =>
  if x17 = 0 then
  (f_X3_isRight_b50 N  h)
  else (xh_gI h a0 3 2).bind fun x24 =>
  xh_cal (f_X0_isPitch N x24 h) fun x27 h =>
  if x27 = 0 then
  (f_X3_isRight_b50 N  h)
  else (xh_gI h a0 3 3).bind fun x34 =>
  xh_cal (f_X0_isBetween N x34 (1 : Int32) (32 : Int32) h) fun x40 h =>
  if x40 = 0 then
  (f_X3_isRight_b50 N  h)
  else some ((1 : Int32), h, 0, 0)
def f_X0_add (N : Nat) (a0 : Option Nat) (a1 : Int32) (a2 : Int32) (a3 : Int32) (a4 : Int32) (a5 : Int32) (h : xh_H) : xh_R Int32 := xh_new h 3 [.int 0, .int 0, .int 0, .int 0, .int 0] fun x0 h =>
  (xh_chk h x0 3).bind fun _ =>
  xh_cal (f_X3_init N x0 a1 a2 a3 a4 a5 h) fun _ h =>
  (xh_chk h x0 3).bind fun _ =>
  xh_cal (f_X3_isRight N x0 h) fun x18 h =>
  if x18 = 0 then
  (some ((-2 : Int32), h, 0, 0))
  else (xh_gR h a0 0 0).bind fun x28 =>
  (xh_chk h x28 1).bind fun _ =>
  xh_cal (f_X1_copy N x28 h) fun x31 h =>
  (xh_gR h a0 0 0).bind fun x37 =>
  (xh_chk h x37 1).bind fun _ =>
  xh_cal (f_X1_add N x37 x0 h) fun _ h =>
  (xh_gR h a0 0 0).bind fun x49 =>
  (xh_gR h x49 1 0).bind fun x52 =>
  (xh_gR h a0 0 0).bind fun x56 =>
  (xh_chk h x56 1).bind fun _ =>
  xh_cal (f_X1_many N x56 h) fun x59 h =>
  (xh_chk h x52 8).bind fun _ =>
  xh_cal (f_J2_get N x52 (x59 - (1 : Int32)) h) fun x64 h =>
  (xh_cc h x64 5).bind fun _ =>
  (xh_gI h x64 5 0).bind fun x72 =>
  (xh_chk h a0 0).bind fun _ =>
  xh_cal (f_X0_changed N a0 x31 x72 h) fun x75 h =>
  some (x75, h, 0, 0)
def f_X0_drop (N : Nat) (a0 : Option Nat) (h : xh_H) : xh_R Int32 := (xh_gR h a0 0 0).bind fun x1 =>
  (xh_gR h x1 1 0).bind fun x4 =>
  (xh_chk h x4 8).bind fun _ =>
  xh_cal (f_J2_isEmpty N x4 h) fun x7 h =>
  if x7 = 0 then
  ((xh_gR h a0 0 0).bind fun x19 =>
  (xh_chk h x19 1).bind fun _ =>
  xh_cal (f_X1_copy N x19 h) fun x22 h =>
  (xh_gR h a0 0 0).bind fun x27 =>
  (xh_gR h x27 1 0).bind fun x30 =>
  (xh_gR h a0 0 0).bind fun x34 =>
  (xh_chk h x34 1).bind fun _ =>
  xh_cal (f_X1_many N x34 h) fun x37 h =>
  (xh_chk h x30 8).bind fun _ =>
  xh_cal (f_J2_remove N x30 (x37 - (1 : Int32)) h) fun x42 h =>
  (xh_gR h a0 0 0).bind fun x51 =>
  (xh_chk h x51 1).bind fun _ =>
  xh_cal (f_X1_many N x51 h) fun x54 h =>
  (xh_chk h a0 0).bind fun _ =>
  xh_cal (f_X0_changed N a0 x22 x54 h) fun x57 h =>
  some (x57, h, 0, 0))
  else some ((-5 : Int32), h, 0, 0)
def f_X6_init (N : Nat) (a0 : Option Nat) (a1 : Option Nat) (h : xh_H) : xh_R Unit := (xh_pR h a0 6 2 a1).bind fun h =>
  (xh_chk h a0 6).bind fun _ =>
  xh_new h 8 [.int 0, .null, .int 0] fun x10 h =>
  (xh_chk h x10 8).bind fun _ =>
  xh_cal (f_J2_init N x10 h) fun _ h =>
  (xh_pR h a0 6 0 x10).bind fun h =>
  some ((), h, 0, 0)
def f_X6_isDigit_b51 (N : Nat) (h : xh_H) : xh_R Int32 := some ((0 : Int32), h, 0, 0)
def f_X6_isDigit (N : Nat) (a0 : Option Nat) (a1 : Int32) (h : xh_H) : xh_R Int32 := (xh_gI h a0 6 1).bind fun x1 =>
  (xh_gR h a0 6 2).bind fun x5 =>
  (xh_gI h x5 0 4).bind fun x8 =>
  if x8 ≤ x1 then
  (f_X6_isDigit_b51 N  h)
  else (xh_gR h a0 6 2).bind fun x15 =>
  (xh_gR h x15 0 3).bind fun x18 =>
  (xh_gI h a0 6 1).bind fun x22 =>
  (xh_ld h x18 1 x22).bind fun x25 =>
  if x25 < a1 then
  (f_X6_isDigit_b51 N  h)
  else (xh_gR h a0 6 2).bind fun x31 =>
  (xh_gR h x31 0 3).bind fun x34 =>
  (xh_gI h a0 6 1).bind fun x38 =>
  (xh_ld h x34 1 x38).bind fun x41 =>
  if (57 : Int32) < x41 then
  (f_X6_isDigit_b51 N  h)
  else some ((1 : Int32), h, 0, 0)
def f_X6_number_b105 (N : Nat) (a3 : Int32) (h : xh_H) : xh_R Int32 := some (a3, h, 0, 0)
def f_X6_number (N : Nat) (a0 : Option Nat) (a1 : Int32) (a2 : Int32) (h : xh_H) : xh_R Int32 := (xh_chk h a0 6).bind fun _ =>
  xh_cal (f_X6_isDigit N a0 a1 h) fun x2 h =>
  if x2 = 0 then
  (some ((-5 : Int32), h, 0, 0))
  else (xh_gR h a0 6 2).bind fun x12 =>
  (xh_gR h x12 0 3).bind fun x15 =>
  (xh_gI h a0 6 1).bind fun x19 =>
  (xh_ld h x15 1 x19).bind fun x22 =>
  (xh_gI h a0 6 1).bind fun x29 =>
  (xh_pI h a0 6 1 (x29 + (1 : Int32))).bind fun h =>
  if (x22 - (48 : Int32)) ≤ 0 then
  (f_X6_number_b105 N (x22 - (48 : Int32))  h)
  else (xh_chk h a0 6).bind fun _ =>
  xh_cal (f_X6_isDigit N a0 (48 : Int32) h) fun x44 h =>
  if x44 = 0 then
  (f_X6_number_b105 N (x22 - (48 : Int32))  h)
  else (xh_gR h a0 6 2).bind fun x55 =>
  (xh_gR h x55 0 3).bind fun x58 =>
  (xh_gI h a0 6 1).bind fun x62 =>
  (xh_ld h x58 1 x62).bind fun x65 =>
  if a2 < ((((10 : Int32) * (x22 - (48 : Int32))) + x65) - (48 : Int32)) then
  (f_X6_number_b105 N (x22 - (48 : Int32))  h)
  else (xh_gR h a0 6 2).bind fun x79 =>
  (xh_gR h x79 0 3).bind fun x82 =>
  (xh_gI h a0 6 1).bind fun x86 =>
  (xh_ld h x82 1 x86).bind fun x89 =>
  (xh_gI h a0 6 1).bind fun x97 =>
  (xh_pI h a0 6 1 (x97 + (1 : Int32))).bind fun h =>
  f_X6_number_b105 N ((((10 : Int32) * (x22 - (48 : Int32))) + x89) - (48 : Int32))  h
def f_X6_takes_b50 (N : Nat) (a2 : Int32) (h : xh_H) : xh_R Int32 := if a2 = 0 ∨ a2 = 1 then some (a2, h, 0, 0) else none
def f_X6_takes_b35 (N : Nat) (a0 : Option Nat) (t0 : Int32) (h : xh_H) : xh_R Int32 := if t0 = 0 then
  (f_X6_takes_b50 N t0  h)
  else (xh_gI h a0 6 1).bind fun x42 =>
  (xh_pI h a0 6 1 (x42 + (1 : Int32))).bind fun h =>
  f_X6_takes_b50 N t0  h
def f_X6_takes_b34 (N : Nat) (a0 : Option Nat) (h : xh_H) : xh_R Int32 := f_X6_takes_b35 N a0 (0 : Int32) h
def f_X6_takes (N : Nat) (a0 : Option Nat) (a1 : Int32) (h : xh_H) : xh_R Int32 := (xh_gI h a0 6 1).bind fun x1 =>
  (xh_gR h a0 6 2).bind fun x5 =>
  (xh_gI h x5 0 4).bind fun x8 =>
  if x8 ≤ x1 then
  (f_X6_takes_b34 N a0  h)
  else (xh_gR h a0 6 2).bind fun x15 =>
  (xh_gR h x15 0 3).bind fun x18 =>
  (xh_gI h a0 6 1).bind fun x22 =>
  (xh_ld h x18 1 x22).bind fun x25 =>
  if x25 = a1 then
  (f_X6_takes_b35 N a0 (1 : Int32) h)
  else f_X6_takes_b34 N a0  h
def f_X6_syllable_b84 (N : Nat) (h : xh_H) : xh_R Int32 := some ((0 : Int32), h, 0, 0)
def f_X6_syllable_b66 (N : Nat) (a0 : Option Nat) (a1 : Int32) (a2 : Int32) (a3 : Int32) (t0 : Int32) (h : xh_H) : xh_R Int32 := if t0 = (-5 : Int32) then
  (f_X6_syllable_b84 N  h)
  else (xh_chk h a0 6).bind fun _ =>
  xh_cal (f_X6_takes N a0 (58 : Int32) h) fun x78 h =>
  if x78 = 0 then
  (f_X6_syllable_b84 N  h)
  else (xh_chk h a0 6).bind fun _ =>
  xh_cal (f_X6_number N a0 (49 : Int32) (32 : Int32) h) fun x91 h =>
  (xh_gR h a0 6 0).bind fun x97 =>
  xh_new h 3 [.int 0, .int 0, .int 0, .int 0, .int 0] fun x100 h =>
  (xh_chk h x100 3).bind fun _ =>
  xh_cal (f_X3_init N x100 a2 a3 t0 x91 a1 h) fun _ h =>
  (xh_chk h x97 8).bind fun _ =>
  xh_cal (f_J2_add N x97 x100 h) fun x114 h =>
  if x91 = (-5 : Int32) then
  (some ((0 : Int32), h, 0, 0))
  else some ((1 : Int32), h, 0, 0)
def f_X6_syllable_b54 (N : Nat) (a0 : Option Nat) (a1 : Int32) (a2 : Int32) (a3 : Int32) (h : xh_H) : xh_R Int32 := f_X6_syllable_b66 N a0 a1 a2 a3 a3 h
def f_X6_syllable_b21 (N : Nat) (a0 : Option Nat) (a1 : Int32) (t0 : Int32) (h : xh_H) : xh_R Int32 := if t0 = (-5 : Int32) then
  (some ((0 : Int32), h, 0, 0))
  else (xh_chk h a0 6).bind fun _ =>
  xh_cal (f_X6_number N a0 (48 : Int32) (60 : Int32) h) fun x35 h =>
  if x35 = (-5 : Int32) then
  (f_X6_syllable_b54 N a0 a1 t0 x35  h)
  else (xh_chk h a0 6).bind fun _ =>
  xh_cal (f_X6_takes N a0 (45 : Int32) h) fun x48 h =>
  if x48 = 0 then
  (f_X6_syllable_b54 N a0 a1 t0 x35  h)
  else (xh_chk h a0 6).bind fun _ =>
  xh_cal (f_X6_number N a0 (48 : Int32) (60 : Int32) h) fun x63 h =>
  f_X6_syllable_b66 N a0 a1 t0 x35 x63 h
def f_X6_syllable (N : Nat) (a0 : Option Nat) (a1 : Int32) (h : xh_H) : xh_R Int32 := (xh_chk h a0 6).bind fun _ =>
  xh_cal (f_X6_takes N a0 (46 : Int32) h) fun x3 h =>
  if x3 = 0 then
  (f_X6_syllable_b21 N a0 a1 (0 : Int32) h)
  else (xh_chk h a0 6).bind fun _ =>
  xh_cal (f_X6_number N a0 (49 : Int32) (32 : Int32) h) fun x14 h =>
  f_X6_syllable_b21 N a0 a1 x14 h
def f_X6_read_b50 (N : Nat) (a0 : Option Nat) (h : xh_H) : xh_R Int32 := (xh_gI h a0 6 1).bind fun x51 =>
  (xh_gR h a0 6 2).bind fun x55 =>
  (xh_gI h x55 0 4).bind fun x58 =>
  if x51 = x58 then
  (some ((-5 : Int32), h, 0, 0))
  else (xh_gI h a0 6 1).bind fun x70 =>
  some (x70, h, 0, 0)
def f_X6_read_b46 (N : Nat) (k4 : Option Nat → Int32 → Int32 → xh_H → xh_R Int32) (a0 : Option Nat) (a1 : Int32) (t0 : Int32) (h : xh_H) : xh_R Int32 := k4 a0 a1 t0  h
def f_X6_read_b41 (N : Nat) (k4 : Option Nat → Int32 → Int32 → xh_H → xh_R Int32) (a0 : Option Nat) (a1 : Int32) (h : xh_H) : xh_R Int32 := f_X6_read_b46 N k4 a0 a1 (1 : Int32) h
def f_X6_read_b16 (N : Nat) (a0 : Option Nat) (h : xh_H) : xh_R Int32 := (xh_gI h a0 6 1).bind fun x17 =>
  some (x17, h, 0, 0)
def f_X6_read_b4 (N : Nat) (k4 : Option Nat → Int32 → Int32 → xh_H → xh_R Int32) (a0 : Option Nat) (a1 : Int32) (a2 : Int32) (h : xh_H) : xh_R Int32 := if a2 = 0 then
  (f_X6_read_b50 N a0  h)
  else (xh_chk h a0 6).bind fun _ =>
  xh_cal (f_X6_syllable N a0 a1 h) fun x10 h =>
  if x10 = 0 then
  (f_X6_read_b16 N a0  h)
  else (xh_chk h a0 6).bind fun _ =>
  xh_cal (f_X6_takes N a0 (47 : Int32) h) fun x24 h =>
  if x24 = 0 then
  ((xh_chk h a0 6).bind fun _ =>
  xh_cal (f_X6_takes N a0 (44 : Int32) h) fun x35 h =>
  if x35 = 0 then
  (f_X6_read_b46 N k4 a0 x24 (0 : Int32) h)
  else f_X6_read_b41 N k4 a0 x24  h)
  else f_X6_read_b41 N k4 a0 x24  h
def f_X6_read_l4 (N : Nat) : Nat → Option Nat → Int32 → Int32 → xh_H → xh_R Int32 := xh_loop (fun _ _ _ _ => none) (fun k4 => f_X6_read_b4 N k4)
def f_X6_read (N : Nat) (a0 : Option Nat) (h : xh_H) : xh_R Int32 := f_X6_read_l4 N N a0 (1 : Int32) (1 : Int32)  h
def f_X0_read_b95 (N : Nat) (a0 : Option Nat) (a3 : Option Nat) (h : xh_H) : xh_R Int32 := (xh_gR h a0 0 0).bind fun x98 =>
  (xh_chk h x98 1).bind fun _ =>
  xh_cal (f_X1_many N x98 h) fun x101 h =>
  (xh_chk h a0 0).bind fun _ =>
  xh_cal (f_X0_changed N a0 a3 x101 h) fun x104 h =>
  some (x104, h, 0, 0)
def f_X0_read_b61 (N : Nat) (k61 : Option Nat → Option Nat → Option Nat → xh_H → xh_R Int32) (a0 : Option Nat) (a3 : Option Nat) (a4 : Option Nat) (h : xh_H) : xh_R Int32 := (xh_chk h a4 9).bind fun _ =>
  xh_cal (f_J3_hasNext N a4 h) fun x63 h =>
  if x63 = 0 then
  (f_X0_read_b95 N a0 a3  h)
  else (xh_chk h a4 9).bind fun _ =>
  xh_cal (f_J3_next N a4 h) fun x73 h =>
  (xh_cc h x73 3).bind fun _ =>
  (xh_gR h a0 0 0).bind fun x84 =>
  (xh_chk h x84 1).bind fun _ =>
  xh_cal (f_X1_add N x84 x73 h) fun _ h =>
  k61 a0 a3 a4  h
def f_X0_read_l61 (N : Nat) : Nat → Option Nat → Option Nat → Option Nat → xh_H → xh_R Int32 := xh_loop (fun _ _ _ _ => none) (fun k61 => f_X0_read_b61 N k61)
def f_X0_read (N : Nat) (a0 : Option Nat) (h : xh_H) : xh_R Int32 := xh_new h 6 [.null, .int 0, .null] fun x0 h =>
  (xh_chk h x0 6).bind fun _ =>
  xh_cal (f_X6_init N x0 a0 h) fun _ h =>
  (xh_chk h x0 6).bind fun _ =>
  xh_cal (f_X6_read N x0 h) fun x10 h =>
  if x10 = (-5 : Int32) then
  ((xh_gR h a0 0 0).bind fun x26 =>
  (xh_chk h x26 1).bind fun _ =>
  xh_cal (f_X1_copy N x26 h) fun x32 h =>
  (xh_pR h a0 0 0 x32).bind fun h =>
  (xh_gR h a0 0 0).bind fun x39 =>
  (xh_gR h x39 1 0).bind fun x42 =>
  (xh_chk h x42 8).bind fun _ =>
  xh_cal (f_J2_clear N x42 h) fun _ h =>
  (xh_gR h x0 6 0).bind fun x51 =>
  (xh_chk h x51 8).bind fun _ =>
  xh_cal (f_J2_iterator N x51 h) fun x54 h =>
  f_X0_read_l61 N N a0 x26 x54  h)
  else some (((-100 : Int32) - x10), h, 0, 0)
def f_X0_isRight (N : Nat) (a0 : Int32) (a1 : Int32) (h : xh_H) : xh_R Int32 := (xh_ls a0 xh_least).bind fun x5 =>
  (xh_ls a0 xh_great).bind fun x10 =>
  xh_cal (f_X0_isBetween N a1 x5 x10 h) fun x11 h =>
  if x11 = 0 ∨ x11 = 1 then some (x11, h, 0, 0) else none
def f_X0_isSetting (N : Nat) (a0 : Int32) (h : xh_H) : xh_R Int32 := xh_cal (f_X0_isBetween N a0 (0 : Int32) (4 : Int32) h) fun x3 h =>
  if x3 = 0 ∨ x3 = 1 then some (x3, h, 0, 0) else none
def f_X0_set (N : Nat) (a0 : Option Nat) (a1 : Int32) (a2 : Int32) (h : xh_H) : xh_R Int32 := xh_cal (f_X0_isSetting N a1 h) fun x1 h =>
  if x1 = 0 then
  (some ((-1 : Int32), h, 0, 0))
  else xh_cal (f_X0_isRight N a1 a2 h) fun x11 h =>
  if x11 = 0 then
  (some ((-2 : Int32), h, 0, 0))
  else (xh_gR h a0 0 0).bind fun x21 =>
  (xh_gR h x21 1 2).bind fun x24 =>
  (xh_ld h x24 0 a1).bind fun x28 =>
  if x28 = a2 then
  (some ((-5 : Int32), h, 0, 0))
  else (xh_gR h a0 0 0).bind fun x39 =>
  (xh_chk h x39 1).bind fun _ =>
  xh_cal (f_X1_copy N x39 h) fun x42 h =>
  (xh_gR h a0 0 0).bind fun x48 =>
  (xh_gR h x48 1 2).bind fun x51 =>
  (xh_sv h x51 0 a1 a2).bind fun h =>
  (xh_chk h a0 0).bind fun _ =>
  xh_cal (f_X0_changed N a0 x42 x28 h) fun x61 h =>
  some (x61, h, 0, 0)
def f_X0_isTick (N : Nat) (a0 : Int32) (h : xh_H) : xh_R Int32 := xh_cal (f_X0_isBetween N a0 (0 : Int32) (599 : Int32) h) fun x5 h =>
  if x5 = 0 ∨ x5 = 1 then some (x5, h, 0, 0) else none
def f_X0_areTicks_b29 (N : Nat) (h : xh_H) : xh_R Int32 := some ((0 : Int32), h, 0, 0)
def f_X0_areTicks (N : Nat) (a0 : Int32) (a1 : Int32) (a2 : Int32) (h : xh_H) : xh_R Int32 := xh_cal (f_X0_isTick N a0 h) fun x1 h =>
  if x1 = 0 then
  (f_X0_areTicks_b29 N  h)
  else xh_cal (f_X0_isBetween N a1 (1 : Int32) a2 h) fun x10 h =>
  if x10 = 0 then
  (f_X0_areTicks_b29 N  h)
  else if (600 : Int32) < (a0 + a1) then
  (f_X0_areTicks_b29 N  h)
  else some ((1 : Int32), h, 0, 0)
def f_X7_init (N : Nat) (a0 : Option Nat) (a1 : Option Nat) (h : xh_H) : xh_R Unit := (xh_chk h a0 7).bind fun _ =>
  xh_na h 0 (40 : Int32) fun x7 h =>
  (xh_pR h a0 7 1 x7).bind fun h =>
  xh_na h 0 (40 : Int32) fun x15 h =>
  (xh_pR h a0 7 2 x15).bind fun h =>
  xh_na h 0 (40 : Int32) fun x23 h =>
  (xh_pR h a0 7 3 x23).bind fun h =>
  xh_na h 0 (40 : Int32) fun x31 h =>
  (xh_pR h a0 7 4 x31).bind fun h =>
  xh_na h 0 (40 : Int32) fun x39 h =>
  (xh_pR h a0 7 5 x39).bind fun h =>
  (xh_pR h a0 7 0 a1).bind fun h =>
  some ((), h, 0, 0)
def f_X5_wanted (N : Nat) (a0 : Option Nat) (a1 : Int32) (h : xh_H) : xh_R Int32 := (xh_gI h a0 5 1).bind fun x1 =>
  if x1 = (1 : Int32) then
  ((xh_gI h a0 5 2).bind fun x9 =>
  some (x9, h, 0, 0))
  else (xh_gI h a0 5 2).bind fun x16 =>
  (xh_gI h a0 5 3).bind fun x20 =>
  (xh_gI h a0 5 2).bind fun x24 =>
  (xh_gI h a0 5 0).bind fun x30 =>
  (xh_gI h a0 5 1).bind fun x36 =>
  if (x36 - (1 : Int32)) = 0 then none else
  some ((x16 + (((x20 - x24) * (a1 - x30)) / (x36 - (1 : Int32)))), h, 0, 0)
def f_X7_matches_b56 (N : Nat) (a0 : Option Nat) (a3 : Int32) (h : xh_H) : xh_R Int32 := (xh_gR h a0 7 0).bind fun x58 =>
  (xh_gR h x58 1 2).bind fun x61 =>
  (xh_ld h x61 0 (1 : Int32)).bind fun x65 =>
  if x65 < a3 then
  (some ((0 : Int32), h, 0, 0))
  else some ((1 : Int32), h, 0, 0)
def f_X7_matches (N : Nat) (a0 : Option Nat) (a1 : Option Nat) (a2 : Int32) (h : xh_H) : xh_R Int32 := (xh_gR h a0 7 6).bind fun x1 =>
  (xh_ld h x1 0 a2).bind fun x5 =>
  if x5 = (-1 : Int32) then
  (some ((0 : Int32), h, 0, 0))
  else (xh_gR h a0 7 6).bind fun x13 =>
  (xh_ld h x13 0 a2).bind fun x17 =>
  (xh_chk h a1 5).bind fun _ =>
  xh_cal (f_X5_wanted N a1 a2 h) fun x20 h =>
  (xh_gR h a0 7 0).bind fun x29 =>
  (xh_gR h x29 1 2).bind fun x32 =>
  (xh_ld h x32 0 (3 : Int32)).bind fun x36 =>
  if x36 = (1 : Int32) then
  (f_X7_matches_b56 N a0 (xh_mn ((xh_ab (x17 - x20)) - (xh_ab (x17 - x20)) / (12 : Int32) * (12 : Int32)) ((12 : Int32) - ((xh_ab (x17 - x20)) - (xh_ab (x17 - x20)) / (12 : Int32) * (12 : Int32))))  h)
  else f_X7_matches_b56 N a0 (xh_ab (x17 - x20))  h
def f_X7_bars_b86 (N : Nat) (a3 : Int32) (h : xh_H) : xh_R Int32 := some (a3, h, 0, 0)
def f_X7_bars_b78 (N : Nat) (k10 : Option Nat → Option Nat → Int32 → Int32 → Int32 → xh_H → xh_R Int32) (a0 : Option Nat) (a1 : Option Nat) (a2 : Int32) (a4 : Int32) (t0 : Int32) (t1 : Int32) (h : xh_H) : xh_R Int32 := k10 a0 a1 a2 (t0 + t1) (a4 + (1 : Int32))  h
def f_X7_bars_b77 (N : Nat) (k10 : Option Nat → Option Nat → Int32 → Int32 → Int32 → xh_H → xh_R Int32) (a0 : Option Nat) (a1 : Option Nat) (a2 : Int32) (a4 : Int32) (t0 : Int32) (h : xh_H) : xh_R Int32 := f_X7_bars_b78 N k10 a0 a1 a2 a4 t0 (0 : Int32) h
def f_X7_bars_b73 (N : Nat) (k10 : Option Nat → Option Nat → Int32 → Int32 → Int32 → xh_H → xh_R Int32) (a0 : Option Nat) (a1 : Option Nat) (a2 : Int32) (a4 : Int32) (t0 : Int32) (h : xh_H) : xh_R Int32 := f_X7_bars_b78 N k10 a0 a1 a2 a4 t0 (1 : Int32) h
def f_X7_bars_b39 (N : Nat) (k10 : Option Nat → Option Nat → Int32 → Int32 → Int32 → xh_H → xh_R Int32) (a0 : Option Nat) (a1 : Option Nat) (a2 : Int32) (a3 : Int32) (a4 : Int32) (t0 : Int32) (h : xh_H) : xh_R Int32 := if t0 = 0 then
  (f_X7_bars_b77 N k10 a0 a1 a2 a4 a3 h)
  else if a2 = 0 then
  (f_X7_bars_b73 N k10 a0 a1 a2 a4 a3 h)
  else (xh_chk h a0 7).bind fun _ =>
  xh_cal (f_X7_matches N a0 a1 a4 h) fun x55 h =>
  if x55 = 0 then
  (f_X7_bars_b77 N k10 a0 a1 a2 a4 a3 h)
  else (xh_chk h a0 7).bind fun _ =>
  xh_cal (f_X7_matches N a0 a1 (a4 - (1 : Int32)) h) fun x67 h =>
  if x67 = 0 then
  (f_X7_bars_b77 N k10 a0 a1 a2 a4 a3 h)
  else f_X7_bars_b73 N k10 a0 a1 a2 a4 a3 h
def f_X7_bars_b10 (N : Nat) (k10 : Option Nat → Option Nat → Int32 → Int32 → Int32 → xh_H → xh_R Int32) (a0 : Option Nat) (a1 : Option Nat) (a2 : Int32) (a3 : Int32) (a4 : Int32) (h : xh_H) : xh_R Int32 := (xh_chk h a1 5).bind fun _ =>
  xh_cal (f_X5_end N a1 h) fun x13 h =>
  if x13 ≤ a4 then
  (f_X7_bars_b86 N a3  h)
  else (xh_gR h a0 7 0).bind fun x22 =>
  (xh_gR h x22 1 2).bind fun x25 =>
  (xh_ld h x25 0 (0 : Int32)).bind fun x29 =>
  if x29 = 0 then none else
  if (a4 - a4 / x29 * x29) = 0 then
  (f_X7_bars_b39 N k10 a0 a1 a2 a3 a4 (1 : Int32) h)
  else f_X7_bars_b39 N k10 a0 a1 a2 a3 a4 (0 : Int32) h
def f_X7_bars_l10 (N : Nat) : Nat → Option Nat → Option Nat → Int32 → Int32 → Int32 → xh_H → xh_R Int32 := xh_loop (fun _ _ _ _ _ _ => none) (fun k10 => f_X7_bars_b10 N k10)
def f_X7_bars (N : Nat) (a0 : Option Nat) (a1 : Option Nat) (a2 : Int32) (h : xh_H) : xh_R Int32 := (xh_gI h a1 5 0).bind fun x3 =>
  f_X7_bars_l10 N N a0 a1 a2 (0 : Int32) (x3 + (1 : Int32))  h
def f_X7_isOnset_b42 (N : Nat) (h : xh_H) : xh_R Int32 := some ((0 : Int32), h, 0, 0)
def f_X7_isOnset_b38 (N : Nat) (h : xh_H) : xh_R Int32 := some ((1 : Int32), h, 0, 0)
def f_X7_isOnset (N : Nat) (a0 : Option Nat) (a1 : Int32) (h : xh_H) : xh_R Int32 := xh_cal (f_X0_isTick N a1 h) fun x1 h =>
  if x1 = 0 then
  (f_X7_isOnset_b42 N  h)
  else (xh_gR h a0 7 6).bind fun x8 =>
  (xh_ld h x8 0 a1).bind fun x12 =>
  if x12 = (-1 : Int32) then
  (f_X7_isOnset_b42 N  h)
  else if a1 = 0 then
  (f_X7_isOnset_b38 N  h)
  else (xh_gR h a0 7 6).bind fun x22 =>
  (xh_ld h x22 0 (a1 - (1 : Int32))).bind fun x28 =>
  (xh_gR h a0 7 6).bind fun x30 =>
  (xh_ld h x30 0 a1).bind fun x34 =>
  if x28 = x34 then
  (f_X7_isOnset_b42 N  h)
  else f_X7_isOnset_b38 N  h
def f_X7_onset_b61 (N : Nat) (h : xh_H) : xh_R Int32 := some ((-5 : Int32), h, 0, 0)
def f_X7_onset_b48 (N : Nat) (a1 : Option Nat) (a2 : Int32) (h : xh_H) : xh_R Int32 := (xh_gI h a1 5 0).bind fun x49 =>
  some ((x49 + a2), h, 0, 0)
def f_X7_onset_b28 (N : Nat) (a1 : Option Nat) (a2 : Int32) (h : xh_H) : xh_R Int32 := (xh_gI h a1 5 0).bind fun x29 =>
  some ((x29 - a2), h, 0, 0)
def f_X7_onset_b2 (N : Nat) (k2 : Option Nat → Option Nat → Int32 → xh_H → xh_R Int32) (a0 : Option Nat) (a1 : Option Nat) (a2 : Int32) (h : xh_H) : xh_R Int32 := (xh_gR h a0 7 0).bind fun x4 =>
  (xh_gR h x4 1 2).bind fun x7 =>
  (xh_ld h x7 0 (2 : Int32)).bind fun x11 =>
  if x11 < a2 then
  (f_X7_onset_b61 N  h)
  else (xh_gI h a1 5 0).bind fun x17 =>
  (xh_chk h a0 7).bind fun _ =>
  xh_cal (f_X7_isOnset N a0 (x17 - a2) h) fun x22 h =>
  if x22 = 0 then
  ((xh_gI h a1 5 0).bind fun x37 =>
  (xh_chk h a0 7).bind fun _ =>
  xh_cal (f_X7_isOnset N a0 (x37 + a2) h) fun x42 h =>
  if x42 = 0 then
  (k2 a0 a1 (a2 + (1 : Int32))  h)
  else f_X7_onset_b48 N a1 a2  h)
  else f_X7_onset_b28 N a1 a2  h
def f_X7_onset_l2 (N : Nat) : Nat → Option Nat → Option Nat → Int32 → xh_H → xh_R Int32 := xh_loop (fun _ _ _ _ => none) (fun k2 => f_X7_onset_b2 N k2)
def f_X7_onset (N : Nat) (a0 : Option Nat) (a1 : Option Nat) (h : xh_H) : xh_R Int32 := f_X7_onset_l2 N N a0 a1 (0 : Int32)  h
def f_X7_share (N : Nat) (a0 : Option Nat) (a1 : Int32) (h : xh_H) : xh_R Int32 := (xh_gR h a0 7 1).bind fun x1 =>
  (xh_ld h x1 0 a1).bind fun x5 =>
  (xh_gR h a0 7 0).bind fun x10 =>
  (xh_gR h x10 1 0).bind fun x13 =>
  (xh_chk h x13 8).bind fun _ =>
  xh_cal (f_J2_get N x13 a1 h) fun x17 h =>
  (xh_cc h x17 5).bind fun _ =>
  (xh_gI h x17 5 1).bind fun x25 =>
  if x25 = 0 then none else
  some (((x5 * (100 : Int32)) / x25), h, 0, 0)
def f_X7_reason_b44 (N : Nat) (a0 : Option Nat) (a2 : Int32) (a3 : Int32) (h : xh_H) : xh_R Int32 := if a3 = 0 then
  ((xh_gR h a0 7 1).bind fun x51 =>
  (xh_ld h x51 0 a2).bind fun x55 =>
  if x55 = 0 then
  (some ((2 : Int32), h, 0, 0))
  else (xh_gR h a0 7 2).bind fun x62 =>
  (xh_ld h x62 0 a2).bind fun x66 =>
  if x66 = (-5 : Int32) then
  (some ((3 : Int32), h, 0, 0))
  else (xh_chk h a0 7).bind fun _ =>
  xh_cal (f_X7_share N a0 a2 h) fun x78 h =>
  (xh_gR h a0 7 0).bind fun x82 =>
  (xh_gR h x82 1 2).bind fun x85 =>
  (xh_ld h x85 0 (4 : Int32)).bind fun x89 =>
  if x89 ≤ x78 then
  (some ((0 : Int32), h, 0, 0))
  else some ((4 : Int32), h, 0, 0))
  else some ((1 : Int32), h, 0, 0)
def f_X7_reason_b37 (N : Nat) (k8 : Option Nat → Option Nat → Int32 → Int32 → Int32 → xh_H → xh_R Int32) (a0 : Option Nat) (a1 : Option Nat) (a2 : Int32) (a4 : Int32) (t0 : Int32) (h : xh_H) : xh_R Int32 := k8 a0 a1 a2 t0 (a4 + (1 : Int32))  h
def f_X7_reason_b36 (N : Nat) (k8 : Option Nat → Option Nat → Int32 → Int32 → Int32 → xh_H → xh_R Int32) (a0 : Option Nat) (a1 : Option Nat) (a2 : Int32) (a4 : Int32) (h : xh_H) : xh_R Int32 := f_X7_reason_b37 N k8 a0 a1 a2 a4 (0 : Int32) h
def f_X7_reason_b8 (N : Nat) (k8 : Option Nat → Option Nat → Int32 → Int32 → Int32 → xh_H → xh_R Int32) (a0 : Option Nat) (a1 : Option Nat) (a2 : Int32) (a3 : Int32) (a4 : Int32) (h : xh_H) : xh_R Int32 := (xh_chk h a1 5).bind fun _ =>
  xh_cal (f_X5_end N a1 h) fun x11 h =>
  if x11 ≤ a4 then
  (f_X7_reason_b44 N a0 a2 a3  h)
  else if a3 = 0 then
  (f_X7_reason_b36 N k8 a0 a1 a2 a4  h)
  else (xh_gR h a0 7 6).bind fun x22 =>
  (xh_ld h x22 0 a4).bind fun x27 =>
  if x27 = (-1 : Int32) then
  (f_X7_reason_b37 N k8 a0 a1 a2 a4 (1 : Int32) h)
  else f_X7_reason_b36 N k8 a0 a1 a2 a4  h
def f_X7_reason_l8 (N : Nat) : Nat → Option Nat → Option Nat → Int32 → Int32 → Int32 → xh_H → xh_R Int32 := xh_loop (fun _ _ _ _ _ _ => none) (fun k8 => f_X7_reason_b8 N k8)
def f_X7_reason (N : Nat) (a0 : Option Nat) (a1 : Option Nat) (a2 : Int32) (h : xh_H) : xh_R Int32 := (xh_gI h a1 5 0).bind fun x3 =>
  f_X7_reason_l8 N N a0 a1 a2 (1 : Int32) x3  h
def f_X7_judge_b166 (N : Nat) (a0 : Option Nat) (a1 : Int32) (a2 : Option Nat) (t0 : Option Nat) (t1 : Int32) (t2 : Int32) (h : xh_H) : xh_R Unit := (xh_sv h t0 0 t1 t2).bind fun h =>
  (xh_gR h a0 7 5).bind fun x168 =>
  (xh_sv h x168 0 a1 (0 : Int32)).bind fun h =>
  (xh_gR h a0 7 3).bind fun x175 =>
  (xh_ld h x175 0 a1).bind fun x179 =>
  if x179 = 0 then
  ((xh_chk h a0 7).bind fun _ =>
  xh_cal (f_X7_share N a0 a1 h) fun x185 h =>
  (xh_chk h a0 7).bind fun _ =>
  xh_cal (f_X7_bars N a0 a2 (1 : Int32) h) fun x192 h =>
  (xh_gR h a0 7 2).bind fun x199 =>
  (xh_ld h x199 0 a1).bind fun x203 =>
  (xh_gI h a2 5 0).bind fun x205 =>
  (xh_gR h a0 7 5).bind fun x217 =>
  (xh_gR h a0 7 4).bind fun x230 =>
  (xh_ld h x230 0 a1).bind fun x234 =>
  (xh_sv h x217 0 a1 (((xh_mx (0 : Int32) ((x185 + ((5 : Int32) * x192)) - ((2 : Int32) * (xh_ab (x203 - x205))))) * ((10 : Int32) + x234)) / (10 : Int32))).bind fun h =>
  some ((), h, 0, 0))
  else some ((), h, 0, 0)
def f_X7_judge_b137 (N : Nat) (a0 : Option Nat) (a1 : Int32) (a2 : Option Nat) (t0 : Int32) (h : xh_H) : xh_R Unit := (xh_gR h a0 7 4).bind fun x139 =>
  if t0 = 0 then
  (f_X7_judge_b166 N a0 a1 a2 x139 a1 (0 : Int32) h)
  else (xh_gR h a0 7 4).bind fun x150 =>
  (xh_ld h x150 0 (a1 - (1 : Int32))).bind fun x156 =>
  f_X7_judge_b166 N a0 a1 a2 x139 a1 (xh_mn (10 : Int32) (x156 + (1 : Int32))) h
def f_X7_judge_b136 (N : Nat) (a0 : Option Nat) (a1 : Int32) (a2 : Option Nat) (h : xh_H) : xh_R Unit := f_X7_judge_b137 N a0 a1 a2 (0 : Int32) h
def f_X7_judge_b66 (N : Nat) (a0 : Option Nat) (a1 : Int32) (a2 : Option Nat) (h : xh_H) : xh_R Unit := (xh_gR h a0 7 2).bind fun x67 =>
  (xh_chk h a0 7).bind fun _ =>
  xh_cal (f_X7_onset N a0 a2 h) fun x73 h =>
  (xh_sv h x67 0 a1 x73).bind fun h =>
  (xh_gR h a0 7 3).bind fun x78 =>
  (xh_chk h a0 7).bind fun _ =>
  xh_cal (f_X7_reason N a0 a2 a1 h) fun x85 h =>
  (xh_sv h x78 0 a1 x85).bind fun h =>
  if a1 ≤ 0 then
  (f_X7_judge_b136 N a0 a1 a2  h)
  else (xh_gR h a0 7 0).bind fun x94 =>
  (xh_gR h x94 1 0).bind fun x97 =>
  (xh_chk h x97 8).bind fun _ =>
  xh_cal (f_J2_get N x97 (a1 - (1 : Int32)) h) fun x103 h =>
  (xh_cc h x103 5).bind fun _ =>
  (xh_gI h x103 5 4).bind fun x111 =>
  (xh_gI h a2 5 4).bind fun x115 =>
  if x111 = x115 then
  ((xh_gR h a0 7 3).bind fun x122 =>
  (xh_ld h x122 0 (a1 - (1 : Int32))).bind fun x128 =>
  if x128 = 0 then
  (f_X7_judge_b137 N a0 a1 a2 (1 : Int32) h)
  else f_X7_judge_b136 N a0 a1 a2  h)
  else f_X7_judge_b136 N a0 a1 a2  h
def f_X7_judge_b58 (N : Nat) (k29 : Option Nat → Int32 → Option Nat → Int32 → xh_H → xh_R Unit) (a0 : Option Nat) (a1 : Int32) (a2 : Option Nat) (a3 : Int32) (t0 : Option Nat) (t1 : Int32) (t2 : Int32) (t3 : Int32) (h : xh_H) : xh_R Unit := (xh_sv h t0 0 t1 (t2 + t3)).bind fun h =>
  k29 a0 a1 a2 (a3 + (1 : Int32))  h
def f_X7_judge_b29 (N : Nat) (k29 : Option Nat → Int32 → Option Nat → Int32 → xh_H → xh_R Unit) (a0 : Option Nat) (a1 : Int32) (a2 : Option Nat) (a3 : Int32) (h : xh_H) : xh_R Unit := (xh_chk h a2 5).bind fun _ =>
  xh_cal (f_X5_end N a2 h) fun x31 h =>
  if x31 ≤ a3 then
  (f_X7_judge_b66 N a0 a1 a2  h)
  else (xh_gR h a0 7 1).bind fun x38 =>
  (xh_ld h x38 0 a1).bind fun x43 =>
  (xh_chk h a0 7).bind fun _ =>
  xh_cal (f_X7_matches N a0 a2 a3 h) fun x47 h =>
  if x47 = 0 then
  (f_X7_judge_b58 N k29 a0 a1 a2 a3 x38 a1 x43 (0 : Int32) h)
  else f_X7_judge_b58 N k29 a0 a1 a2 a3 x38 a1 x43 (1 : Int32) h
def f_X7_judge_l29 (N : Nat) : Nat → Option Nat → Int32 → Option Nat → Int32 → xh_H → xh_R Unit := xh_loop (fun _ _ _ _ _ => none) (fun k29 => f_X7_judge_b29 N k29)
def f_X7_judge (N : Nat) (a0 : Option Nat) (a1 : Int32) (h : xh_H) : xh_R Unit := (xh_gR h a0 7 0).bind fun x1 =>
  (xh_gR h x1 1 0).bind fun x4 =>
  (xh_chk h x4 8).bind fun _ =>
  xh_cal (f_J2_get N x4 a1 h) fun x8 h =>
  (xh_cc h x8 5).bind fun _ =>
  (xh_gR h a0 7 1).bind fun x18 =>
  (xh_sv h x18 0 a1 (0 : Int32)).bind fun h =>
  (xh_gI h x8 5 0).bind fun x25 =>
  f_X7_judge_l29 N N a0 a1 x8 x25  h
def f_X7_run_b29 (N : Nat) (a0 : Option Nat) (h : xh_H) : xh_R (Option Nat) := some (a0, h, 0, 0)
def f_X7_run_b7 (N : Nat) (k7 : Option Nat → Int32 → xh_H → xh_R (Option Nat)) (a0 : Option Nat) (a2 : Int32) (h : xh_H) : xh_R (Option Nat) := (xh_gR h a0 7 0).bind fun x9 =>
  (xh_chk h x9 1).bind fun _ =>
  xh_cal (f_X1_many N x9 h) fun x12 h =>
  if x12 ≤ a2 then
  (f_X7_run_b29 N a0  h)
  else (xh_chk h a0 7).bind fun _ =>
  xh_cal (f_X7_judge N a0 a2 h) fun _ h =>
  k7 a0 (a2 + (1 : Int32))  h
def f_X7_run_l7 (N : Nat) : Nat → Option Nat → Int32 → xh_H → xh_R (Option Nat) := xh_loop (fun _ _ _ => none) (fun k7 => f_X7_run_b7 N k7)
def f_X7_run (N : Nat) (a0 : Option Nat) (a1 : Option Nat) (h : xh_H) : xh_R (Option Nat) := (xh_pR h a0 7 6 a1).bind fun h =>
  f_X7_run_l7 N N a0 (0 : Int32)  h
def f_X0_judged (N : Nat) (a0 : Option Nat) (h : xh_H) : xh_R (Option Nat) := xh_new h 7 [.null, .null, .null, .null, .null, .null, .null] fun x0 h =>
  (xh_gR h a0 0 0).bind fun x5 =>
  (xh_chk h x0 7).bind fun _ =>
  xh_cal (f_X7_init N x0 x5 h) fun _ h =>
  (xh_gR h a0 0 0).bind fun x12 =>
  (xh_gR h x12 1 1).bind fun x15 =>
  (xh_chk h x0 7).bind fun _ =>
  xh_cal (f_X7_run N x0 x15 h) fun x18 h =>
  some (x18, h, 0, 0)
def f_X7_hits_b67 (N : Nat) (a2 : Int32) (h : xh_H) : xh_R Int32 := some (a2, h, 0, 0)
def f_X7_hits_b59 (N : Nat) (k4 : Option Nat → Int32 → Int32 → Int32 → xh_H → xh_R Int32) (a0 : Option Nat) (a1 : Int32) (a3 : Int32) (t0 : Int32) (t1 : Int32) (h : xh_H) : xh_R Int32 := k4 a0 a1 (t0 + t1) (a3 + (1 : Int32))  h
def f_X7_hits_b58 (N : Nat) (k4 : Option Nat → Int32 → Int32 → Int32 → xh_H → xh_R Int32) (a0 : Option Nat) (a1 : Int32) (a3 : Int32) (t0 : Int32) (h : xh_H) : xh_R Int32 := f_X7_hits_b59 N k4 a0 a1 a3 t0 (0 : Int32) h
def f_X7_hits_b54 (N : Nat) (k4 : Option Nat → Int32 → Int32 → Int32 → xh_H → xh_R Int32) (a0 : Option Nat) (a1 : Int32) (a3 : Int32) (t0 : Int32) (h : xh_H) : xh_R Int32 := f_X7_hits_b59 N k4 a0 a1 a3 t0 (1 : Int32) h
def f_X7_hits_b4 (N : Nat) (k4 : Option Nat → Int32 → Int32 → Int32 → xh_H → xh_R Int32) (a0 : Option Nat) (a1 : Int32) (a2 : Int32) (a3 : Int32) (h : xh_H) : xh_R Int32 := (xh_gR h a0 7 0).bind fun x6 =>
  (xh_chk h x6 1).bind fun _ =>
  xh_cal (f_X1_many N x6 h) fun x9 h =>
  if x9 ≤ a3 then
  (f_X7_hits_b67 N a2  h)
  else (xh_gR h a0 7 3).bind fun x17 =>
  (xh_ld h x17 0 a3).bind fun x21 =>
  if x21 = 0 then
  (if a1 = (-5 : Int32) then
  (f_X7_hits_b54 N k4 a0 a1 a3 a2 h)
  else (xh_gR h a0 7 0).bind fun x32 =>
  (xh_gR h x32 1 0).bind fun x35 =>
  (xh_chk h x35 8).bind fun _ =>
  xh_cal (f_J2_get N x35 a3 h) fun x39 h =>
  (xh_cc h x39 5).bind fun _ =>
  (xh_gI h x39 5 4).bind fun x47 =>
  if x47 = a1 then
  (f_X7_hits_b54 N k4 a0 a1 a3 a2 h)
  else f_X7_hits_b58 N k4 a0 a1 a3 a2 h)
  else f_X7_hits_b58 N k4 a0 a1 a3 a2 h
def f_X7_hits_l4 (N : Nat) : Nat → Option Nat → Int32 → Int32 → Int32 → xh_H → xh_R Int32 := xh_loop (fun _ _ _ _ _ => none) (fun k4 => f_X7_hits_b4 N k4)
def f_X7_hits (N : Nat) (a0 : Option Nat) (a1 : Int32) (h : xh_H) : xh_R Int32 := f_X7_hits_l4 N N a0 a1 (0 : Int32) (0 : Int32)  h
def f_X0_sing_b57 (N : Nat) (a0 : Option Nat) (a4 : Option Nat) (h : xh_H) : xh_R Int32 := (xh_chk h a0 0).bind fun _ =>
  xh_cal (f_X0_judged N a0 h) fun x61 h =>
  (xh_chk h x61 7).bind fun _ =>
  xh_cal (f_X7_hits N x61 (-5 : Int32) h) fun x66 h =>
  (xh_chk h a0 0).bind fun _ =>
  xh_cal (f_X0_changed N a0 a4 x66 h) fun x69 h =>
  some (x69, h, 0, 0)
def f_X0_sing_b32 (N : Nat) (k32 : Option Nat → Int32 → Int32 → Int32 → Option Nat → Int32 → xh_H → xh_R Int32) (a0 : Option Nat) (a1 : Int32) (a2 : Int32) (a3 : Int32) (a4 : Option Nat) (a5 : Int32) (h : xh_H) : xh_R Int32 := if (a1 + a2) ≤ a5 then
  (f_X0_sing_b57 N a0 a4  h)
  else (xh_gR h a0 0 0).bind fun x41 =>
  (xh_gR h x41 1 1).bind fun x44 =>
  (xh_sv h x44 0 a5 a3).bind fun h =>
  k32 a0 a1 a2 a3 a4 (a5 + (1 : Int32))  h
def f_X0_sing_l32 (N : Nat) : Nat → Option Nat → Int32 → Int32 → Int32 → Option Nat → Int32 → xh_H → xh_R Int32 := xh_loop (fun _ _ _ _ _ _ _ => none) (fun k32 => f_X0_sing_b32 N k32)
def f_X0_sing_b17 (N : Nat) (h : xh_H) : xh_R Int32 := some ((-2 : Int32), h, 0, 0)
def f_X0_sing (N : Nat) (a0 : Option Nat) (a1 : Int32) (a2 : Int32) (a3 : Int32) (h : xh_H) : xh_R Int32 := xh_cal (f_X0_areTicks N a1 a2 (64 : Int32) h) fun x4 h =>
  if x4 = 0 then
  (f_X0_sing_b17 N  h)
  else xh_cal (f_X0_isPitch N a3 h) fun x11 h =>
  if x11 = 0 then
  (f_X0_sing_b17 N  h)
  else (xh_gR h a0 0 0).bind fun x21 =>
  (xh_chk h x21 1).bind fun _ =>
  xh_cal (f_X1_copy N x21 h) fun x24 h =>
  f_X0_sing_l32 N N a0 a1 a2 a3 x24 a1  h
def f_X0_silence_b77 (N : Nat) (a0 : Option Nat) (a3 : Option Nat) (a4 : Int32) (h : xh_H) : xh_R Int32 := (xh_chk h a0 0).bind fun _ =>
  xh_cal (f_X0_changed N a0 a3 a4 h) fun x81 h =>
  some (x81, h, 0, 0)
def f_X0_silence_b57 (N : Nat) (k28 : Option Nat → Int32 → Int32 → Option Nat → Int32 → Int32 → xh_H → xh_R Int32) (a0 : Option Nat) (a1 : Int32) (a2 : Int32) (a3 : Option Nat) (a5 : Int32) (t0 : Int32) (t1 : Int32) (h : xh_H) : xh_R Int32 := (xh_gR h a0 0 0).bind fun x61 =>
  (xh_gR h x61 1 1).bind fun x64 =>
  (xh_sv h x64 0 a5 (-1 : Int32)).bind fun h =>
  k28 a0 a1 a2 a3 (t0 + t1) (a5 + (1 : Int32))  h
def f_X0_silence_b28 (N : Nat) (k28 : Option Nat → Int32 → Int32 → Option Nat → Int32 → Int32 → xh_H → xh_R Int32) (a0 : Option Nat) (a1 : Int32) (a2 : Int32) (a3 : Option Nat) (a4 : Int32) (a5 : Int32) (h : xh_H) : xh_R Int32 := if (a1 + a2) ≤ a5 then
  (f_X0_silence_b77 N a0 a3 a4  h)
  else (xh_gR h a0 0 0).bind fun x39 =>
  (xh_gR h x39 1 1).bind fun x42 =>
  (xh_ld h x42 0 a5).bind fun x47 =>
  if x47 = (-1 : Int32) then
  (f_X0_silence_b57 N k28 a0 a1 a2 a3 a5 a4 (0 : Int32) h)
  else f_X0_silence_b57 N k28 a0 a1 a2 a3 a5 a4 (1 : Int32) h
def f_X0_silence_l28 (N : Nat) : Nat → Option Nat → Int32 → Int32 → Option Nat → Int32 → Int32 → xh_H → xh_R Int32 := xh_loop (fun _ _ _ _ _ _ _ => none) (fun k28 => f_X0_silence_b28 N k28)
def f_X0_silence (N : Nat) (a0 : Option Nat) (a1 : Int32) (a2 : Int32) (h : xh_H) : xh_R Int32 := xh_cal (f_X0_areTicks N a1 a2 (600 : Int32) h) fun x5 h =>
  if x5 = 0 then
  (some ((-2 : Int32), h, 0, 0))
  else (xh_gR h a0 0 0).bind fun x15 =>
  (xh_chk h x15 1).bind fun _ =>
  xh_cal (f_X1_copy N x15 h) fun x18 h =>
  f_X0_silence_l28 N N a0 a1 a2 x18 (0 : Int32) a1  h
def f_X0_isSyllable (N : Nat) (a0 : Option Nat) (a1 : Int32) (h : xh_H) : xh_R Int32 := (xh_gR h a0 0 0).bind fun x3 =>
  (xh_chk h x3 1).bind fun _ =>
  xh_cal (f_X1_many N x3 h) fun x6 h =>
  xh_cal (f_X0_isBetween N a1 (0 : Int32) (x6 - (1 : Int32)) h) fun x11 h =>
  if x11 = 0 ∨ x11 = 1 then some (x11, h, 0, 0) else none
def f_X0_singAlong_b138 (N : Nat) (a0 : Option Nat) (a4 : Option Nat) (h : xh_H) : xh_R Int32 := (xh_chk h a0 0).bind fun _ =>
  xh_cal (f_X0_judged N a0 h) fun x142 h =>
  (xh_chk h x142 7).bind fun _ =>
  xh_cal (f_X7_hits N x142 (-5 : Int32) h) fun x147 h =>
  (xh_chk h a0 0).bind fun _ =>
  xh_cal (f_X0_changed N a0 a4 x147 h) fun x150 h =>
  some (x150, h, 0, 0)
def f_X0_singAlong_b132 (N : Nat) (k49 : Option Nat → Int32 → Int32 → Option Nat → Int32 → xh_H → xh_R Int32) (a0 : Option Nat) (a2 : Int32) (a3 : Int32) (a4 : Option Nat) (a5 : Int32) (h : xh_H) : xh_R Int32 := k49 a0 a2 a3 a4 (a5 + (1 : Int32))  h
def f_X0_singAlong_b125 (N : Nat) (k81 : Option Nat → Int32 → Int32 → Option Nat → Int32 → Option Nat → Int32 → xh_H → xh_R Int32) (a0 : Option Nat) (a2 : Int32) (a3 : Int32) (a4 : Option Nat) (a5 : Int32) (a6 : Option Nat) (a7 : Int32) (t0 : Option Nat) (t1 : Int32) (t2 : Int32) (h : xh_H) : xh_R Int32 := (xh_sv h t0 0 t1 t2).bind fun h =>
  k81 a0 a2 a3 a4 a5 a6 (a7 + (1 : Int32))  h
def f_X0_singAlong_b81 (N : Nat) (k49 : Option Nat → Int32 → Int32 → Option Nat → Int32 → xh_H → xh_R Int32) (k81 : Option Nat → Int32 → Int32 → Option Nat → Int32 → Option Nat → Int32 → xh_H → xh_R Int32) (a0 : Option Nat) (a2 : Int32) (a3 : Int32) (a4 : Option Nat) (a5 : Int32) (a6 : Option Nat) (a7 : Int32) (h : xh_H) : xh_R Int32 := (xh_chk h a6 5).bind fun _ =>
  xh_cal (f_X5_end N a6 h) fun x85 h =>
  if x85 ≤ a7 then
  (f_X0_singAlong_b132 N k49 a0 a2 a3 a4 a5  h)
  else (xh_chk h a6 5).bind fun _ =>
  xh_cal (f_X5_wanted N a6 a7 h) fun x95 h =>
  (xh_gR h a0 0 0).bind fun x103 =>
  (xh_gR h x103 1 1).bind fun x106 =>
  xh_cal (f_X0_isPitch N (x95 + a3) h) fun x113 h =>
  if x113 = 0 then
  (f_X0_singAlong_b125 N k81 a0 a2 a3 a4 a5 a6 a7 x106 a7 (-1 : Int32) h)
  else f_X0_singAlong_b125 N k81 a0 a2 a3 a4 a5 a6 a7 x106 a7 (x95 + a3) h
def f_X0_singAlong_l81 (N : Nat) (k49 : Option Nat → Int32 → Int32 → Option Nat → Int32 → xh_H → xh_R Int32) : Nat → Option Nat → Int32 → Int32 → Option Nat → Int32 → Option Nat → Int32 → xh_H → xh_R Int32 := xh_loop (fun _ _ _ _ _ _ _ _ => none) (fun k81 => f_X0_singAlong_b81 N k49 k81)
def f_X0_singAlong_b49 (N : Nat) (k49 : Option Nat → Int32 → Int32 → Option Nat → Int32 → xh_H → xh_R Int32) (a0 : Option Nat) (a2 : Int32) (a3 : Int32) (a4 : Option Nat) (a5 : Int32) (h : xh_H) : xh_R Int32 := if a2 < a5 then
  (f_X0_singAlong_b138 N a0 a4  h)
  else (xh_gR h a0 0 0).bind fun x56 =>
  (xh_gR h x56 1 0).bind fun x59 =>
  (xh_chk h x59 8).bind fun _ =>
  xh_cal (f_J2_get N x59 a5 h) fun x64 h =>
  (xh_cc h x64 5).bind fun _ =>
  (xh_gI h x64 5 0).bind fun x76 =>
  f_X0_singAlong_l81 N k49 N a0 a2 a3 a4 a5 x64 x76  h
def f_X0_singAlong_l49 (N : Nat) : Nat → Option Nat → Int32 → Int32 → Option Nat → Int32 → xh_H → xh_R Int32 := xh_loop (fun _ _ _ _ _ _ => none) (fun k49 => f_X0_singAlong_b49 N k49)
def f_X0_singAlong_b34 (N : Nat) (h : xh_H) : xh_R Int32 := some ((-2 : Int32), h, 0, 0)
def f_X0_singAlong_b16 (N : Nat) (h : xh_H) : xh_R Int32 := some ((-1 : Int32), h, 0, 0)
def f_X0_singAlong (N : Nat) (a0 : Option Nat) (a1 : Int32) (a2 : Int32) (a3 : Int32) (h : xh_H) : xh_R Int32 := (xh_chk h a0 0).bind fun _ =>
  xh_cal (f_X0_isSyllable N a0 a1 h) fun x2 h =>
  if x2 = 0 then
  (f_X0_singAlong_b16 N  h)
  else (xh_chk h a0 0).bind fun _ =>
  xh_cal (f_X0_isSyllable N a0 a2 h) fun x10 h =>
  if x10 = 0 then
  (f_X0_singAlong_b16 N  h)
  else if a2 < a1 then
  (f_X0_singAlong_b34 N  h)
  else xh_cal (f_X0_isBetween N a3 (-60 : Int32) (60 : Int32) h) fun x28 h =>
  if x28 = 0 then
  (f_X0_singAlong_b34 N  h)
  else (xh_gR h a0 0 0).bind fun x38 =>
  (xh_chk h x38 1).bind fun _ =>
  xh_cal (f_X1_copy N x38 h) fun x41 h =>
  f_X0_singAlong_l49 N N a0 a2 a3 x41 a1  h
def f_X0_type (N : Nat) (a0 : Option Nat) (a1 : Int32) (h : xh_H) : xh_R Int32 := (xh_gI h a0 0 4).bind fun x1 =>
  if x1 = (60 : Int32) then
  (some ((-3 : Int32), h, 0, 0))
  else (xh_gR h a0 0 3).bind fun x13 =>
  (xh_gI h a0 0 4).bind fun x17 =>
  (xh_sv h x13 1 x17 (vp_nar .char a1)).bind fun h =>
  (xh_gI h a0 0 4).bind fun x24 =>
  (xh_pI h a0 0 4 (x24 + (1 : Int32))).bind fun h =>
  (xh_gI h a0 0 4).bind fun x33 =>
  some (x33, h, 0, 0)
def f_X0_clearText (N : Nat) (a0 : Option Nat) (h : xh_H) : xh_R Int32 := (xh_gI h a0 0 4).bind fun x1 =>
  (xh_pI h a0 0 4 (0 : Int32)).bind fun h =>
  some (x1, h, 0, 0)
def f_X0_undo (N : Nat) (a0 : Option Nat) (h : xh_H) : xh_R Int32 := (xh_gR h a0 0 1).bind fun x1 =>
  (xh_chk h x1 8).bind fun _ =>
  xh_cal (f_J2_isEmpty N x1 h) fun x4 h =>
  if x4 = 0 then
  ((xh_gR h a0 0 1).bind fun x17 =>
  (xh_gR h a0 0 1).bind fun x21 =>
  (xh_chk h x21 8).bind fun _ =>
  xh_cal (f_J2_size N x21 h) fun x24 h =>
  (xh_chk h x17 8).bind fun _ =>
  xh_cal (f_J2_remove N x17 (x24 - (1 : Int32)) h) fun x31 h =>
  (xh_cc h x31 1).bind fun _ =>
  (xh_pR h a0 0 0 x31).bind fun h =>
  (xh_gR h a0 0 1).bind fun x43 =>
  (xh_chk h x43 8).bind fun _ =>
  xh_cal (f_J2_size N x43 h) fun x46 h =>
  some (x46, h, 0, 0))
  else some ((-5 : Int32), h, 0, 0)
def f_X0_keep (N : Nat) (a0 : Option Nat) (h : xh_H) : xh_R Int32 := (xh_gR h a0 0 0).bind fun x2 =>
  (xh_chk h x2 1).bind fun _ =>
  xh_cal (f_X1_copy N x2 h) fun x5 h =>
  (xh_pR h a0 0 2 x5).bind fun h =>
  (xh_gR h a0 0 0).bind fun x12 =>
  (xh_chk h x12 1).bind fun _ =>
  xh_cal (f_X1_many N x12 h) fun x15 h =>
  some (x15, h, 0, 0)
def f_X0_restore (N : Nat) (a0 : Option Nat) (h : xh_H) : xh_R Int32 := (xh_gR h a0 0 2).bind fun x1 =>
  if x1 = none then
  (some ((-5 : Int32), h, 0, 0))
  else (xh_gR h a0 0 0).bind fun x11 =>
  (xh_gR h a0 0 2).bind fun x17 =>
  (xh_chk h x17 1).bind fun _ =>
  xh_cal (f_X1_copy N x17 h) fun x20 h =>
  (xh_pR h a0 0 0 x20).bind fun h =>
  (xh_gR h a0 0 0).bind fun x29 =>
  (xh_chk h x29 1).bind fun _ =>
  xh_cal (f_X1_many N x29 h) fun x32 h =>
  (xh_chk h a0 0).bind fun _ =>
  xh_cal (f_X0_changed N a0 x11 x32 h) fun x35 h =>
  some (x35, h, 0, 0)
def f_X0_ofJudge (N : Nat) (a0 : Option Nat) (a1 : Option Nat) (a2 : Int32) (a3 : Int32) (h : xh_H) : xh_R Int32 := if a3 = 5 then
  ((xh_gR h a0 0 0).bind fun x46 =>
  (xh_gR h x46 1 0).bind fun x49 =>
  (xh_chk h x49 8).bind fun _ =>
  xh_cal (f_J2_get N x49 a2 h) fun x53 h =>
  (xh_cc h x53 5).bind fun _ =>
  (xh_chk h a1 7).bind fun _ =>
  xh_cal (f_X7_bars N a1 x53 (0 : Int32) h) fun x62 h =>
  some (x62, h, 0, 0))
  else if a3 = 6 then
  ((xh_gR h a1 7 1).bind fun x67 =>
  (xh_ld h x67 0 a2).bind fun x71 =>
  some (x71, h, 0, 0))
  else if a3 = 7 then
  ((xh_chk h a1 7).bind fun _ =>
  xh_cal (f_X7_share N a1 a2 h) fun x75 h =>
  some (x75, h, 0, 0))
  else if a3 = 8 then
  ((xh_gR h a1 7 2).bind fun x80 =>
  (xh_ld h x80 0 a2).bind fun x84 =>
  some (x84, h, 0, 0))
  else if a3 = 9 then
  ((xh_gR h a1 7 3).bind fun x87 =>
  (xh_ld h x87 0 a2).bind fun x91 =>
  some (x91, h, 0, 0))
  else if a3 = 10 then
  ((xh_gR h a1 7 5).bind fun x94 =>
  (xh_ld h x94 0 a2).bind fun x98 =>
  some (x98, h, 0, 0))
  else if a3 = 11 then
  ((xh_gR h a1 7 4).bind fun x101 =>
  (xh_ld h x101 0 a2).bind fun x105 =>
  some (x105, h, 0, 0))
  else some ((-2 : Int32), h, 0, 0)
def f_X0_syllable (N : Nat) (a0 : Option Nat) (a1 : Int32) (a2 : Int32) (h : xh_H) : xh_R Int32 := (xh_chk h a0 0).bind fun _ =>
  xh_cal (f_X0_isSyllable N a0 a1 h) fun x2 h =>
  if x2 = 0 then
  (some ((-1 : Int32), h, 0, 0))
  else (xh_gR h a0 0 0).bind fun x11 =>
  (xh_gR h x11 1 0).bind fun x14 =>
  (xh_chk h x14 8).bind fun _ =>
  xh_cal (f_J2_get N x14 a1 h) fun x18 h =>
  (xh_cc h x18 5).bind fun _ =>
  if a2 = 0 then
  ((xh_gI h x18 5 0).bind fun x65 =>
  some (x65, h, 0, 0))
  else if a2 = 1 then
  ((xh_gI h x18 5 1).bind fun x70 =>
  some (x70, h, 0, 0))
  else if a2 = 2 then
  ((xh_gI h x18 5 2).bind fun x75 =>
  some (x75, h, 0, 0))
  else if a2 = 3 then
  ((xh_gI h x18 5 3).bind fun x80 =>
  some (x80, h, 0, 0))
  else if a2 = 4 then
  ((xh_gI h x18 5 4).bind fun x85 =>
  some (x85, h, 0, 0))
  else (xh_chk h a0 0).bind fun _ =>
  xh_cal (f_X0_judged N a0 h) fun x91 h =>
  (xh_chk h a0 0).bind fun _ =>
  xh_cal (f_X0_ofJudge N a0 x91 a1 a2 h) fun x96 h =>
  some (x96, h, 0, 0)
def f_X1_at_b51 (N : Nat) (h : xh_H) : xh_R (Option Nat) := some (none, h, 0, 0)
def f_X1_at_b46 (N : Nat) (a3 : Option Nat) (h : xh_H) : xh_R (Option Nat) := some (a3, h, 0, 0)
def f_X1_at_b10 (N : Nat) (k10 : Int32 → Option Nat → xh_H → xh_R (Option Nat)) (a1 : Int32) (a2 : Option Nat) (h : xh_H) : xh_R (Option Nat) := (xh_chk h a2 9).bind fun _ =>
  xh_cal (f_J3_hasNext N a2 h) fun x11 h =>
  if x11 = 0 then
  (f_X1_at_b51 N  h)
  else (xh_chk h a2 9).bind fun _ =>
  xh_cal (f_J3_next N a2 h) fun x20 h =>
  (xh_cc h x20 5).bind fun _ =>
  (xh_gI h x20 5 0).bind fun x31 =>
  (xh_chk h x20 5).bind fun _ =>
  xh_cal (f_X5_end N x20 h) fun x35 h =>
  xh_cal (f_X0_isBetween N a1 x31 (x35 - (1 : Int32)) h) fun x40 h =>
  if x40 = 0 then
  (k10 a1 a2  h)
  else f_X1_at_b46 N x20  h
def f_X1_at_l10 (N : Nat) : Nat → Int32 → Option Nat → xh_H → xh_R (Option Nat) := xh_loop (fun _ _ _ => none) (fun k10 => f_X1_at_b10 N k10)
def f_X1_at (N : Nat) (a0 : Option Nat) (a1 : Int32) (h : xh_H) : xh_R (Option Nat) := (xh_gR h a0 1 0).bind fun x1 =>
  (xh_chk h x1 8).bind fun _ =>
  xh_cal (f_J2_iterator N x1 h) fun x4 h =>
  f_X1_at_l10 N N a1 x4  h
def f_X0_wanted (N : Nat) (a0 : Option Nat) (a1 : Int32) (h : xh_H) : xh_R Int32 := xh_cal (f_X0_isTick N a1 h) fun x1 h =>
  if x1 = 0 then
  (some ((-2 : Int32), h, 0, 0))
  else (xh_gR h a0 0 0).bind fun x11 =>
  (xh_chk h x11 1).bind fun _ =>
  xh_cal (f_X1_at N x11 a1 h) fun x15 h =>
  if x15 = none then
  (some ((-5 : Int32), h, 0, 0))
  else (xh_chk h x15 5).bind fun _ =>
  xh_cal (f_X5_wanted N x15 a1 h) fun x30 h =>
  some (x30, h, 0, 0)
def f_X0_sung (N : Nat) (a0 : Option Nat) (a1 : Int32) (h : xh_H) : xh_R Int32 := xh_cal (f_X0_isTick N a1 h) fun x1 h =>
  if x1 = 0 then
  (some ((-2 : Int32), h, 0, 0))
  else (xh_gR h a0 0 0).bind fun x11 =>
  (xh_gR h x11 1 1).bind fun x14 =>
  (xh_ld h x14 0 a1).bind fun x18 =>
  if x18 = (-1 : Int32) then
  (some ((-5 : Int32), h, 0, 0))
  else (xh_gR h a0 0 0).bind fun x29 =>
  (xh_gR h x29 1 1).bind fun x32 =>
  (xh_ld h x32 0 a1).bind fun x36 =>
  some (x36, h, 0, 0)
def f_X0_lit (N : Nat) (a0 : Option Nat) (a1 : Int32) (a2 : Int32) (h : xh_H) : xh_R Int32 := (xh_chk h a0 0).bind fun _ =>
  xh_cal (f_X0_isSyllable N a0 a1 h) fun x2 h =>
  if x2 = 0 then
  (some ((-1 : Int32), h, 0, 0))
  else xh_cal (f_X0_isTick N a2 h) fun x11 h =>
  if x11 = 0 then
  (some ((-2 : Int32), h, 0, 0))
  else (xh_gR h a0 0 0).bind fun x21 =>
  (xh_gR h x21 1 0).bind fun x24 =>
  (xh_chk h x24 8).bind fun _ =>
  xh_cal (f_J2_get N x24 a1 h) fun x28 h =>
  (xh_cc h x28 5).bind fun _ =>
  (xh_gI h x28 5 1).bind fun x39 =>
  (xh_gI h x28 5 0).bind fun x44 =>
  some ((xh_mx (0 : Int32) (xh_mn x39 ((a2 - x44) + (1 : Int32)))), h, 0, 0)
def f_X7_first_b31 (N : Nat) (a2 : Int32) (h : xh_H) : xh_R Int32 := some (a2, h, 0, 0)
def f_X7_first_b2 (N : Nat) (k2 : Option Nat → Int32 → Int32 → xh_H → xh_R Int32) (a0 : Option Nat) (a1 : Int32) (a2 : Int32) (h : xh_H) : xh_R Int32 := (xh_gR h a0 7 0).bind fun x3 =>
  (xh_gR h x3 1 0).bind fun x6 =>
  (xh_chk h x6 8).bind fun _ =>
  xh_cal (f_J2_get N x6 a2 h) fun x10 h =>
  (xh_cc h x10 5).bind fun _ =>
  (xh_gI h x10 5 4).bind fun x18 =>
  if a1 ≤ x18 then
  (f_X7_first_b31 N a2  h)
  else k2 a0 a1 (a2 + (1 : Int32))  h
def f_X7_first_l2 (N : Nat) : Nat → Option Nat → Int32 → Int32 → xh_H → xh_R Int32 := xh_loop (fun _ _ _ _ => none) (fun k2 => f_X7_first_b2 N k2)
def f_X7_first (N : Nat) (a0 : Option Nat) (a1 : Int32) (h : xh_H) : xh_R Int32 := f_X7_first_l2 N N a0 a1 (0 : Int32)  h
def f_X7_longestRow_b85 (N : Nat) (a2 : Int32) (h : xh_H) : xh_R Int32 := some (a2, h, 0, 0)
def f_X7_longestRow_b72 (N : Nat) (k7 : Option Nat → Int32 → Int32 → Int32 → Int32 → xh_H → xh_R Int32) (a0 : Option Nat) (a1 : Int32) (a2 : Int32) (a4 : Int32) (t0 : Int32) (h : xh_H) : xh_R Int32 := k7 a0 a1 (xh_mx a2 t0) t0 (a4 + (1 : Int32))  h
def f_X7_longestRow_b58 (N : Nat) (k7 : Option Nat → Int32 → Int32 → Int32 → Int32 → xh_H → xh_R Int32) (a0 : Option Nat) (a1 : Int32) (a2 : Int32) (a3 : Int32) (a4 : Int32) (t0 : Int32) (h : xh_H) : xh_R Int32 := if t0 = 0 then
  (f_X7_longestRow_b72 N k7 a0 a1 a2 a4 (0 : Int32) h)
  else f_X7_longestRow_b72 N k7 a0 a1 a2 a4 (a3 + (1 : Int32)) h
def f_X7_longestRow_b57 (N : Nat) (k7 : Option Nat → Int32 → Int32 → Int32 → Int32 → xh_H → xh_R Int32) (a0 : Option Nat) (a1 : Int32) (a2 : Int32) (a3 : Int32) (a4 : Int32) (h : xh_H) : xh_R Int32 := f_X7_longestRow_b58 N k7 a0 a1 a2 a3 a4 (0 : Int32) h
def f_X7_longestRow_b7 (N : Nat) (k7 : Option Nat → Int32 → Int32 → Int32 → Int32 → xh_H → xh_R Int32) (a0 : Option Nat) (a1 : Int32) (a2 : Int32) (a3 : Int32) (a4 : Int32) (h : xh_H) : xh_R Int32 := (xh_gR h a0 7 0).bind fun x10 =>
  (xh_chk h x10 1).bind fun _ =>
  xh_cal (f_X1_many N x10 h) fun x13 h =>
  if x13 ≤ a4 then
  (f_X7_longestRow_b85 N a2  h)
  else (xh_gR h a0 7 0).bind fun x20 =>
  (xh_gR h x20 1 0).bind fun x23 =>
  (xh_chk h x23 8).bind fun _ =>
  xh_cal (f_J2_get N x23 a4 h) fun x28 h =>
  (xh_cc h x28 5).bind fun _ =>
  (xh_gI h x28 5 4).bind fun x36 =>
  if x36 = a1 then
  ((xh_gR h a0 7 3).bind fun x44 =>
  (xh_ld h x44 0 a4).bind fun x49 =>
  if x49 = 0 then
  (f_X7_longestRow_b58 N k7 a0 a1 a2 a3 a4 (1 : Int32) h)
  else f_X7_longestRow_b57 N k7 a0 a1 a2 a3 a4  h)
  else f_X7_longestRow_b57 N k7 a0 a1 a2 a3 a4  h
def f_X7_longestRow_l7 (N : Nat) : Nat → Option Nat → Int32 → Int32 → Int32 → Int32 → xh_H → xh_R Int32 := xh_loop (fun _ _ _ _ _ _ => none) (fun k7 => f_X7_longestRow_b7 N k7)
def f_X7_longestRow (N : Nat) (a0 : Option Nat) (a1 : Int32) (h : xh_H) : xh_R Int32 := f_X7_longestRow_l7 N N a0 a1 (0 : Int32) (0 : Int32) (0 : Int32)  h
def f_X7_many_b55 (N : Nat) (a2 : Int32) (h : xh_H) : xh_R Int32 := some (a2, h, 0, 0)
def f_X7_many_b50 (N : Nat) (k15 : Int32 → Int32 → Option Nat → xh_H → xh_R Int32) (a1 : Int32) (a3 : Option Nat) (t0 : Int32) (t1 : Int32) (h : xh_H) : xh_R Int32 := k15 a1 (t0 + t1) a3  h
def f_X7_many_b15 (N : Nat) (k15 : Int32 → Int32 → Option Nat → xh_H → xh_R Int32) (a1 : Int32) (a2 : Int32) (a3 : Option Nat) (h : xh_H) : xh_R Int32 := (xh_chk h a3 9).bind fun _ =>
  xh_cal (f_J3_hasNext N a3 h) fun x16 h =>
  if x16 = 0 then
  (f_X7_many_b55 N a2  h)
  else (xh_chk h a3 9).bind fun _ =>
  xh_cal (f_J3_next N a3 h) fun x25 h =>
  (xh_cc h x25 5).bind fun _ =>
  (xh_gI h x25 5 4).bind fun x38 =>
  if x38 = a1 then
  (f_X7_many_b50 N k15 a1 a3 a2 (1 : Int32) h)
  else f_X7_many_b50 N k15 a1 a3 a2 (0 : Int32) h
def f_X7_many_l15 (N : Nat) : Nat → Int32 → Int32 → Option Nat → xh_H → xh_R Int32 := xh_loop (fun _ _ _ _ => none) (fun k15 => f_X7_many_b15 N k15)
def f_X7_many (N : Nat) (a0 : Option Nat) (a1 : Int32) (h : xh_H) : xh_R Int32 := (xh_gR h a0 7 0).bind fun x3 =>
  (xh_gR h x3 1 0).bind fun x6 =>
  (xh_chk h x6 8).bind fun _ =>
  xh_cal (f_J2_iterator N x6 h) fun x9 h =>
  f_X7_many_l15 N N a1 (0 : Int32) x9  h
def f_X7_pointsOf_b86 (N : Nat) (t0 : Int32) (t1 : Int32) (h : xh_H) : xh_R Int32 := some ((t0 + t1), h, 0, 0)
def f_X7_pointsOf_b85 (N : Nat) (t0 : Int32) (h : xh_H) : xh_R Int32 := f_X7_pointsOf_b86 N t0 (0 : Int32) h
def f_X7_pointsOf_b57 (N : Nat) (a0 : Option Nat) (a1 : Int32) (a2 : Int32) (h : xh_H) : xh_R Int32 := (xh_chk h a0 7).bind fun _ =>
  xh_cal (f_X7_many N a0 a1 h) fun x60 h =>
  if x60 < (2 : Int32) then
  (f_X7_pointsOf_b85 N a2 h)
  else (xh_chk h a0 7).bind fun _ =>
  xh_cal (f_X7_hits N a0 a1 h) fun x69 h =>
  (xh_chk h a0 7).bind fun _ =>
  xh_cal (f_X7_many N a0 a1 h) fun x74 h =>
  if x69 = x74 then
  (f_X7_pointsOf_b86 N a2 (50 : Int32) h)
  else f_X7_pointsOf_b85 N a2 h
def f_X7_pointsOf_b49 (N : Nat) (k4 : Option Nat → Int32 → Int32 → Int32 → xh_H → xh_R Int32) (a0 : Option Nat) (a1 : Int32) (a3 : Int32) (t0 : Int32) (t1 : Int32) (h : xh_H) : xh_R Int32 := k4 a0 a1 (t0 + t1) (a3 + (1 : Int32))  h
def f_X7_pointsOf_b4 (N : Nat) (k4 : Option Nat → Int32 → Int32 → Int32 → xh_H → xh_R Int32) (a0 : Option Nat) (a1 : Int32) (a2 : Int32) (a3 : Int32) (h : xh_H) : xh_R Int32 := (xh_gR h a0 7 0).bind fun x6 =>
  (xh_chk h x6 1).bind fun _ =>
  xh_cal (f_X1_many N x6 h) fun x9 h =>
  if x9 ≤ a3 then
  (f_X7_pointsOf_b57 N a0 a1 a2  h)
  else (xh_gR h a0 7 0).bind fun x17 =>
  (xh_gR h x17 1 0).bind fun x20 =>
  (xh_chk h x20 8).bind fun _ =>
  xh_cal (f_J2_get N x20 a3 h) fun x24 h =>
  (xh_cc h x24 5).bind fun _ =>
  (xh_gI h x24 5 4).bind fun x32 =>
  if x32 = a1 then
  ((xh_gR h a0 7 5).bind fun x40 =>
  (xh_ld h x40 0 a3).bind fun x44 =>
  f_X7_pointsOf_b49 N k4 a0 a1 a3 a2 x44 h)
  else f_X7_pointsOf_b49 N k4 a0 a1 a3 a2 (0 : Int32) h
def f_X7_pointsOf_l4 (N : Nat) : Nat → Option Nat → Int32 → Int32 → Int32 → xh_H → xh_R Int32 := xh_loop (fun _ _ _ _ _ => none) (fun k4 => f_X7_pointsOf_b4 N k4)
def f_X7_pointsOf (N : Nat) (a0 : Option Nat) (a1 : Int32) (h : xh_H) : xh_R Int32 := f_X7_pointsOf_l4 N N a0 a1 (0 : Int32) (0 : Int32)  h
def f_X0_phrase (N : Nat) (a0 : Option Nat) (a1 : Int32) (a2 : Int32) (h : xh_H) : xh_R Int32 := (xh_gR h a0 0 0).bind fun x3 =>
  (xh_chk h x3 1).bind fun _ =>
  xh_cal (f_X1_phrases N x3 h) fun x6 h =>
  xh_cal (f_X0_isBetween N a1 (0 : Int32) (x6 - (1 : Int32)) h) fun x11 h =>
  if x11 = 0 then
  (some ((-1 : Int32), h, 0, 0))
  else (xh_chk h a0 0).bind fun _ =>
  xh_cal (f_X0_judged N a0 h) fun x20 h =>
  if a2 = 0 then
  ((xh_chk h x20 7).bind fun _ =>
  xh_cal (f_X7_first N x20 a1 h) fun x62 h =>
  some (x62, h, 0, 0))
  else if a2 = 1 then
  ((xh_chk h x20 7).bind fun _ =>
  xh_cal (f_X7_many N x20 a1 h) fun x68 h =>
  some (x68, h, 0, 0))
  else if a2 = 2 then
  ((xh_chk h x20 7).bind fun _ =>
  xh_cal (f_X7_hits N x20 a1 h) fun x74 h =>
  some (x74, h, 0, 0))
  else if a2 = 3 then
  ((xh_chk h x20 7).bind fun _ =>
  xh_cal (f_X7_pointsOf N x20 a1 h) fun x80 h =>
  some (x80, h, 0, 0))
  else if a2 = 4 then
  ((xh_chk h x20 7).bind fun _ =>
  xh_cal (f_X7_longestRow N x20 a1 h) fun x86 h =>
  some (x86, h, 0, 0))
  else some ((-2 : Int32), h, 0, 0)
def f_X0_sungTicks_b67 (N : Nat) (a3 : Int32) (h : xh_H) : xh_R Int32 := some (a3, h, 0, 0)
def f_X0_sungTicks_b59 (N : Nat) (k10 : Option Nat → Int32 → Option Nat → Int32 → Int32 → xh_H → xh_R Int32) (a0 : Option Nat) (a1 : Int32) (a2 : Option Nat) (a4 : Int32) (t0 : Int32) (t1 : Int32) (h : xh_H) : xh_R Int32 := k10 a0 a1 a2 (t0 + t1) (a4 + (1 : Int32))  h
def f_X0_sungTicks_b10 (N : Nat) (k10 : Option Nat → Int32 → Option Nat → Int32 → Int32 → xh_H → xh_R Int32) (a0 : Option Nat) (a1 : Int32) (a2 : Option Nat) (a3 : Int32) (a4 : Int32) (h : xh_H) : xh_R Int32 := if (600 : Int32) ≤ a4 then
  (f_X0_sungTicks_b67 N a3  h)
  else if a1 = 0 then
  ((xh_gR h a0 0 0).bind fun x41 =>
  (xh_gR h x41 1 1).bind fun x44 =>
  (xh_ld h x44 0 a4).bind fun x49 =>
  if x49 = (-1 : Int32) then
  (f_X0_sungTicks_b59 N k10 a0 a1 a2 a4 a3 (0 : Int32) h)
  else f_X0_sungTicks_b59 N k10 a0 a1 a2 a4 a3 (1 : Int32) h)
  else (xh_chk h a2 7).bind fun _ =>
  xh_cal (f_X7_isOnset N a2 a4 h) fun x26 h =>
  if x26 = 0 then
  (f_X0_sungTicks_b59 N k10 a0 a1 a2 a4 a3 (0 : Int32) h)
  else f_X0_sungTicks_b59 N k10 a0 a1 a2 a4 a3 (1 : Int32) h
def f_X0_sungTicks_l10 (N : Nat) : Nat → Option Nat → Int32 → Option Nat → Int32 → Int32 → xh_H → xh_R Int32 := xh_loop (fun _ _ _ _ _ _ => none) (fun k10 => f_X0_sungTicks_b10 N k10)
def f_X0_sungTicks (N : Nat) (a0 : Option Nat) (a1 : Int32) (h : xh_H) : xh_R Int32 := (xh_chk h a0 0).bind fun _ =>
  xh_cal (f_X0_judged N a0 h) fun x1 h =>
  f_X0_sungTicks_l10 N N a0 a1 x1 (0 : Int32) (0 : Int32)  h
def f_X7_all_b29 (N : Nat) (a1 : Int32) (h : xh_H) : xh_R Int32 := some (a1, h, 0, 0)
def f_X7_all_b4 (N : Nat) (k4 : Option Nat → Int32 → Int32 → xh_H → xh_R Int32) (a0 : Option Nat) (a1 : Int32) (a2 : Int32) (h : xh_H) : xh_R Int32 := (xh_gR h a0 7 0).bind fun x6 =>
  (xh_chk h x6 1).bind fun _ =>
  xh_cal (f_X1_phrases N x6 h) fun x9 h =>
  if x9 ≤ a2 then
  (f_X7_all_b29 N a1  h)
  else (xh_chk h a0 7).bind fun _ =>
  xh_cal (f_X7_pointsOf N a0 a2 h) fun x18 h =>
  k4 a0 (a1 + x18) (a2 + (1 : Int32))  h
def f_X7_all_l4 (N : Nat) : Nat → Option Nat → Int32 → Int32 → xh_H → xh_R Int32 := xh_loop (fun _ _ _ _ => none) (fun k4 => f_X7_all_b4 N k4)
def f_X7_all (N : Nat) (a0 : Option Nat) (h : xh_H) : xh_R Int32 := f_X7_all_l4 N N a0 (0 : Int32) (0 : Int32)  h
def f_X7_most_b147 (N : Nat) (a1 : Int32) (h : xh_H) : xh_R Int32 := some (a1, h, 0, 0)
def f_X7_most_b139 (N : Nat) (k112 : Option Nat → Int32 → Int32 → xh_H → xh_R Int32) (a0 : Option Nat) (a3 : Int32) (t0 : Int32) (t1 : Int32) (h : xh_H) : xh_R Int32 := k112 a0 (t0 + t1) (a3 + (1 : Int32))  h
def f_X7_most_b112 (N : Nat) (k112 : Option Nat → Int32 → Int32 → xh_H → xh_R Int32) (a0 : Option Nat) (a1 : Int32) (a3 : Int32) (h : xh_H) : xh_R Int32 := (xh_gR h a0 7 0).bind fun x114 =>
  (xh_chk h x114 1).bind fun _ =>
  xh_cal (f_X1_phrases N x114 h) fun x117 h =>
  if x117 ≤ a3 then
  (f_X7_most_b147 N a1  h)
  else (xh_chk h a0 7).bind fun _ =>
  xh_cal (f_X7_many N a0 a3 h) fun x126 h =>
  if x126 < (2 : Int32) then
  (f_X7_most_b139 N k112 a0 a3 a1 (0 : Int32) h)
  else f_X7_most_b139 N k112 a0 a3 a1 (50 : Int32) h
def f_X7_most_l112 (N : Nat) : Nat → Option Nat → Int32 → Int32 → xh_H → xh_R Int32 := xh_loop (fun _ _ _ _ => none) (fun k112 => f_X7_most_b112 N k112)
def f_X7_most_b110 (N : Nat) (a0 : Option Nat) (a1 : Int32) (h : xh_H) : xh_R Int32 := f_X7_most_l112 N N a0 a1 (0 : Int32)  h
def f_X7_most_b80 (N : Nat) (k6 : Option Nat → Int32 → Int32 → Int32 → xh_H → xh_R Int32) (a0 : Option Nat) (a1 : Int32) (a3 : Int32) (a4 : Option Nat) (t0 : Int32) (h : xh_H) : xh_R Int32 := (xh_chk h a0 7).bind fun _ =>
  xh_cal (f_X7_bars N a0 a4 (0 : Int32) h) fun x89 h =>
  k6 a0 (a1 + ((((100 : Int32) + ((5 : Int32) * x89)) * ((10 : Int32) + t0)) / (10 : Int32))) t0 (a3 + (1 : Int32))  h
def f_X7_most_b79 (N : Nat) (k6 : Option Nat → Int32 → Int32 → Int32 → xh_H → xh_R Int32) (a0 : Option Nat) (a1 : Int32) (a3 : Int32) (a4 : Option Nat) (h : xh_H) : xh_R Int32 := f_X7_most_b80 N k6 a0 a1 a3 a4 (0 : Int32) h
def f_X7_most_b6 (N : Nat) (k6 : Option Nat → Int32 → Int32 → Int32 → xh_H → xh_R Int32) (a0 : Option Nat) (a1 : Int32) (a2 : Int32) (a3 : Int32) (h : xh_H) : xh_R Int32 := (xh_gR h a0 7 0).bind fun x8 =>
  (xh_chk h x8 1).bind fun _ =>
  xh_cal (f_X1_many N x8 h) fun x11 h =>
  if x11 ≤ a3 then
  (f_X7_most_b110 N a0 a1  h)
  else (xh_gR h a0 7 0).bind fun x18 =>
  (xh_gR h x18 1 0).bind fun x21 =>
  (xh_chk h x21 8).bind fun _ =>
  xh_cal (f_J2_get N x21 a3 h) fun x25 h =>
  (xh_cc h x25 5).bind fun _ =>
  if a3 ≤ 0 then
  (f_X7_most_b79 N k6 a0 a1 a3 x25  h)
  else (xh_gR h a0 7 0).bind fun x40 =>
  (xh_gR h x40 1 0).bind fun x43 =>
  (xh_chk h x43 8).bind fun _ =>
  xh_cal (f_J2_get N x43 (a3 - (1 : Int32)) h) fun x49 h =>
  (xh_cc h x49 5).bind fun _ =>
  (xh_gI h x49 5 4).bind fun x57 =>
  (xh_gI h x25 5 4).bind fun x62 =>
  if x57 = x62 then
  (f_X7_most_b80 N k6 a0 a1 a3 x25 (xh_mn (10 : Int32) (a2 + (1 : Int32))) h)
  else f_X7_most_b79 N k6 a0 a1 a3 x25  h
def f_X7_most_l6 (N : Nat) : Nat → Option Nat → Int32 → Int32 → Int32 → xh_H → xh_R Int32 := xh_loop (fun _ _ _ _ _ => none) (fun k6 => f_X7_most_b6 N k6)
def f_X7_most (N : Nat) (a0 : Option Nat) (h : xh_H) : xh_R Int32 := f_X7_most_l6 N N a0 (0 : Int32) (0 : Int32) (0 : Int32)  h
def f_X0_total_b108 (N : Nat) (t0 : Option Nat) (t1 : Int32) (h : xh_H) : xh_R Int32 := (xh_chk h t0 0).bind fun _ =>
  xh_cal (f_X0_sungTicks N t0 t1 h) fun x108 h =>
  some (x108, h, 0, 0)
def f_X0_total_b96 (N : Nat) (a0 : Option Nat) (a1 : Int32) (h : xh_H) : xh_R Int32 := if a1 = (9 : Int32) then
  (f_X0_total_b108 N a0 (1 : Int32) h)
  else f_X0_total_b108 N a0 (0 : Int32) h
def f_X0_total (N : Nat) (a0 : Option Nat) (a1 : Int32) (h : xh_H) : xh_R Int32 := xh_cal (f_X0_isSetting N a1 h) fun x1 h =>
  if x1 = 0 then
  (if a1 = 5 then
  ((xh_gR h a0 0 0).bind fun x73 =>
  (xh_chk h x73 1).bind fun _ =>
  xh_cal (f_X1_many N x73 h) fun x76 h =>
  some (x76, h, 0, 0))
  else if a1 = 6 then
  ((xh_gR h a0 0 0).bind fun x81 =>
  (xh_chk h x81 1).bind fun _ =>
  xh_cal (f_X1_phrases N x81 h) fun x84 h =>
  some (x84, h, 0, 0))
  else if a1 = 7 then
  ((xh_gR h a0 0 0).bind fun x89 =>
  (xh_chk h x89 1).bind fun _ =>
  xh_cal (f_X1_end N x89 h) fun x92 h =>
  some (x92, h, 0, 0))
  else if a1 = 8 then
  (f_X0_total_b96 N a0 a1  h)
  else if a1 = 9 then
  (f_X0_total_b96 N a0 a1  h)
  else if a1 = 10 then
  ((xh_chk h a0 0).bind fun _ =>
  xh_cal (f_X0_judged N a0 h) fun x113 h =>
  (xh_chk h x113 7).bind fun _ =>
  xh_cal (f_X7_hits N x113 (-5 : Int32) h) fun x118 h =>
  some (x118, h, 0, 0))
  else if a1 = 11 then
  ((xh_chk h a0 0).bind fun _ =>
  xh_cal (f_X0_judged N a0 h) fun x123 h =>
  (xh_chk h x123 7).bind fun _ =>
  xh_cal (f_X7_all N x123 h) fun x126 h =>
  some (x126, h, 0, 0))
  else if a1 = 12 then
  ((xh_chk h a0 0).bind fun _ =>
  xh_cal (f_X0_judged N a0 h) fun x131 h =>
  (xh_chk h x131 7).bind fun _ =>
  xh_cal (f_X7_most N x131 h) fun x134 h =>
  some (x134, h, 0, 0))
  else if a1 = 13 then
  ((xh_gR h a0 0 1).bind fun x139 =>
  (xh_chk h x139 8).bind fun _ =>
  xh_cal (f_J2_size N x139 h) fun x142 h =>
  some (x142, h, 0, 0))
  else if a1 = 14 then
  ((xh_gI h a0 0 4).bind fun x149 =>
  some (x149, h, 0, 0))
  else some ((-2 : Int32), h, 0, 0))
  else (xh_gR h a0 0 0).bind fun x8 =>
  (xh_gR h x8 1 2).bind fun x11 =>
  (xh_ld h x11 0 a1).bind fun x15 =>
  some (x15, h, 0, 0)
def f_X0_shift_b74 (N : Nat) (k3 : Option Nat → Option Nat → Int32 → Int32 → Int32 → xh_H → xh_R Unit) (a0 : Option Nat) (a1 : Option Nat) (a2 : Int32) (a3 : Int32) (a4 : Int32) (t0 : Option Nat) (t1 : Int32) (t2 : Int32) (h : xh_H) : xh_R Unit := (xh_sv h t0 0 t1 t2).bind fun h =>
  k3 a0 a1 a2 a3 (a4 + (1 : Int32))  h
def f_X0_shift_b55 (N : Nat) (k3 : Option Nat → Option Nat → Int32 → Int32 → Int32 → xh_H → xh_R Unit) (a0 : Option Nat) (a1 : Option Nat) (a2 : Int32) (a3 : Int32) (a4 : Int32) (t0 : Int32) (h : xh_H) : xh_R Unit := xh_cal (f_X0_isPitch N t0 h) fun x62 h =>
  if x62 = 0 then
  (f_X0_shift_b74 N k3 a0 a1 a2 a3 a4 a1 a4 (-1 : Int32) h)
  else f_X0_shift_b74 N k3 a0 a1 a2 a3 a4 a1 a4 t0 h
def f_X0_shift_b54 (N : Nat) (k3 : Option Nat → Option Nat → Int32 → Int32 → Int32 → xh_H → xh_R Unit) (a0 : Option Nat) (a1 : Option Nat) (a2 : Int32) (a3 : Int32) (a4 : Int32) (h : xh_H) : xh_R Unit := f_X0_shift_b55 N k3 a0 a1 a2 a3 a4 (-1 : Int32) h
def f_X0_shift_b3 (N : Nat) (k3 : Option Nat → Option Nat → Int32 → Int32 → Int32 → xh_H → xh_R Unit) (a0 : Option Nat) (a1 : Option Nat) (a2 : Int32) (a3 : Int32) (a4 : Int32) (h : xh_H) : xh_R Unit := if (600 : Int32) ≤ a4 then
  (some ((), h, 0, 0))
  else xh_cal (f_X0_isTick N (a4 - a2) h) fun x19 h =>
  if x19 = 0 then
  (f_X0_shift_b54 N k3 a0 a1 a2 a3 a4  h)
  else (xh_gR h a0 0 0).bind fun x26 =>
  (xh_gR h x26 1 1).bind fun x29 =>
  (xh_ld h x29 0 (a4 - a2)).bind fun x34 =>
  if x34 = (-1 : Int32) then
  (f_X0_shift_b54 N k3 a0 a1 a2 a3 a4  h)
  else (xh_gR h a0 0 0).bind fun x40 =>
  (xh_gR h x40 1 1).bind fun x43 =>
  (xh_ld h x43 0 (a4 - a2)).bind fun x48 =>
  f_X0_shift_b55 N k3 a0 a1 a2 a3 a4 (x48 + a3) h
def f_X0_shift_l3 (N : Nat) : Nat → Option Nat → Option Nat → Int32 → Int32 → Int32 → xh_H → xh_R Unit := xh_loop (fun _ _ _ _ _ _ => none) (fun k3 => f_X0_shift_b3 N k3)
def f_X0_shift (N : Nat) (a0 : Option Nat) (a1 : Option Nat) (a2 : Int32) (a3 : Int32) (h : xh_H) : xh_R Unit := f_X0_shift_l3 N N a0 a1 a2 a3 (0 : Int32)  h
def f_X0_ifShifted_b22 (N : Nat) (h : xh_H) : xh_R Int32 := some ((-2 : Int32), h, 0, 0)
def f_X0_ifShifted (N : Nat) (a0 : Option Nat) (a1 : Int32) (a2 : Int32) (h : xh_H) : xh_R Int32 := xh_cal (f_X0_isBetween N a1 (-32 : Int32) (32 : Int32) h) fun x5 h =>
  if x5 = 0 then
  (f_X0_ifShifted_b22 N  h)
  else xh_cal (f_X0_isBetween N a2 (-60 : Int32) (60 : Int32) h) fun x16 h =>
  if x16 = 0 then
  (f_X0_ifShifted_b22 N  h)
  else xh_na h 0 (600 : Int32) fun x28 h =>
  (xh_chk h a0 0).bind fun _ =>
  xh_cal (f_X0_shift N a0 x28 a1 a2 h) fun _ h =>
  xh_new h 7 [.null, .null, .null, .null, .null, .null, .null] fun x38 h =>
  (xh_gR h a0 0 0).bind fun x43 =>
  (xh_chk h x38 7).bind fun _ =>
  xh_cal (f_X7_init N x38 x43 h) fun _ h =>
  (xh_chk h x38 7).bind fun _ =>
  xh_cal (f_X7_run N x38 x28 h) fun x50 h =>
  (xh_chk h x50 7).bind fun _ =>
  xh_cal (f_X7_all N x50 h) fun x53 h =>
  some (x53, h, 0, 0)
def f_X0_bestShift_b105 (N : Nat) (a3 : Int32) (h : xh_H) : xh_R Int32 := some ((a3 + (32 : Int32)), h, 0, 0)
def f_X0_bestShift_b99 (N : Nat) (k39 : Option Nat → Option Nat → Option Nat → Int32 → Int32 → Int32 → xh_H → xh_R Int32) (a0 : Option Nat) (a1 : Option Nat) (a2 : Option Nat) (a3 : Int32) (a4 : Int32) (a5 : Int32) (h : xh_H) : xh_R Int32 := k39 a0 a1 a2 a3 a4 (a5 + (1 : Int32))  h
def f_X0_bestShift_b93 (N : Nat) (k49 : Option Nat → Option Nat → Option Nat → Int32 → Int32 → Int32 → Int32 → xh_H → xh_R Int32) (a0 : Option Nat) (a1 : Option Nat) (a2 : Option Nat) (a3 : Int32) (a4 : Int32) (a5 : Int32) (a6 : Int32) (h : xh_H) : xh_R Int32 := k49 a0 a1 a2 a3 a4 a5 (a6 + (2 : Int32))  h
def f_X0_bestShift_b49 (N : Nat) (k39 : Option Nat → Option Nat → Option Nat → Int32 → Int32 → Int32 → xh_H → xh_R Int32) (k49 : Option Nat → Option Nat → Option Nat → Int32 → Int32 → Int32 → Int32 → xh_H → xh_R Int32) (a0 : Option Nat) (a1 : Option Nat) (a2 : Option Nat) (a3 : Int32) (a4 : Int32) (a5 : Int32) (a6 : Int32) (h : xh_H) : xh_R Int32 := if (1 : Int32) < a6 then
  (f_X0_bestShift_b99 N k39 a0 a1 a2 a3 a4 a5  h)
  else (xh_chk h a0 0).bind fun _ =>
  xh_cal (f_X0_shift N a0 a2 (a6 * a5) (0 : Int32) h) fun _ h =>
  (xh_chk h a1 7).bind fun _ =>
  xh_cal (f_X7_run N a1 a2 h) fun x68 h =>
  (xh_chk h x68 7).bind fun _ =>
  xh_cal (f_X7_all N x68 h) fun x71 h =>
  if x71 ≤ a4 then
  (f_X0_bestShift_b93 N k49 a0 a1 a2 a3 a4 a5 a6  h)
  else f_X0_bestShift_b93 N k49 a0 a1 a2 (a6 * a5) x71 a5 a6  h
def f_X0_bestShift_l49 (N : Nat) (k39 : Option Nat → Option Nat → Option Nat → Int32 → Int32 → Int32 → xh_H → xh_R Int32) : Nat → Option Nat → Option Nat → Option Nat → Int32 → Int32 → Int32 → Int32 → xh_H → xh_R Int32 := xh_loop (fun _ _ _ _ _ _ _ _ => none) (fun k49 => f_X0_bestShift_b49 N k39 k49)
def f_X0_bestShift_b39 (N : Nat) (k39 : Option Nat → Option Nat → Option Nat → Int32 → Int32 → Int32 → xh_H → xh_R Int32) (a0 : Option Nat) (a1 : Option Nat) (a2 : Option Nat) (a3 : Int32) (a4 : Int32) (a5 : Int32) (h : xh_H) : xh_R Int32 := if (32 : Int32) < a5 then
  (f_X0_bestShift_b105 N a3  h)
  else f_X0_bestShift_l49 N k39 N a0 a1 a2 a3 a4 a5 (-1 : Int32)  h
def f_X0_bestShift_l39 (N : Nat) : Nat → Option Nat → Option Nat → Option Nat → Int32 → Int32 → Int32 → xh_H → xh_R Int32 := xh_loop (fun _ _ _ _ _ _ _ => none) (fun k39 => f_X0_bestShift_b39 N k39)
def f_X0_bestShift (N : Nat) (a0 : Option Nat) (h : xh_H) : xh_R Int32 := xh_new h 7 [.null, .null, .null, .null, .null, .null, .null] fun x0 h =>
  (xh_gR h a0 0 0).bind fun x5 =>
  (xh_chk h x0 7).bind fun _ =>
  xh_cal (f_X7_init N x0 x5 h) fun _ h =>
  xh_na h 0 (600 : Int32) fun x15 h =>
  (xh_gR h a0 0 0).bind fun x22 =>
  (xh_gR h x22 1 1).bind fun x25 =>
  (xh_chk h x0 7).bind fun _ =>
  xh_cal (f_X7_run N x0 x25 h) fun x28 h =>
  (xh_chk h x28 7).bind fun _ =>
  xh_cal (f_X7_all N x28 h) fun x31 h =>
  f_X0_bestShift_l39 N N a0 x0 x15 (0 : Int32) x31 (1 : Int32)  h
def f_X0_ifSet (N : Nat) (a0 : Option Nat) (a1 : Int32) (a2 : Int32) (h : xh_H) : xh_R Int32 := xh_cal (f_X0_isSetting N a1 h) fun x1 h =>
  if x1 = 0 then
  (some ((-1 : Int32), h, 0, 0))
  else xh_cal (f_X0_isRight N a1 a2 h) fun x11 h =>
  if x11 = 0 then
  (some ((-2 : Int32), h, 0, 0))
  else (xh_gR h a0 0 0).bind fun x21 =>
  (xh_gR h x21 1 2).bind fun x24 =>
  (xh_ld h x24 0 a1).bind fun x28 =>
  (xh_gR h a0 0 0).bind fun x31 =>
  (xh_gR h x31 1 2).bind fun x34 =>
  (xh_sv h x34 0 a1 a2).bind fun h =>
  (xh_chk h a0 0).bind fun _ =>
  xh_cal (f_X0_judged N a0 h) fun x41 h =>
  (xh_chk h x41 7).bind fun _ =>
  xh_cal (f_X7_all N x41 h) fun x44 h =>
  (xh_gR h a0 0 0).bind fun x50 =>
  (xh_gR h x50 1 2).bind fun x53 =>
  (xh_sv h x53 0 a1 x28).bind fun h =>
  some (x44, h, 0, 0)
def f_X0_worst_b57 (N : Nat) (a2 : Int32) (h : xh_H) : xh_R Int32 := some (a2, h, 0, 0)
def f_X0_worst_b51 (N : Nat) (k13 : Option Nat → Option Nat → Int32 → Int32 → Int32 → xh_H → xh_R Int32) (a0 : Option Nat) (a1 : Option Nat) (a2 : Int32) (a3 : Int32) (a4 : Int32) (h : xh_H) : xh_R Int32 := k13 a0 a1 a2 a3 (a4 + (1 : Int32))  h
def f_X0_worst_b45 (N : Nat) (k13 : Option Nat → Option Nat → Int32 → Int32 → Int32 → xh_H → xh_R Int32) (a0 : Option Nat) (a1 : Option Nat) (a4 : Int32) (a5 : Int32) (h : xh_H) : xh_R Int32 := f_X0_worst_b51 N k13 a0 a1 a4 a5 a4  h
def f_X0_worst_b13 (N : Nat) (k13 : Option Nat → Option Nat → Int32 → Int32 → Int32 → xh_H → xh_R Int32) (a0 : Option Nat) (a1 : Option Nat) (a2 : Int32) (a3 : Int32) (a4 : Int32) (h : xh_H) : xh_R Int32 := (xh_gR h a0 0 0).bind fun x16 =>
  (xh_chk h x16 1).bind fun _ =>
  xh_cal (f_X1_phrases N x16 h) fun x19 h =>
  if x19 ≤ a4 then
  (f_X0_worst_b57 N a2  h)
  else (xh_chk h a1 7).bind fun _ =>
  xh_cal (f_X7_pointsOf N a1 a4 h) fun x28 h =>
  if a2 = (-5 : Int32) then
  (f_X0_worst_b45 N k13 a0 a1 a4 x28  h)
  else if a3 ≤ x28 then
  (f_X0_worst_b51 N k13 a0 a1 a2 a3 a4  h)
  else f_X0_worst_b45 N k13 a0 a1 a4 x28  h
def f_X0_worst_l13 (N : Nat) : Nat → Option Nat → Option Nat → Int32 → Int32 → Int32 → xh_H → xh_R Int32 := xh_loop (fun _ _ _ _ _ _ => none) (fun k13 => f_X0_worst_b13 N k13)
def f_X0_worst (N : Nat) (a0 : Option Nat) (h : xh_H) : xh_R Int32 := (xh_chk h a0 0).bind fun _ =>
  xh_cal (f_X0_judged N a0 h) fun x1 h =>
  f_X0_worst_l13 N N a0 x1 (-5 : Int32) (0 : Int32) (0 : Int32)  h
def f_X2_init (N : Nat) (a0 : Option Nat) (h : xh_H) : xh_R Unit := (xh_chk h a0 2).bind fun _ =>
  xh_na h 0 (806 : Int32) fun x8 h =>
  (xh_pR h a0 2 0 x8).bind fun h =>
  xh_na h 0 (3224 : Int32) fun x17 h =>
  (xh_pR h a0 2 1 x17).bind fun h =>
  xh_na h 0 (806 : Int32) fun x26 h =>
  (xh_pR h a0 2 3 x26).bind fun h =>
  xh_na h 1 (60 : Int32) fun x34 h =>
  (xh_pR h a0 2 5 x34).bind fun h =>
  xh_na h 0 (600 : Int32) fun x43 h =>
  (xh_pR h a0 2 7 x43).bind fun h =>
  xh_na h 0 (40 : Int32) fun x51 h =>
  (xh_pR h a0 2 8 x51).bind fun h =>
  xh_na h 0 (40 : Int32) fun x59 h =>
  (xh_pR h a0 2 9 x59).bind fun h =>
  xh_na h 0 (40 : Int32) fun x67 h =>
  (xh_pR h a0 2 10 x67).bind fun h =>
  xh_na h 0 (40 : Int32) fun x75 h =>
  (xh_pR h a0 2 11 x75).bind fun h =>
  xh_na h 0 (40 : Int32) fun x83 h =>
  (xh_pR h a0 2 12 x83).bind fun h =>
  xh_na h 0 (4 : Int32) fun x90 h =>
  (xh_pR h a0 2 14 x90).bind fun h =>
  (xh_gR h a0 2 0).bind fun x96 =>
  (xh_sv h x96 0 (0 : Int32) (16 : Int32)).bind fun h =>
  (xh_gR h a0 2 0).bind fun x104 =>
  (xh_sv h x104 0 (1 : Int32) (1 : Int32)).bind fun h =>
  (xh_gR h a0 2 0).bind fun x111 =>
  (xh_sv h x111 0 (2 : Int32) (2 : Int32)).bind fun h =>
  (xh_gR h a0 2 0).bind fun x118 =>
  (xh_sv h x118 0 (4 : Int32) (50 : Int32)).bind fun h =>
  some ((), h, 0, 0)
def f_X2_of (N : Nat) (a0 : Option Nat) (a1 : Int32) (a2 : Int32) (h : xh_H) : xh_R Int32 := (xh_gR h a0 2 0).bind fun x1 =>
  (xh_ld h x1 0 (((6 : Int32) + ((5 : Int32) * a1)) + a2)).bind fun x12 =>
  some (x12, h, 0, 0)
def f_X2_behind (N : Nat) (a0 : Option Nat) (a1 : Int32) (h : xh_H) : xh_R Int32 := if 0 ≤ a1 then
  ((xh_chk h a0 2).bind fun _ =>
  xh_cal (f_X2_of N a0 a1 (0 : Int32) h) fun x11 h =>
  (xh_chk h a0 2).bind fun _ =>
  xh_cal (f_X2_of N a0 a1 (1 : Int32) h) fun x17 h =>
  some ((x11 + x17), h, 0, 0))
  else some ((0 : Int32), h, 0, 0)
def f_X2_endOfSong (N : Nat) (a0 : Option Nat) (h : xh_H) : xh_R Int32 := (xh_gR h a0 2 0).bind fun x2 =>
  (xh_ld h x2 0 (5 : Int32)).bind fun x6 =>
  (xh_chk h a0 2).bind fun _ =>
  xh_cal (f_X2_behind N a0 (x6 - (1 : Int32)) h) fun x9 h =>
  some (x9, h, 0, 0)
def f_X2_in_b14 (N : Nat) (h : xh_H) : xh_R Int32 := some ((0 : Int32), h, 0, 0)
def f_X2_in (N : Nat) (a0 : Int32) (a1 : Int32) (a2 : Int32) (h : xh_H) : xh_R Int32 := if a0 < a1 then
  (f_X2_in_b14 N  h)
  else if a2 < a0 then
  (f_X2_in_b14 N  h)
  else some ((1 : Int32), h, 0, 0)
def f_X2_addError_b52 (N : Nat) (h : xh_H) : xh_R Int32 := some ((-3 : Int32), h, 0, 0)
def f_X2_addError_b24 (N : Nat) (h : xh_H) : xh_R Int32 := some ((-2 : Int32), h, 0, 0)
def f_X2_addError (N : Nat) (a0 : Option Nat) (a1 : Int32) (a2 : Int32) (a3 : Int32) (h : xh_H) : xh_R Int32 := xh_cal (f_X2_in N a1 (0 : Int32) (32 : Int32) h) fun x4 h =>
  if x4 = 0 then
  (f_X2_addError_b24 N  h)
  else if a2 < 0 then
  (f_X2_addError_b24 N  h)
  else xh_cal (f_X2_in N a3 (1 : Int32) (32 : Int32) h) fun x18 h =>
  if x18 = 0 then
  (f_X2_addError_b24 N  h)
  else (xh_gR h a0 2 0).bind fun x28 =>
  (xh_ld h x28 0 (5 : Int32)).bind fun x32 =>
  if x32 = (40 : Int32) then
  (f_X2_addError_b52 N  h)
  else (xh_chk h a0 2).bind fun _ =>
  xh_cal (f_X2_endOfSong N a0 h) fun x39 h =>
  if ((x39 + a1) + a3) ≤ (600 : Int32) then
  (some ((0 : Int32), h, 0, 0))
  else f_X2_addError_b52 N  h
def f_X2_lay (N : Nat) (a0 : Option Nat) (a1 : Int32) (a2 : Int32) (a3 : Int32) (h : xh_H) : xh_R Unit := (xh_gR h a0 2 0).bind fun x1 =>
  (xh_sv h x1 0 (((6 : Int32) + ((5 : Int32) * a1)) + a2) a3).bind fun h =>
  some ((), h, 0, 0)
def f_X2_doAdd_b61 (N : Nat) (a0 : Option Nat) (a6 : Int32) (t0 : Option Nat) (t1 : Int32) (t2 : Int32) (t3 : Int32) (h : xh_H) : xh_R Int32 := (xh_chk h t0 2).bind fun _ =>
  xh_cal (f_X2_lay N t0 t1 t2 t3 h) fun _ h =>
  (xh_gR h a0 2 0).bind fun x65 =>
  (xh_ld h x65 0 (5 : Int32)).bind fun x70 =>
  (xh_sv h x65 0 (5 : Int32) (x70 + (1 : Int32))).bind fun h =>
  (xh_chk h a0 2).bind fun _ =>
  xh_cal (f_X2_of N a0 a6 (0 : Int32) h) fun x78 h =>
  some (x78, h, 0, 0)
def f_X2_doAdd (N : Nat) (a0 : Option Nat) (a1 : Int32) (a2 : Int32) (a3 : Int32) (a4 : Int32) (a5 : Int32) (h : xh_H) : xh_R Int32 := (xh_gR h a0 2 0).bind fun x1 =>
  (xh_ld h x1 0 (5 : Int32)).bind fun x5 =>
  (xh_chk h a0 2).bind fun _ =>
  xh_cal (f_X2_endOfSong N a0 h) fun x13 h =>
  (xh_chk h a0 2).bind fun _ =>
  xh_cal (f_X2_lay N a0 x5 (0 : Int32) (x13 + a1) h) fun _ h =>
  (xh_chk h a0 2).bind fun _ =>
  xh_cal (f_X2_lay N a0 x5 (1 : Int32) a4 h) fun _ h =>
  (xh_chk h a0 2).bind fun _ =>
  xh_cal (f_X2_lay N a0 x5 (2 : Int32) a2 h) fun _ h =>
  (xh_chk h a0 2).bind fun _ =>
  xh_cal (f_X2_lay N a0 x5 (3 : Int32) a3 h) fun _ h =>
  if x5 = 0 then
  (f_X2_doAdd_b61 N a0 x5 a0 x5 (4 : Int32) (1 : Int32) h)
  else f_X2_doAdd_b61 N a0 x5 a0 x5 (4 : Int32) a5 h
def f_X2_isPitch (N : Nat) (a0 : Int32) (h : xh_H) : xh_R Int32 := xh_cal (f_X2_in N a0 (0 : Int32) (60 : Int32) h) fun x4 h =>
  if x4 = 0 ∨ x4 = 1 then some (x4, h, 0, 0) else none
def f_X2_copy_b3 (N : Nat) (k3 : Option Nat → Int32 → Option Nat → Int32 → Int32 → xh_H → xh_R Unit) (a0 : Option Nat) (a1 : Int32) (a2 : Option Nat) (a3 : Int32) (a4 : Int32) (h : xh_H) : xh_R Unit := if (806 : Int32) ≤ a4 then
  (some ((), h, 0, 0))
  else (xh_ld h a0 0 (a1 + a4)).bind fun x21 =>
  (xh_sv h a2 0 (a3 + a4) x21).bind fun h =>
  k3 a0 a1 a2 a3 (a4 + (1 : Int32))  h
def f_X2_copy_l3 (N : Nat) : Nat → Option Nat → Int32 → Option Nat → Int32 → Int32 → xh_H → xh_R Unit := xh_loop (fun _ _ _ _ _ _ => none) (fun k3 => f_X2_copy_b3 N k3)
def f_X2_copy (N : Nat) (a0 : Option Nat) (a1 : Int32) (a2 : Option Nat) (a3 : Int32) (h : xh_H) : xh_R Unit := f_X2_copy_l3 N N a0 a1 a2 a3 (0 : Int32)  h
def f_X2_record_b49 (N : Nat) (a0 : Option Nat) (h : xh_H) : xh_R Unit := (xh_gR h a0 2 0).bind fun x50 =>
  (xh_gR h a0 2 1).bind fun x55 =>
  (xh_gI h a0 2 2).bind fun x62 =>
  xh_cal (f_X2_copy N x50 (0 : Int32) x55 ((806 : Int32) * x62) h) fun _ h =>
  (xh_gI h a0 2 2).bind fun x71 =>
  (xh_pI h a0 2 2 (x71 + (1 : Int32))).bind fun h =>
  some ((), h, 0, 0)
def f_X2_record_b39 (N : Nat) (a0 : Option Nat) (h : xh_H) : xh_R Unit := (xh_gI h a0 2 2).bind fun x41 =>
  (xh_pI h a0 2 2 (x41 - (1 : Int32))).bind fun h =>
  f_X2_record_b49 N a0  h
def f_X2_record_b10 (N : Nat) (k10 : Option Nat → Int32 → xh_H → xh_R Unit) (a0 : Option Nat) (a1 : Int32) (h : xh_H) : xh_R Unit := if (2418 : Int32) ≤ a1 then
  (f_X2_record_b39 N a0  h)
  else (xh_gR h a0 2 1).bind fun x18 =>
  (xh_gR h a0 2 1).bind fun x23 =>
  (xh_ld h x23 0 ((806 : Int32) + a1)).bind fun x31 =>
  (xh_sv h x18 0 a1 x31).bind fun h =>
  k10 a0 (a1 + (1 : Int32))  h
def f_X2_record_l10 (N : Nat) : Nat → Option Nat → Int32 → xh_H → xh_R Unit := xh_loop (fun _ _ _ => none) (fun k10 => f_X2_record_b10 N k10)
def f_X2_record (N : Nat) (a0 : Option Nat) (h : xh_H) : xh_R Unit := (xh_gI h a0 2 2).bind fun x1 =>
  if x1 = (4 : Int32) then
  (f_X2_record_l10 N N a0 (0 : Int32)  h)
  else f_X2_record_b49 N a0  h
def f_X2_add_b56 (N : Nat) (t0 : Option Nat) (t1 : Int32) (t2 : Int32) (t3 : Int32) (t4 : Int32) (t5 : Int32) (h : xh_H) : xh_R Int32 := (xh_chk h t0 2).bind fun _ =>
  xh_cal (f_X2_doAdd N t0 t1 t2 t3 t4 t5 h) fun x56 h =>
  some (x56, h, 0, 0)
def f_X2_add_b21 (N : Nat) (a0 : Option Nat) (a1 : Int32) (a2 : Int32) (a3 : Int32) (a4 : Int32) (a5 : Int32) (t0 : Option Nat) (t1 : Int32) (t2 : Int32) (h : xh_H) : xh_R Int32 := (xh_chk h t0 2).bind fun _ =>
  xh_cal (f_X2_addError N t0 t1 t2 a4 h) fun x23 h =>
  if 0 ≤ x23 then
  ((xh_chk h a0 2).bind fun _ =>
  xh_cal (f_X2_record N a0 h) fun _ h =>
  if a5 = 0 then
  (f_X2_add_b56 N a0 a1 a2 a3 a4 (0 : Int32) h)
  else f_X2_add_b56 N a0 a1 a2 a3 a4 (1 : Int32) h)
  else some (x23, h, 0, 0)
def f_X2_add_b20 (N : Nat) (a0 : Option Nat) (a1 : Int32) (a2 : Int32) (a3 : Int32) (a4 : Int32) (a5 : Int32) (t0 : Option Nat) (t1 : Int32) (h : xh_H) : xh_R Int32 := f_X2_add_b21 N a0 a1 a2 a3 a4 a5 t0 t1 (-1 : Int32) h
def f_X2_add (N : Nat) (a0 : Option Nat) (a1 : Int32) (a2 : Int32) (a3 : Int32) (a4 : Int32) (a5 : Int32) (h : xh_H) : xh_R Int32 := xh_cal (f_X2_isPitch N a2 h) fun x3 h =>
  if x3 = 0 then
  (f_X2_add_b20 N a0 a1 a2 a3 a4 a5 a0 a1 h)
  else xh_cal (f_X2_isPitch N a3 h) fun x10 h =>
  if x10 = 0 then
  (f_X2_add_b20 N a0 a1 a2 a3 a4 a5 a0 a1 h)
  else f_X2_add_b21 N a0 a1 a2 a3 a4 a5 a0 a1 (0 : Int32) h
def f_X2_drop (N : Nat) (a0 : Option Nat) (h : xh_H) : xh_R Int32 := (xh_gR h a0 2 0).bind fun x1 =>
  (xh_ld h x1 0 (5 : Int32)).bind fun x5 =>
  if x5 = 0 then
  (some ((-5 : Int32), h, 0, 0))
  else (xh_chk h a0 2).bind fun _ =>
  xh_cal (f_X2_record N a0 h) fun _ h =>
  (xh_gR h a0 2 0).bind fun x17 =>
  (xh_ld h x17 0 (5 : Int32)).bind fun x22 =>
  (xh_sv h x17 0 (5 : Int32) (x22 - (1 : Int32))).bind fun h =>
  (xh_gR h a0 2 0).bind fun x27 =>
  (xh_ld h x27 0 (5 : Int32)).bind fun x31 =>
  some (x31, h, 0, 0)
def f_X2_settingError (N : Nat) (a0 : Int32) (a1 : Int32) (h : xh_H) : xh_R Int32 := if a0 = 0 then
  (xh_cal (f_X2_in N a1 (2 : Int32) (64 : Int32) h) fun x40 h =>
  if x40 = 0 then
  (some ((-2 : Int32), h, 0, 0))
  else some ((0 : Int32), h, 0, 0))
  else if a0 = 1 then
  (xh_cal (f_X2_in N a1 (0 : Int32) (6 : Int32) h) fun x57 h =>
  if x57 = 0 then
  (some ((-2 : Int32), h, 0, 0))
  else some ((0 : Int32), h, 0, 0))
  else if a0 = 2 then
  (xh_cal (f_X2_in N a1 (0 : Int32) (8 : Int32) h) fun x74 h =>
  if x74 = 0 then
  (some ((-2 : Int32), h, 0, 0))
  else some ((0 : Int32), h, 0, 0))
  else if a0 = 3 then
  (xh_cal (f_X2_in N a1 (0 : Int32) (1 : Int32) h) fun x90 h =>
  if x90 = 0 then
  (some ((-2 : Int32), h, 0, 0))
  else some ((0 : Int32), h, 0, 0))
  else if a0 = 4 then
  (xh_cal (f_X2_in N a1 (1 : Int32) (100 : Int32) h) fun x107 h =>
  if x107 = 0 then
  (some ((-2 : Int32), h, 0, 0))
  else some ((0 : Int32), h, 0, 0))
  else some ((-1 : Int32), h, 0, 0)
def f_X2_set_b20 (N : Nat) (a3 : Int32) (h : xh_H) : xh_R Int32 := if 0 ≤ a3 then
  (some ((-5 : Int32), h, 0, 0))
  else some (a3, h, 0, 0)
def f_X2_set (N : Nat) (a0 : Option Nat) (a1 : Int32) (a2 : Int32) (h : xh_H) : xh_R Int32 := xh_cal (f_X2_settingError N a1 a2 h) fun x2 h =>
  if x2 < 0 then
  (f_X2_set_b20 N x2  h)
  else (xh_gR h a0 2 0).bind fun x11 =>
  (xh_ld h x11 0 a1).bind fun x15 =>
  if x15 = a2 then
  (f_X2_set_b20 N x2  h)
  else (xh_chk h a0 2).bind fun _ =>
  xh_cal (f_X2_record N a0 h) fun _ h =>
  (xh_gR h a0 2 0).bind fun x36 =>
  (xh_ld h x36 0 a1).bind fun x40 =>
  (xh_gR h a0 2 0).bind fun x44 =>
  (xh_sv h x44 0 a1 a2).bind fun h =>
  some (x40, h, 0, 0)
def f_X2_hits_b37 (N : Nat) (a1 : Int32) (h : xh_H) : xh_R Int32 := some (a1, h, 0, 0)
def f_X2_hits_b29 (N : Nat) (k4 : Option Nat → Int32 → Int32 → xh_H → xh_R Int32) (a0 : Option Nat) (a2 : Int32) (t0 : Int32) (t1 : Int32) (h : xh_H) : xh_R Int32 := k4 a0 (t0 + t1) (a2 + (1 : Int32))  h
def f_X2_hits_b4 (N : Nat) (k4 : Option Nat → Int32 → Int32 → xh_H → xh_R Int32) (a0 : Option Nat) (a1 : Int32) (a2 : Int32) (h : xh_H) : xh_R Int32 := (xh_gR h a0 2 0).bind fun x6 =>
  (xh_ld h x6 0 (5 : Int32)).bind fun x10 =>
  if x10 ≤ a2 then
  (f_X2_hits_b37 N a1  h)
  else (xh_gR h a0 2 10).bind fun x16 =>
  (xh_ld h x16 0 a2).bind fun x20 =>
  if x20 = 0 then
  (f_X2_hits_b29 N k4 a0 a2 a1 (1 : Int32) h)
  else f_X2_hits_b29 N k4 a0 a2 a1 (0 : Int32) h
def f_X2_hits_l4 (N : Nat) : Nat → Option Nat → Int32 → Int32 → xh_H → xh_R Int32 := xh_loop (fun _ _ _ _ => none) (fun k4 => f_X2_hits_b4 N k4)
def f_X2_hits (N : Nat) (a0 : Option Nat) (h : xh_H) : xh_R Int32 := f_X2_hits_l4 N N a0 (0 : Int32) (0 : Int32)  h
def f_X2_isTick (N : Nat) (a0 : Int32) (h : xh_H) : xh_R Int32 := xh_cal (f_X2_in N a0 (0 : Int32) (599 : Int32) h) fun x5 h =>
  if x5 = 0 ∨ x5 = 1 then some (x5, h, 0, 0) else none
def f_X2_hear_b66 (N : Nat) (k2 : Option Nat → Int32 → Int32 → Int32 → xh_H → xh_R Unit) (a0 : Option Nat) (a1 : Int32) (a2 : Int32) (a3 : Int32) (t0 : Option Nat) (t1 : Int32) (t2 : Int32) (h : xh_H) : xh_R Unit := (xh_sv h t0 0 t1 t2).bind fun h =>
  k2 a0 a1 a2 (a3 + (1 : Int32))  h
def f_X2_hear_b65 (N : Nat) (k2 : Option Nat → Int32 → Int32 → Int32 → xh_H → xh_R Unit) (a0 : Option Nat) (a1 : Int32) (a2 : Int32) (a3 : Int32) (t0 : Option Nat) (t1 : Int32) (h : xh_H) : xh_R Unit := f_X2_hear_b66 N k2 a0 a1 a2 a3 t0 t1 (0 : Int32) h
def f_X2_hear_b34 (N : Nat) (k2 : Option Nat → Int32 → Int32 → Int32 → xh_H → xh_R Unit) (a0 : Option Nat) (a1 : Int32) (a2 : Int32) (a3 : Int32) (t0 : Int32) (h : xh_H) : xh_R Unit := (xh_gR h a0 2 7).bind fun x37 =>
  if t0 ≤ 0 then
  (f_X2_hear_b65 N k2 a0 a1 a2 a3 x37 a3 h)
  else xh_cal (f_X2_isPitch N ((t0 - (1 : Int32)) + a2) h) fun x52 h =>
  if x52 = 0 then
  (f_X2_hear_b65 N k2 a0 a1 a2 a3 x37 a3 h)
  else f_X2_hear_b66 N k2 a0 a1 a2 a3 x37 a3 (t0 + a2) h
def f_X2_hear_b2 (N : Nat) (k2 : Option Nat → Int32 → Int32 → Int32 → xh_H → xh_R Unit) (a0 : Option Nat) (a1 : Int32) (a2 : Int32) (a3 : Int32) (h : xh_H) : xh_R Unit := if (600 : Int32) ≤ a3 then
  (some ((), h, 0, 0))
  else xh_cal (f_X2_isTick N (a3 - a1) h) fun x12 h =>
  if x12 = 0 then
  (f_X2_hear_b34 N k2 a0 a1 a2 a3 (0 : Int32) h)
  else (xh_gR h a0 2 0).bind fun x19 =>
  (xh_ld h x19 0 (((206 : Int32) + a3) - a1)).bind fun x29 =>
  f_X2_hear_b34 N k2 a0 a1 a2 a3 x29 h
def f_X2_hear_l2 (N : Nat) : Nat → Option Nat → Int32 → Int32 → Int32 → xh_H → xh_R Unit := xh_loop (fun _ _ _ _ _ => none) (fun k2 => f_X2_hear_b2 N k2)
def f_X2_hear (N : Nat) (a0 : Option Nat) (a1 : Int32) (a2 : Int32) (h : xh_H) : xh_R Unit := f_X2_hear_l2 N N a0 a1 a2 (0 : Int32)  h
def f_X2_size (N : Nat) (a0 : Int32) (h : xh_H) : xh_R Int32 := if 0 ≤ a0 then
  (some (a0, h, 0, 0))
  else some ((-a0), h, 0, 0)
def f_X2_wantedIn (N : Nat) (a0 : Option Nat) (a1 : Int32) (a2 : Int32) (h : xh_H) : xh_R Int32 := (xh_chk h a0 2).bind fun _ =>
  xh_cal (f_X2_of N a0 a1 (1 : Int32) h) fun x3 h =>
  if x3 = (1 : Int32) then
  ((xh_chk h a0 2).bind fun _ =>
  xh_cal (f_X2_of N a0 a1 (2 : Int32) h) fun x15 h =>
  some (x15, h, 0, 0))
  else (xh_chk h a0 2).bind fun _ =>
  xh_cal (f_X2_of N a0 a1 (2 : Int32) h) fun x24 h =>
  (xh_chk h a0 2).bind fun _ =>
  xh_cal (f_X2_of N a0 a1 (3 : Int32) h) fun x30 h =>
  (xh_chk h a0 2).bind fun _ =>
  xh_cal (f_X2_of N a0 a1 (2 : Int32) h) fun x36 h =>
  if (x3 - (1 : Int32)) = 0 then none else
  some ((x24 + (((x30 - x36) * a2) / (x3 - (1 : Int32)))), h, 0, 0)
def f_X2_matches_b69 (N : Nat) (a0 : Option Nat) (a3 : Int32) (h : xh_H) : xh_R Int32 := (xh_gR h a0 2 0).bind fun x71 =>
  (xh_ld h x71 0 (1 : Int32)).bind fun x75 =>
  if x75 < a3 then
  (some ((0 : Int32), h, 0, 0))
  else some ((1 : Int32), h, 0, 0)
def f_X2_matches_b68 (N : Nat) (a0 : Option Nat) (t0 : Int32) (h : xh_H) : xh_R Int32 := f_X2_matches_b69 N a0 t0  h
def f_X2_matches (N : Nat) (a0 : Option Nat) (a1 : Int32) (a2 : Int32) (h : xh_H) : xh_R Int32 := (xh_gR h a0 2 7).bind fun x1 =>
  (xh_ld h x1 0 a2).bind fun x5 =>
  if x5 = 0 then
  (some ((0 : Int32), h, 0, 0))
  else (xh_gR h a0 2 7).bind fun x12 =>
  (xh_ld h x12 0 a2).bind fun x16 =>
  (xh_chk h a0 2).bind fun _ =>
  xh_cal (f_X2_of N a0 a1 (0 : Int32) h) fun x25 h =>
  (xh_chk h a0 2).bind fun _ =>
  xh_cal (f_X2_wantedIn N a0 a1 (a2 - x25) h) fun x29 h =>
  xh_cal (f_X2_size N ((x16 - (1 : Int32)) - x29) h) fun x33 h =>
  (xh_gR h a0 2 0).bind fun x38 =>
  (xh_ld h x38 0 (3 : Int32)).bind fun x42 =>
  if x42 = (1 : Int32) then
  (if (x33 - x33 / (12 : Int32) * (12 : Int32)) ≤ ((12 : Int32) - (x33 - x33 / (12 : Int32) * (12 : Int32))) then
  (f_X2_matches_b68 N a0 (x33 - x33 / (12 : Int32) * (12 : Int32)) h)
  else f_X2_matches_b68 N a0 ((12 : Int32) - (x33 - x33 / (12 : Int32) * (12 : Int32))) h)
  else f_X2_matches_b69 N a0 x33  h
def f_X2_isOnset_b34 (N : Nat) (h : xh_H) : xh_R Int32 := some ((0 : Int32), h, 0, 0)
def f_X2_isOnset_b30 (N : Nat) (h : xh_H) : xh_R Int32 := some ((1 : Int32), h, 0, 0)
def f_X2_isOnset (N : Nat) (a0 : Option Nat) (a1 : Int32) (h : xh_H) : xh_R Int32 := (xh_gR h a0 2 7).bind fun x1 =>
  (xh_ld h x1 0 a1).bind fun x5 =>
  if x5 ≤ 0 then
  (f_X2_isOnset_b34 N  h)
  else if a1 = 0 then
  (f_X2_isOnset_b30 N  h)
  else (xh_gR h a0 2 7).bind fun x14 =>
  (xh_ld h x14 0 (a1 - (1 : Int32))).bind fun x20 =>
  (xh_gR h a0 2 7).bind fun x22 =>
  (xh_ld h x22 0 a1).bind fun x26 =>
  if x20 = x26 then
  (f_X2_isOnset_b34 N  h)
  else f_X2_isOnset_b30 N  h
def f_X2_nearestOnset_b71 (N : Nat) (h : xh_H) : xh_R Int32 := some ((-5 : Int32), h, 0, 0)
def f_X2_nearestOnset_b65 (N : Nat) (k9 : Option Nat → Int32 → Int32 → xh_H → xh_R Int32) (a0 : Option Nat) (a2 : Int32) (a3 : Int32) (h : xh_H) : xh_R Int32 := k9 a0 a2 (a3 + (1 : Int32))  h
def f_X2_nearestOnset_b61 (N : Nat) (a2 : Int32) (a3 : Int32) (h : xh_H) : xh_R Int32 := some ((a2 + a3), h, 0, 0)
def f_X2_nearestOnset_b42 (N : Nat) (k9 : Option Nat → Int32 → Int32 → xh_H → xh_R Int32) (a0 : Option Nat) (a2 : Int32) (a3 : Int32) (h : xh_H) : xh_R Int32 := xh_cal (f_X2_isTick N (a2 + a3) h) fun x45 h =>
  if x45 = 0 then
  (f_X2_nearestOnset_b65 N k9 a0 a2 a3  h)
  else (xh_chk h a0 2).bind fun _ =>
  xh_cal (f_X2_isOnset N a0 (a2 + a3) h) fun x55 h =>
  if x55 = 0 then
  (f_X2_nearestOnset_b65 N k9 a0 a2 a3  h)
  else f_X2_nearestOnset_b61 N a2 a3  h
def f_X2_nearestOnset_b38 (N : Nat) (a2 : Int32) (a3 : Int32) (h : xh_H) : xh_R Int32 := some ((a2 - a3), h, 0, 0)
def f_X2_nearestOnset_b9 (N : Nat) (k9 : Option Nat → Int32 → Int32 → xh_H → xh_R Int32) (a0 : Option Nat) (a2 : Int32) (a3 : Int32) (h : xh_H) : xh_R Int32 := (xh_gR h a0 2 0).bind fun x11 =>
  (xh_ld h x11 0 (2 : Int32)).bind fun x15 =>
  if x15 < a3 then
  (f_X2_nearestOnset_b71 N  h)
  else xh_cal (f_X2_isTick N (a2 - a3) h) fun x22 h =>
  if x22 = 0 then
  (f_X2_nearestOnset_b42 N k9 a0 a2 a3  h)
  else (xh_chk h a0 2).bind fun _ =>
  xh_cal (f_X2_isOnset N a0 (a2 - a3) h) fun x32 h =>
  if x32 = 0 then
  (f_X2_nearestOnset_b42 N k9 a0 a2 a3  h)
  else f_X2_nearestOnset_b38 N a2 a3  h
def f_X2_nearestOnset_l9 (N : Nat) : Nat → Option Nat → Int32 → Int32 → xh_H → xh_R Int32 := xh_loop (fun _ _ _ _ => none) (fun k9 => f_X2_nearestOnset_b9 N k9)
def f_X2_nearestOnset (N : Nat) (a0 : Option Nat) (a1 : Int32) (h : xh_H) : xh_R Int32 := (xh_chk h a0 2).bind fun _ =>
  xh_cal (f_X2_of N a0 a1 (0 : Int32) h) fun x3 h =>
  f_X2_nearestOnset_l9 N N a0 x3 (0 : Int32)  h
def f_X2_bars_b74 (N : Nat) (a3 : Int32) (h : xh_H) : xh_R Int32 := some (a3, h, 0, 0)
def f_X2_bars_b66 (N : Nat) (k12 : Option Nat → Int32 → Int32 → Int32 → Int32 → xh_H → xh_R Int32) (a0 : Option Nat) (a1 : Int32) (a2 : Int32) (a4 : Int32) (t0 : Int32) (t1 : Int32) (h : xh_H) : xh_R Int32 := k12 a0 a1 a2 (t0 + t1) (a4 + (1 : Int32))  h
def f_X2_bars_b65 (N : Nat) (k12 : Option Nat → Int32 → Int32 → Int32 → Int32 → xh_H → xh_R Int32) (a0 : Option Nat) (a1 : Int32) (a2 : Int32) (a4 : Int32) (t0 : Int32) (h : xh_H) : xh_R Int32 := f_X2_bars_b66 N k12 a0 a1 a2 a4 t0 (0 : Int32) h
def f_X2_bars_b61 (N : Nat) (k12 : Option Nat → Int32 → Int32 → Int32 → Int32 → xh_H → xh_R Int32) (a0 : Option Nat) (a1 : Int32) (a2 : Int32) (a4 : Int32) (t0 : Int32) (h : xh_H) : xh_R Int32 := f_X2_bars_b66 N k12 a0 a1 a2 a4 t0 (1 : Int32) h
def f_X2_bars_b12 (N : Nat) (k12 : Option Nat → Int32 → Int32 → Int32 → Int32 → xh_H → xh_R Int32) (a0 : Option Nat) (a1 : Int32) (a2 : Int32) (a3 : Int32) (a4 : Int32) (h : xh_H) : xh_R Int32 := (xh_chk h a0 2).bind fun _ =>
  xh_cal (f_X2_behind N a0 a1 h) fun x16 h =>
  if x16 ≤ a4 then
  (f_X2_bars_b74 N a3  h)
  else (xh_gR h a0 2 0).bind fun x26 =>
  (xh_ld h x26 0 (0 : Int32)).bind fun x30 =>
  if x30 = 0 then none else
  if (a4 - a4 / x30 * x30) = 0 then
  (if a2 = 0 then
  (f_X2_bars_b61 N k12 a0 a1 a2 a4 a3 h)
  else (xh_chk h a0 2).bind fun _ =>
  xh_cal (f_X2_matches N a0 a1 a4 h) fun x43 h =>
  if x43 = 0 then
  (f_X2_bars_b65 N k12 a0 a1 a2 a4 a3 h)
  else (xh_chk h a0 2).bind fun _ =>
  xh_cal (f_X2_matches N a0 a1 (a4 - (1 : Int32)) h) fun x55 h =>
  if x55 = 0 then
  (f_X2_bars_b65 N k12 a0 a1 a2 a4 a3 h)
  else f_X2_bars_b61 N k12 a0 a1 a2 a4 a3 h)
  else f_X2_bars_b65 N k12 a0 a1 a2 a4 a3 h
def f_X2_bars_l12 (N : Nat) : Nat → Option Nat → Int32 → Int32 → Int32 → Int32 → xh_H → xh_R Int32 := xh_loop (fun _ _ _ _ _ _ => none) (fun k12 => f_X2_bars_b12 N k12)
def f_X2_bars (N : Nat) (a0 : Option Nat) (a1 : Int32) (a2 : Int32) (h : xh_H) : xh_R Int32 := (xh_chk h a0 2).bind fun _ =>
  xh_cal (f_X2_of N a0 a1 (0 : Int32) h) fun x5 h =>
  f_X2_bars_l12 N N a0 a1 a2 (0 : Int32) (x5 + (1 : Int32))  h
def f_X2_share (N : Nat) (a0 : Option Nat) (a1 : Int32) (h : xh_H) : xh_R Int32 := (xh_gR h a0 2 8).bind fun x1 =>
  (xh_ld h x1 0 a1).bind fun x5 =>
  (xh_chk h a0 2).bind fun _ =>
  xh_cal (f_X2_of N a0 a1 (1 : Int32) h) fun x12 h =>
  if x12 = 0 then none else
  some (((x5 * (100 : Int32)) / x12), h, 0, 0)
def f_X2_pointsOf (N : Nat) (a0 : Option Nat) (a1 : Int32) (h : xh_H) : xh_R Int32 := (xh_gR h a0 2 10).bind fun x1 =>
  (xh_ld h x1 0 a1).bind fun x5 =>
  if x5 = 0 then
  ((xh_chk h a0 2).bind fun _ =>
  xh_cal (f_X2_share N a0 a1 h) fun x13 h =>
  (xh_chk h a0 2).bind fun _ =>
  xh_cal (f_X2_bars N a0 a1 (1 : Int32) h) fun x20 h =>
  (xh_gR h a0 2 9).bind fun x27 =>
  (xh_ld h x27 0 a1).bind fun x31 =>
  (xh_chk h a0 2).bind fun _ =>
  xh_cal (f_X2_of N a0 a1 (0 : Int32) h) fun x35 h =>
  xh_cal (f_X2_size N (x31 - x35) h) fun x39 h =>
  if 0 ≤ ((x13 + ((5 : Int32) * x20)) - ((2 : Int32) * x39)) then
  ((xh_gR h a0 2 11).bind fun x57 =>
  (xh_ld h x57 0 a1).bind fun x61 =>
  some (((((x13 + ((5 : Int32) * x20)) - ((2 : Int32) * x39)) * ((10 : Int32) + x61)) / (10 : Int32)), h, 0, 0))
  else some ((0 : Int32), h, 0, 0))
  else some ((0 : Int32), h, 0, 0)
def f_X2_reasonOf_b41 (N : Nat) (a0 : Option Nat) (a1 : Int32) (a2 : Int32) (h : xh_H) : xh_R Int32 := if a2 = 0 then
  (some ((1 : Int32), h, 0, 0))
  else (xh_gR h a0 2 8).bind fun x48 =>
  (xh_ld h x48 0 a1).bind fun x52 =>
  if x52 = 0 then
  (some ((2 : Int32), h, 0, 0))
  else (xh_gR h a0 2 9).bind fun x61 =>
  (xh_ld h x61 0 a1).bind fun x65 =>
  if x65 = (-5 : Int32) then
  (some ((3 : Int32), h, 0, 0))
  else (xh_chk h a0 2).bind fun _ =>
  xh_cal (f_X2_share N a0 a1 h) fun x77 h =>
  (xh_gR h a0 2 0).bind fun x81 =>
  (xh_ld h x81 0 (4 : Int32)).bind fun x85 =>
  if x85 ≤ x77 then
  (some ((0 : Int32), h, 0, 0))
  else some ((4 : Int32), h, 0, 0)
def f_X2_reasonOf_b33 (N : Nat) (k9 : Option Nat → Int32 → Int32 → Int32 → xh_H → xh_R Int32) (a0 : Option Nat) (a1 : Int32) (a3 : Int32) (t0 : Int32) (t1 : Int32) (h : xh_H) : xh_R Int32 := k9 a0 a1 (t0 + t1) (a3 + (1 : Int32))  h
def f_X2_reasonOf_b9 (N : Nat) (k9 : Option Nat → Int32 → Int32 → Int32 → xh_H → xh_R Int32) (a0 : Option Nat) (a1 : Int32) (a2 : Int32) (a3 : Int32) (h : xh_H) : xh_R Int32 := (xh_chk h a0 2).bind fun _ =>
  xh_cal (f_X2_behind N a0 a1 h) fun x12 h =>
  if x12 ≤ a3 then
  (f_X2_reasonOf_b41 N a0 a1 a2  h)
  else (xh_gR h a0 2 7).bind fun x20 =>
  (xh_ld h x20 0 a3).bind fun x24 =>
  if x24 ≤ 0 then
  (f_X2_reasonOf_b33 N k9 a0 a1 a3 a2 (0 : Int32) h)
  else f_X2_reasonOf_b33 N k9 a0 a1 a3 a2 (1 : Int32) h
def f_X2_reasonOf_l9 (N : Nat) : Nat → Option Nat → Int32 → Int32 → Int32 → xh_H → xh_R Int32 := xh_loop (fun _ _ _ _ _ => none) (fun k9 => f_X2_reasonOf_b9 N k9)
def f_X2_reasonOf (N : Nat) (a0 : Option Nat) (a1 : Int32) (h : xh_H) : xh_R Int32 := (xh_chk h a0 2).bind fun _ =>
  xh_cal (f_X2_of N a0 a1 (0 : Int32) h) fun x5 h =>
  f_X2_reasonOf_l9 N N a0 a1 (0 : Int32) x5  h
def f_X2_judge_b138 (N : Nat) (k4 : Option Nat → Int32 → Int32 → xh_H → xh_R Unit) (a0 : Option Nat) (a2 : Int32) (t0 : Int32) (h : xh_H) : xh_R Unit := (xh_gR h a0 2 12).bind fun x140 =>
  (xh_chk h a0 2).bind fun _ =>
  xh_cal (f_X2_pointsOf N a0 a2 h) fun x146 h =>
  (xh_sv h x140 0 a2 x146).bind fun h =>
  k4 a0 t0 (a2 + (1 : Int32))  h
def f_X2_judge_b121 (N : Nat) (k4 : Option Nat → Int32 → Int32 → xh_H → xh_R Unit) (a0 : Option Nat) (a1 : Int32) (a2 : Int32) (t0 : Option Nat) (t1 : Int32) (t2 : Int32) (h : xh_H) : xh_R Unit := (xh_sv h t0 0 t1 t2).bind fun h =>
  (xh_gR h a0 2 10).bind fun x123 =>
  (xh_ld h x123 0 a2).bind fun x127 =>
  if x127 = 0 then
  (f_X2_judge_b138 N k4 a0 a2 (a1 + (1 : Int32)) h)
  else f_X2_judge_b138 N k4 a0 a2 (0 : Int32) h
def f_X2_judge_b103 (N : Nat) (k4 : Option Nat → Int32 → Int32 → xh_H → xh_R Unit) (a0 : Option Nat) (a2 : Int32) (t0 : Int32) (h : xh_H) : xh_R Unit := (xh_gR h a0 2 11).bind fun x105 =>
  if (10 : Int32) ≤ t0 then
  (f_X2_judge_b121 N k4 a0 t0 a2 x105 a2 (10 : Int32) h)
  else f_X2_judge_b121 N k4 a0 t0 a2 x105 a2 t0 h
def f_X2_judge_b66 (N : Nat) (k4 : Option Nat → Int32 → Int32 → xh_H → xh_R Unit) (a0 : Option Nat) (a1 : Int32) (a2 : Int32) (h : xh_H) : xh_R Unit := (xh_gR h a0 2 9).bind fun x67 =>
  (xh_chk h a0 2).bind fun _ =>
  xh_cal (f_X2_nearestOnset N a0 a2 h) fun x73 h =>
  (xh_sv h x67 0 a2 x73).bind fun h =>
  (xh_gR h a0 2 10).bind fun x78 =>
  (xh_chk h a0 2).bind fun _ =>
  xh_cal (f_X2_reasonOf N a0 a2 h) fun x84 h =>
  (xh_sv h x78 0 a2 x84).bind fun h =>
  (xh_chk h a0 2).bind fun _ =>
  xh_cal (f_X2_of N a0 a2 (4 : Int32) h) fun x91 h =>
  if x91 = (1 : Int32) then
  (f_X2_judge_b103 N k4 a0 a2 (0 : Int32) h)
  else f_X2_judge_b103 N k4 a0 a2 a1 h
def f_X2_judge_b58 (N : Nat) (k28 : Option Nat → Int32 → Int32 → Int32 → xh_H → xh_R Unit) (a0 : Option Nat) (a1 : Int32) (a2 : Int32) (a3 : Int32) (t0 : Option Nat) (t1 : Int32) (t2 : Int32) (t3 : Int32) (h : xh_H) : xh_R Unit := (xh_sv h t0 0 t1 (t2 + t3)).bind fun h =>
  k28 a0 a1 a2 (a3 + (1 : Int32))  h
def f_X2_judge_b28 (N : Nat) (k4 : Option Nat → Int32 → Int32 → xh_H → xh_R Unit) (k28 : Option Nat → Int32 → Int32 → Int32 → xh_H → xh_R Unit) (a0 : Option Nat) (a1 : Int32) (a2 : Int32) (a3 : Int32) (h : xh_H) : xh_R Unit := (xh_chk h a0 2).bind fun _ =>
  xh_cal (f_X2_behind N a0 a2 h) fun x31 h =>
  if x31 ≤ a3 then
  (f_X2_judge_b66 N k4 a0 a1 a2  h)
  else (xh_gR h a0 2 8).bind fun x38 =>
  (xh_ld h x38 0 a2).bind fun x43 =>
  (xh_chk h a0 2).bind fun _ =>
  xh_cal (f_X2_matches N a0 a2 a3 h) fun x47 h =>
  if x47 = 0 then
  (f_X2_judge_b58 N k28 a0 a1 a2 a3 x38 a2 x43 (0 : Int32) h)
  else f_X2_judge_b58 N k28 a0 a1 a2 a3 x38 a2 x43 (1 : Int32) h
def f_X2_judge_l28 (N : Nat) (k4 : Option Nat → Int32 → Int32 → xh_H → xh_R Unit) : Nat → Option Nat → Int32 → Int32 → Int32 → xh_H → xh_R Unit := xh_loop (fun _ _ _ _ _ => none) (fun k28 => f_X2_judge_b28 N k4 k28)
def f_X2_judge_b4 (N : Nat) (k4 : Option Nat → Int32 → Int32 → xh_H → xh_R Unit) (a0 : Option Nat) (a1 : Int32) (a2 : Int32) (h : xh_H) : xh_R Unit := (xh_gR h a0 2 0).bind fun x6 =>
  (xh_ld h x6 0 (5 : Int32)).bind fun x10 =>
  if x10 ≤ a2 then
  (some ((), h, 0, 0))
  else (xh_gR h a0 2 8).bind fun x15 =>
  (xh_sv h x15 0 a2 (0 : Int32)).bind fun h =>
  (xh_chk h a0 2).bind fun _ =>
  xh_cal (f_X2_of N a0 a2 (0 : Int32) h) fun x24 h =>
  f_X2_judge_l28 N k4 N a0 a1 a2 x24  h
def f_X2_judge_l4 (N : Nat) : Nat → Option Nat → Int32 → Int32 → xh_H → xh_R Unit := xh_loop (fun _ _ _ _ => none) (fun k4 => f_X2_judge_b4 N k4)
def f_X2_judge (N : Nat) (a0 : Option Nat) (h : xh_H) : xh_R Unit := f_X2_judge_l4 N N a0 (0 : Int32) (0 : Int32)  h
def f_X2_judgeSong (N : Nat) (a0 : Option Nat) (h : xh_H) : xh_R Unit := (xh_chk h a0 2).bind fun _ =>
  xh_cal (f_X2_hear N a0 (0 : Int32) (0 : Int32) h) fun _ h =>
  (xh_chk h a0 2).bind fun _ =>
  xh_cal (f_X2_judge N a0 h) fun _ h =>
  some ((), h, 0, 0)
def f_X2_sing_b71 (N : Nat) (a0 : Option Nat) (h : xh_H) : xh_R Int32 := (xh_chk h a0 2).bind fun _ =>
  xh_cal (f_X2_judgeSong N a0 h) fun _ h =>
  (xh_chk h a0 2).bind fun _ =>
  xh_cal (f_X2_hits N a0 h) fun x76 h =>
  some (x76, h, 0, 0)
def f_X2_sing_b43 (N : Nat) (k43 : Option Nat → Int32 → Int32 → Int32 → Int32 → xh_H → xh_R Int32) (a0 : Option Nat) (a1 : Int32) (a2 : Int32) (a3 : Int32) (a4 : Int32) (h : xh_H) : xh_R Int32 := if (a1 + a2) ≤ a4 then
  (f_X2_sing_b71 N a0  h)
  else (xh_gR h a0 2 0).bind fun x52 =>
  (xh_sv h x52 0 ((206 : Int32) + a4) (a3 + (1 : Int32))).bind fun h =>
  k43 a0 a1 a2 a3 (a4 + (1 : Int32))  h
def f_X2_sing_l43 (N : Nat) : Nat → Option Nat → Int32 → Int32 → Int32 → Int32 → xh_H → xh_R Int32 := xh_loop (fun _ _ _ _ _ _ => none) (fun k43 => f_X2_sing_b43 N k43)
def f_X2_sing_b33 (N : Nat) (h : xh_H) : xh_R Int32 := some ((-2 : Int32), h, 0, 0)
def f_X2_sing (N : Nat) (a0 : Option Nat) (a1 : Int32) (a2 : Int32) (a3 : Int32) (h : xh_H) : xh_R Int32 := xh_cal (f_X2_isTick N a1 h) fun x1 h =>
  if x1 = 0 then
  (f_X2_sing_b33 N  h)
  else xh_cal (f_X2_in N a2 (1 : Int32) (64 : Int32) h) fun x11 h =>
  if x11 = 0 then
  (f_X2_sing_b33 N  h)
  else if (600 : Int32) < (a1 + a2) then
  (f_X2_sing_b33 N  h)
  else xh_cal (f_X2_isPitch N a3 h) fun x27 h =>
  if x27 = 0 then
  (f_X2_sing_b33 N  h)
  else (xh_chk h a0 2).bind fun _ =>
  xh_cal (f_X2_record N a0 h) fun _ h =>
  f_X2_sing_l43 N N a0 a1 a2 a3 a1  h
def f_X2_silence_b87 (N : Nat) (a3 : Int32) (h : xh_H) : xh_R Int32 := some (a3, h, 0, 0)
def f_X2_silence_b67 (N : Nat) (k39 : Option Nat → Int32 → Int32 → Int32 → Int32 → xh_H → xh_R Int32) (a0 : Option Nat) (a1 : Int32) (a2 : Int32) (a4 : Int32) (t0 : Int32) (t1 : Int32) (h : xh_H) : xh_R Int32 := (xh_gR h a0 2 0).bind fun x70 =>
  (xh_sv h x70 0 ((206 : Int32) + a4) (0 : Int32)).bind fun h =>
  k39 a0 a1 a2 (t0 + t1) (a4 + (1 : Int32))  h
def f_X2_silence_b39 (N : Nat) (k39 : Option Nat → Int32 → Int32 → Int32 → Int32 → xh_H → xh_R Int32) (a0 : Option Nat) (a1 : Int32) (a2 : Int32) (a3 : Int32) (a4 : Int32) (h : xh_H) : xh_R Int32 := if (a1 + a2) ≤ a4 then
  (f_X2_silence_b87 N a3  h)
  else (xh_gR h a0 2 0).bind fun x49 =>
  (xh_ld h x49 0 ((206 : Int32) + a4)).bind fun x58 =>
  if x58 ≤ 0 then
  (f_X2_silence_b67 N k39 a0 a1 a2 a4 a3 (0 : Int32) h)
  else f_X2_silence_b67 N k39 a0 a1 a2 a4 a3 (1 : Int32) h
def f_X2_silence_l39 (N : Nat) : Nat → Option Nat → Int32 → Int32 → Int32 → Int32 → xh_H → xh_R Int32 := xh_loop (fun _ _ _ _ _ _ => none) (fun k39 => f_X2_silence_b39 N k39)
def f_X2_silence_b27 (N : Nat) (h : xh_H) : xh_R Int32 := some ((-2 : Int32), h, 0, 0)
def f_X2_silence (N : Nat) (a0 : Option Nat) (a1 : Int32) (a2 : Int32) (h : xh_H) : xh_R Int32 := xh_cal (f_X2_isTick N a1 h) fun x1 h =>
  if x1 = 0 then
  (f_X2_silence_b27 N  h)
  else xh_cal (f_X2_in N a2 (1 : Int32) (600 : Int32) h) fun x12 h =>
  if x12 = 0 then
  (f_X2_silence_b27 N  h)
  else if (a1 + a2) ≤ (600 : Int32) then
  ((xh_chk h a0 2).bind fun _ =>
  xh_cal (f_X2_record N a0 h) fun _ h =>
  f_X2_silence_l39 N N a0 a1 a2 (0 : Int32) a1  h)
  else f_X2_silence_b27 N  h
def f_X2_isSyllable (N : Nat) (a0 : Option Nat) (a1 : Int32) (h : xh_H) : xh_R Int32 := (xh_gR h a0 2 0).bind fun x3 =>
  (xh_ld h x3 0 (5 : Int32)).bind fun x7 =>
  xh_cal (f_X2_in N a1 (0 : Int32) (x7 - (1 : Int32)) h) fun x10 h =>
  if x10 = 0 ∨ x10 = 1 then some (x10, h, 0, 0) else none
def f_X2_singAlong_b129 (N : Nat) (a0 : Option Nat) (h : xh_H) : xh_R Int32 := (xh_chk h a0 2).bind fun _ =>
  xh_cal (f_X2_judgeSong N a0 h) fun _ h =>
  (xh_chk h a0 2).bind fun _ =>
  xh_cal (f_X2_hits N a0 h) fun x134 h =>
  some (x134, h, 0, 0)
def f_X2_singAlong_b123 (N : Nat) (k44 : Option Nat → Int32 → Int32 → Int32 → xh_H → xh_R Int32) (a0 : Option Nat) (a2 : Int32) (a3 : Int32) (a4 : Int32) (h : xh_H) : xh_R Int32 := k44 a0 a2 a3 (a4 + (1 : Int32))  h
def f_X2_singAlong_b116 (N : Nat) (k59 : Option Nat → Int32 → Int32 → Int32 → Int32 → xh_H → xh_R Int32) (a0 : Option Nat) (a2 : Int32) (a3 : Int32) (a4 : Int32) (a5 : Int32) (t0 : Option Nat) (t1 : Int32) (t2 : Int32) (h : xh_H) : xh_R Int32 := (xh_sv h t0 0 t1 t2).bind fun h =>
  k59 a0 a2 a3 a4 (a5 + (1 : Int32))  h
def f_X2_singAlong_b59 (N : Nat) (k44 : Option Nat → Int32 → Int32 → Int32 → xh_H → xh_R Int32) (k59 : Option Nat → Int32 → Int32 → Int32 → Int32 → xh_H → xh_R Int32) (a0 : Option Nat) (a2 : Int32) (a3 : Int32) (a4 : Int32) (a5 : Int32) (h : xh_H) : xh_R Int32 := (xh_chk h a0 2).bind fun _ =>
  xh_cal (f_X2_behind N a0 a4 h) fun x64 h =>
  if x64 ≤ a5 then
  (f_X2_singAlong_b123 N k44 a0 a2 a3 a4  h)
  else (xh_chk h a0 2).bind fun _ =>
  xh_cal (f_X2_of N a0 a4 (0 : Int32) h) fun x79 h =>
  (xh_chk h a0 2).bind fun _ =>
  xh_cal (f_X2_wantedIn N a0 a4 (a5 - x79) h) fun x83 h =>
  (xh_gR h a0 2 0).bind fun x91 =>
  xh_cal (f_X2_isPitch N (x83 + a3) h) fun x102 h =>
  if x102 = 0 then
  (f_X2_singAlong_b116 N k59 a0 a2 a3 a4 a5 x91 ((206 : Int32) + a5) (0 : Int32) h)
  else f_X2_singAlong_b116 N k59 a0 a2 a3 a4 a5 x91 ((206 : Int32) + a5) ((x83 + a3) + (1 : Int32)) h
def f_X2_singAlong_l59 (N : Nat) (k44 : Option Nat → Int32 → Int32 → Int32 → xh_H → xh_R Int32) : Nat → Option Nat → Int32 → Int32 → Int32 → Int32 → xh_H → xh_R Int32 := xh_loop (fun _ _ _ _ _ _ => none) (fun k59 => f_X2_singAlong_b59 N k44 k59)
def f_X2_singAlong_b44 (N : Nat) (k44 : Option Nat → Int32 → Int32 → Int32 → xh_H → xh_R Int32) (a0 : Option Nat) (a2 : Int32) (a3 : Int32) (a4 : Int32) (h : xh_H) : xh_R Int32 := if a2 < a4 then
  (f_X2_singAlong_b129 N a0  h)
  else (xh_chk h a0 2).bind fun _ =>
  xh_cal (f_X2_of N a0 a4 (0 : Int32) h) fun x54 h =>
  f_X2_singAlong_l59 N k44 N a0 a2 a3 a4 x54  h
def f_X2_singAlong_l44 (N : Nat) : Nat → Option Nat → Int32 → Int32 → Int32 → xh_H → xh_R Int32 := xh_loop (fun _ _ _ _ _ => none) (fun k44 => f_X2_singAlong_b44 N k44)
def f_X2_singAlong_b34 (N : Nat) (h : xh_H) : xh_R Int32 := some ((-2 : Int32), h, 0, 0)
def f_X2_singAlong_b16 (N : Nat) (h : xh_H) : xh_R Int32 := some ((-1 : Int32), h, 0, 0)
def f_X2_singAlong (N : Nat) (a0 : Option Nat) (a1 : Int32) (a2 : Int32) (a3 : Int32) (h : xh_H) : xh_R Int32 := (xh_chk h a0 2).bind fun _ =>
  xh_cal (f_X2_isSyllable N a0 a1 h) fun x2 h =>
  if x2 = 0 then
  (f_X2_singAlong_b16 N  h)
  else (xh_chk h a0 2).bind fun _ =>
  xh_cal (f_X2_isSyllable N a0 a2 h) fun x10 h =>
  if x10 = 0 then
  (f_X2_singAlong_b16 N  h)
  else if a2 < a1 then
  (f_X2_singAlong_b34 N  h)
  else xh_cal (f_X2_in N a3 (-60 : Int32) (60 : Int32) h) fun x28 h =>
  if x28 = 0 then
  (f_X2_singAlong_b34 N  h)
  else (xh_chk h a0 2).bind fun _ =>
  xh_cal (f_X2_record N a0 h) fun _ h =>
  f_X2_singAlong_l44 N N a0 a2 a3 a1  h
def f_X2_type (N : Nat) (a0 : Option Nat) (a1 : Int32) (h : xh_H) : xh_R Int32 := (xh_gI h a0 2 6).bind fun x1 =>
  if x1 = (60 : Int32) then
  (some ((-3 : Int32), h, 0, 0))
  else (xh_gR h a0 2 5).bind fun x13 =>
  (xh_gI h a0 2 6).bind fun x17 =>
  (xh_sv h x13 1 x17 (vp_nar .char a1)).bind fun h =>
  (xh_gI h a0 2 6).bind fun x24 =>
  (xh_pI h a0 2 6 (x24 + (1 : Int32))).bind fun h =>
  (xh_gI h a0 2 6).bind fun x33 =>
  some (x33, h, 0, 0)
def f_X2_clearText (N : Nat) (a0 : Option Nat) (h : xh_H) : xh_R Int32 := (xh_gI h a0 2 6).bind fun x1 =>
  (xh_pI h a0 2 6 (0 : Int32)).bind fun h =>
  some (x1, h, 0, 0)
def f_X2_isNext_b32 (N : Nat) (h : xh_H) : xh_R Int32 := some ((0 : Int32), h, 0, 0)
def f_X2_isNext (N : Nat) (a0 : Option Nat) (a1 : Int32) (a2 : Int32) (h : xh_H) : xh_R Int32 := (xh_gI h a0 2 13).bind fun x1 =>
  (xh_gI h a0 2 6).bind fun x5 =>
  if x5 ≤ x1 then
  (f_X2_isNext_b32 N  h)
  else (xh_gR h a0 2 5).bind fun x12 =>
  (xh_gI h a0 2 13).bind fun x16 =>
  (xh_ld h x12 1 x16).bind fun x19 =>
  xh_cal (f_X2_in N x19 a1 a2 h) fun x22 h =>
  if x22 = 0 then
  (f_X2_isNext_b32 N  h)
  else some ((1 : Int32), h, 0, 0)
def f_X2_readNumber_b110 (N : Nat) (a0 : Option Nat) (a1 : Int32) (a4 : Int32) (h : xh_H) : xh_R Int32 := (xh_gR h a0 2 14).bind fun x111 =>
  (xh_sv h x111 0 a1 a4).bind fun h =>
  some ((1 : Int32), h, 0, 0)
def f_X2_readNumber_b39 (N : Nat) (k39 : Option Nat → Int32 → Int32 → Int32 → xh_H → xh_R Int32) (a0 : Option Nat) (a1 : Int32) (a3 : Int32) (a4 : Int32) (h : xh_H) : xh_R Int32 := if a4 ≤ 0 then
  (f_X2_readNumber_b110 N a0 a1 a4  h)
  else (xh_chk h a0 2).bind fun _ =>
  xh_cal (f_X2_isNext N a0 (48 : Int32) (57 : Int32) h) fun x49 h =>
  if x49 = 0 then
  (f_X2_readNumber_b110 N a0 a1 a4  h)
  else (xh_gR h a0 2 5).bind fun x61 =>
  (xh_gI h a0 2 13).bind fun x65 =>
  (xh_ld h x61 1 x65).bind fun x68 =>
  if a3 < ((((10 : Int32) * a4) + x68) - (48 : Int32)) then
  (f_X2_readNumber_b110 N a0 a1 a4  h)
  else (xh_gR h a0 2 5).bind fun x83 =>
  (xh_gI h a0 2 13).bind fun x87 =>
  (xh_ld h x83 1 x87).bind fun x90 =>
  (xh_gI h a0 2 13).bind fun x99 =>
  (xh_pI h a0 2 13 (x99 + (1 : Int32))).bind fun h =>
  k39 a0 a1 a3 ((((10 : Int32) * a4) + x90) - (48 : Int32))  h
def f_X2_readNumber_l39 (N : Nat) : Nat → Option Nat → Int32 → Int32 → Int32 → xh_H → xh_R Int32 := xh_loop (fun _ _ _ _ _ => none) (fun k39 => f_X2_readNumber_b39 N k39)
def f_X2_readNumber (N : Nat) (a0 : Option Nat) (a1 : Int32) (a2 : Int32) (a3 : Int32) (h : xh_H) : xh_R Int32 := (xh_chk h a0 2).bind fun _ =>
  xh_cal (f_X2_isNext N a0 ((48 : Int32) + a2) (57 : Int32) h) fun x7 h =>
  if x7 = 0 then
  (some ((0 : Int32), h, 0, 0))
  else (xh_gR h a0 2 5).bind fun x16 =>
  (xh_gI h a0 2 13).bind fun x20 =>
  (xh_ld h x16 1 x20).bind fun x23 =>
  (xh_gI h a0 2 13).bind fun x31 =>
  (xh_pI h a0 2 13 (x31 + (1 : Int32))).bind fun h =>
  f_X2_readNumber_l39 N N a0 a1 a3 (x23 - (48 : Int32))  h
def f_X2_takes_b21 (N : Nat) (a2 : Int32) (t0 : Option Nat) (t1 : Int32) (t2 : Int32) (h : xh_H) : xh_R Int32 := (xh_pI h t0 2 13 (t1 + t2)).bind fun h =>
  if a2 = 0 ∨ a2 = 1 then some (a2, h, 0, 0) else none
def f_X2_takes (N : Nat) (a0 : Option Nat) (a1 : Int32) (h : xh_H) : xh_R Int32 := (xh_chk h a0 2).bind fun _ =>
  xh_cal (f_X2_isNext N a0 a1 a1 h) fun x3 h =>
  (xh_gI h a0 2 13).bind fun x9 =>
  if x3 = 0 then
  (f_X2_takes_b21 N x3 a0 x9 (0 : Int32) h)
  else f_X2_takes_b21 N x3 a0 x9 (1 : Int32) h
def f_X2_readSyllable_b98 (N : Nat) (h : xh_H) : xh_R Int32 := some ((0 : Int32), h, 0, 0)
def f_X2_readSyllable_b74 (N : Nat) (a0 : Option Nat) (h : xh_H) : xh_R Int32 := (xh_chk h a0 2).bind fun _ =>
  xh_cal (f_X2_takes N a0 (58 : Int32) h) fun x77 h =>
  if x77 = 0 then
  (f_X2_readSyllable_b98 N  h)
  else (xh_chk h a0 2).bind fun _ =>
  xh_cal (f_X2_readNumber N a0 (3 : Int32) (1 : Int32) (32 : Int32) h) fun x88 h =>
  if x88 = 0 then
  (f_X2_readSyllable_b98 N  h)
  else some ((1 : Int32), h, 0, 0)
def f_X2_readSyllable_b38 (N : Nat) (h : xh_H) : xh_R Int32 := some ((0 : Int32), h, 0, 0)
def f_X2_readSyllable_b27 (N : Nat) (a0 : Option Nat) (h : xh_H) : xh_R Int32 := (xh_chk h a0 2).bind fun _ =>
  xh_cal (f_X2_readNumber N a0 (1 : Int32) (0 : Int32) (60 : Int32) h) fun x32 h =>
  if x32 = 0 then
  (f_X2_readSyllable_b38 N  h)
  else (xh_gR h a0 2 14).bind fun x41 =>
  (xh_gR h a0 2 14).bind fun x46 =>
  (xh_ld h x46 0 (1 : Int32)).bind fun x50 =>
  (xh_sv h x41 0 (2 : Int32) x50).bind fun h =>
  (xh_chk h a0 2).bind fun _ =>
  xh_cal (f_X2_takes N a0 (45 : Int32) h) fun x55 h =>
  if x55 = 0 then
  (f_X2_readSyllable_b74 N a0  h)
  else (xh_chk h a0 2).bind fun _ =>
  xh_cal (f_X2_readNumber N a0 (2 : Int32) (0 : Int32) (60 : Int32) h) fun x66 h =>
  if x66 = 0 then
  (some ((0 : Int32), h, 0, 0))
  else f_X2_readSyllable_b74 N a0  h
def f_X2_readSyllable (N : Nat) (a0 : Option Nat) (h : xh_H) : xh_R Int32 := (xh_gR h a0 2 14).bind fun x1 =>
  (xh_sv h x1 0 (0 : Int32) (0 : Int32)).bind fun h =>
  (xh_chk h a0 2).bind fun _ =>
  xh_cal (f_X2_takes N a0 (46 : Int32) h) fun x10 h =>
  if x10 = 0 then
  (f_X2_readSyllable_b27 N a0  h)
  else (xh_chk h a0 2).bind fun _ =>
  xh_cal (f_X2_readNumber N a0 (0 : Int32) (1 : Int32) (32 : Int32) h) fun x21 h =>
  if x21 = 0 then
  (f_X2_readSyllable_b38 N  h)
  else f_X2_readSyllable_b27 N a0  h
def f_X2_readText_b135 (N : Nat) (h : xh_H) : xh_R Int32 := some ((0 : Int32), h, 0, 0)
def f_X2_readText_b131 (N : Nat) (k17 : Option Nat → Int32 → Int32 → Int32 → xh_H → xh_R Int32) (a0 : Option Nat) (a1 : Int32) (a2 : Int32) (t0 : Int32) (h : xh_H) : xh_R Int32 := k17 a0 a1 a2 t0  h
def f_X2_readText_b130 (N : Nat) (k17 : Option Nat → Int32 → Int32 → Int32 → xh_H → xh_R Int32) (a0 : Option Nat) (a1 : Int32) (a2 : Int32) (h : xh_H) : xh_R Int32 := f_X2_readText_b131 N k17 a0 a1 a2 (0 : Int32) h
def f_X2_readText_b119 (N : Nat) (k17 : Option Nat → Int32 → Int32 → Int32 → xh_H → xh_R Int32) (a0 : Option Nat) (a1 : Int32) (a2 : Int32) (h : xh_H) : xh_R Int32 := (xh_chk h a0 2).bind fun _ =>
  xh_cal (f_X2_readSyllable N a0 h) fun x120 h =>
  if x120 = 0 then
  (f_X2_readText_b130 N k17 a0 a1 a2  h)
  else f_X2_readText_b131 N k17 a0 a1 a2 (1 : Int32) h
def f_X2_readText_b104 (N : Nat) (k17 : Option Nat → Int32 → Int32 → Int32 → xh_H → xh_R Int32) (a0 : Option Nat) (a1 : Int32) (t0 : Int32) (h : xh_H) : xh_R Int32 := if t0 = (1 : Int32) then
  (f_X2_readText_b119 N k17 a0 a1 t0  h)
  else (xh_chk h a0 2).bind fun _ =>
  xh_cal (f_X2_takes N a0 (44 : Int32) h) fun x113 h =>
  if x113 = 0 then
  (f_X2_readText_b130 N k17 a0 a1 t0  h)
  else f_X2_readText_b119 N k17 a0 a1 t0  h
def f_X2_readText_b88 (N : Nat) (h : xh_H) : xh_R Int32 := some ((1 : Int32), h, 0, 0)
def f_X2_readText_b77 (N : Nat) (k17 : Option Nat → Int32 → Int32 → Int32 → xh_H → xh_R Int32) (a0 : Option Nat) (a1 : Int32) (h : xh_H) : xh_R Int32 := (xh_gI h a0 2 13).bind fun x78 =>
  (xh_gI h a0 2 6).bind fun x82 =>
  if x78 = x82 then
  (f_X2_readText_b88 N  h)
  else (xh_chk h a0 2).bind fun _ =>
  xh_cal (f_X2_takes N a0 (47 : Int32) h) fun x93 h =>
  if x93 = 0 then
  (f_X2_readText_b104 N k17 a0 a1 (0 : Int32) h)
  else f_X2_readText_b104 N k17 a0 a1 (1 : Int32) h
def f_X2_readText_b17 (N : Nat) (k17 : Option Nat → Int32 → Int32 → Int32 → xh_H → xh_R Int32) (a0 : Option Nat) (a1 : Int32) (a2 : Int32) (a3 : Int32) (h : xh_H) : xh_R Int32 := if a3 = 0 then
  (f_X2_readText_b135 N  h)
  else (xh_gI h a0 2 15).bind fun x23 =>
  (xh_gR h a0 2 14).bind fun x27 =>
  (xh_ld h x27 0 (0 : Int32)).bind fun x31 =>
  (xh_gR h a0 2 14).bind fun x33 =>
  (xh_ld h x33 0 (3 : Int32)).bind fun x37 =>
  (xh_pI h a0 2 15 (x23 + (x31 + x37))).bind fun h =>
  if a1 = 0 then
  (f_X2_readText_b77 N k17 a0 a1  h)
  else (xh_gR h a0 2 14).bind fun x49 =>
  (xh_ld h x49 0 (0 : Int32)).bind fun x53 =>
  (xh_gR h a0 2 14).bind fun x55 =>
  (xh_ld h x55 0 (1 : Int32)).bind fun x59 =>
  (xh_gR h a0 2 14).bind fun x61 =>
  (xh_ld h x61 0 (2 : Int32)).bind fun x65 =>
  (xh_gR h a0 2 14).bind fun x67 =>
  (xh_ld h x67 0 (3 : Int32)).bind fun x71 =>
  (xh_chk h a0 2).bind fun _ =>
  xh_cal (f_X2_doAdd N a0 x53 x59 x65 x71 a2 h) fun x73 h =>
  f_X2_readText_b77 N k17 a0 a1  h
def f_X2_readText_l17 (N : Nat) : Nat → Option Nat → Int32 → Int32 → Int32 → xh_H → xh_R Int32 := xh_loop (fun _ _ _ _ _ => none) (fun k17 => f_X2_readText_b17 N k17)
def f_X2_readText (N : Nat) (a0 : Option Nat) (a1 : Int32) (h : xh_H) : xh_R Int32 := (xh_pI h a0 2 13 (0 : Int32)).bind fun h =>
  (xh_pI h a0 2 15 (0 : Int32)).bind fun h =>
  (xh_chk h a0 2).bind fun _ =>
  xh_cal (f_X2_readSyllable N a0 h) fun x13 h =>
  f_X2_readText_l17 N N a0 a1 (1 : Int32) x13  h
def f_X2_read (N : Nat) (a0 : Option Nat) (h : xh_H) : xh_R Int32 := (xh_chk h a0 2).bind fun _ =>
  xh_cal (f_X2_readText N a0 (0 : Int32) h) fun x2 h =>
  if x2 = 0 then
  ((xh_gI h a0 2 13).bind fun x11 =>
  some (((-100 : Int32) - x11), h, 0, 0))
  else (xh_gI h a0 2 15).bind fun x17 =>
  if x17 ≤ (600 : Int32) then
  ((xh_chk h a0 2).bind fun _ =>
  xh_cal (f_X2_record N a0 h) fun _ h =>
  (xh_gR h a0 2 0).bind fun x34 =>
  (xh_sv h x34 0 (5 : Int32) (0 : Int32)).bind fun h =>
  (xh_chk h a0 2).bind fun _ =>
  xh_cal (f_X2_readText N a0 (1 : Int32) h) fun x42 h =>
  if x42 = 0 then
  (some ((0 : Int32), h, 0, 0))
  else (xh_gR h a0 2 0).bind fun x49 =>
  (xh_ld h x49 0 (5 : Int32)).bind fun x53 =>
  some (x53, h, 0, 0))
  else some ((-3 : Int32), h, 0, 0)
def f_X2_undo (N : Nat) (a0 : Option Nat) (h : xh_H) : xh_R Int32 := (xh_gI h a0 2 2).bind fun x1 =>
  if x1 = 0 then
  (some ((-5 : Int32), h, 0, 0))
  else (xh_gI h a0 2 2).bind fun x12 =>
  (xh_pI h a0 2 2 (x12 - (1 : Int32))).bind fun h =>
  (xh_gR h a0 2 1).bind fun x21 =>
  (xh_gI h a0 2 2).bind fun x28 =>
  (xh_gR h a0 2 0).bind fun x33 =>
  xh_cal (f_X2_copy N x21 ((806 : Int32) * x28) x33 (0 : Int32) h) fun _ h =>
  (xh_gI h a0 2 2).bind fun x41 =>
  some (x41, h, 0, 0)
def f_X2_keep (N : Nat) (a0 : Option Nat) (h : xh_H) : xh_R Int32 := (xh_gR h a0 2 0).bind fun x1 =>
  (xh_gR h a0 2 3).bind fun x6 =>
  xh_cal (f_X2_copy N x1 (0 : Int32) x6 (0 : Int32) h) fun _ h =>
  (xh_pZ h a0 2 4 (1 : Int32)).bind fun h =>
  (xh_gR h a0 2 0).bind fun x19 =>
  (xh_ld h x19 0 (5 : Int32)).bind fun x23 =>
  some (x23, h, 0, 0)
def f_X2_restore (N : Nat) (a0 : Option Nat) (h : xh_H) : xh_R Int32 := (xh_gI h a0 2 4).bind fun x1 =>
  if x1 = 0 then
  (some ((-5 : Int32), h, 0, 0))
  else (xh_chk h a0 2).bind fun _ =>
  xh_cal (f_X2_record N a0 h) fun _ h =>
  (xh_gR h a0 2 3).bind fun x15 =>
  (xh_gR h a0 2 0).bind fun x20 =>
  xh_cal (f_X2_copy N x15 (0 : Int32) x20 (0 : Int32) h) fun _ h =>
  (xh_gR h a0 2 0).bind fun x28 =>
  (xh_ld h x28 0 (5 : Int32)).bind fun x32 =>
  some (x32, h, 0, 0)
def f_X2_phraseOf_b24 (N : Nat) (a2 : Int32) (h : xh_H) : xh_R Int32 := some (a2, h, 0, 0)
def f_X2_phraseOf_b4 (N : Nat) (k4 : Option Nat → Int32 → Int32 → Int32 → xh_H → xh_R Int32) (a0 : Option Nat) (a1 : Int32) (a2 : Int32) (a3 : Int32) (h : xh_H) : xh_R Int32 := if a1 < a3 then
  (f_X2_phraseOf_b24 N a2  h)
  else (xh_chk h a0 2).bind fun _ =>
  xh_cal (f_X2_of N a0 a3 (4 : Int32) h) fun x13 h =>
  k4 a0 a1 (a2 + x13) (a3 + (1 : Int32))  h
def f_X2_phraseOf_l4 (N : Nat) : Nat → Option Nat → Int32 → Int32 → Int32 → xh_H → xh_R Int32 := xh_loop (fun _ _ _ _ _ => none) (fun k4 => f_X2_phraseOf_b4 N k4)
def f_X2_phraseOf (N : Nat) (a0 : Option Nat) (a1 : Int32) (h : xh_H) : xh_R Int32 := f_X2_phraseOf_l4 N N a0 a1 (-1 : Int32) (0 : Int32)  h
def f_X2_syllable_b76 (N : Nat) (a0 : Option Nat) (a1 : Int32) (a2 : Int32) (h : xh_H) : xh_R Int32 := (xh_chk h a0 2).bind fun _ =>
  xh_cal (f_X2_of N a0 a1 a2 h) fun x79 h =>
  some (x79, h, 0, 0)
def f_X2_syllable (N : Nat) (a0 : Option Nat) (a1 : Int32) (a2 : Int32) (h : xh_H) : xh_R Int32 := (xh_chk h a0 2).bind fun _ =>
  xh_cal (f_X2_isSyllable N a0 a1 h) fun x2 h =>
  if x2 = 0 then
  (some ((-1 : Int32), h, 0, 0))
  else (xh_chk h a0 2).bind fun _ =>
  xh_cal (f_X2_judgeSong N a0 h) fun _ h =>
  if a2 = 0 then
  (f_X2_syllable_b76 N a0 a1 a2  h)
  else if a2 = 1 then
  (f_X2_syllable_b76 N a0 a1 a2  h)
  else if a2 = 2 then
  (f_X2_syllable_b76 N a0 a1 a2  h)
  else if a2 = 3 then
  (f_X2_syllable_b76 N a0 a1 a2  h)
  else if a2 = 4 then
  ((xh_chk h a0 2).bind fun _ =>
  xh_cal (f_X2_phraseOf N a0 a1 h) fun x85 h =>
  some (x85, h, 0, 0))
  else if a2 = 5 then
  ((xh_chk h a0 2).bind fun _ =>
  xh_cal (f_X2_bars N a0 a1 (0 : Int32) h) fun x92 h =>
  some (x92, h, 0, 0))
  else if a2 = 6 then
  ((xh_gR h a0 2 8).bind fun x97 =>
  (xh_ld h x97 0 a1).bind fun x101 =>
  some (x101, h, 0, 0))
  else if a2 = 7 then
  ((xh_chk h a0 2).bind fun _ =>
  xh_cal (f_X2_share N a0 a1 h) fun x105 h =>
  some (x105, h, 0, 0))
  else if a2 = 8 then
  ((xh_gR h a0 2 9).bind fun x110 =>
  (xh_ld h x110 0 a1).bind fun x114 =>
  some (x114, h, 0, 0))
  else if a2 = 9 then
  ((xh_gR h a0 2 10).bind fun x117 =>
  (xh_ld h x117 0 a1).bind fun x121 =>
  some (x121, h, 0, 0))
  else if a2 = 10 then
  ((xh_gR h a0 2 12).bind fun x124 =>
  (xh_ld h x124 0 a1).bind fun x128 =>
  some (x128, h, 0, 0))
  else if a2 = 11 then
  ((xh_gR h a0 2 11).bind fun x131 =>
  (xh_ld h x131 0 a1).bind fun x135 =>
  some (x135, h, 0, 0))
  else some ((-2 : Int32), h, 0, 0)
def f_X2_syllableAt_b47 (N : Nat) (a2 : Int32) (h : xh_H) : xh_R Int32 := some (a2, h, 0, 0)
def f_X2_syllableAt_b40 (N : Nat) (k5 : Option Nat → Int32 → Int32 → Int32 → xh_H → xh_R Int32) (a0 : Option Nat) (a1 : Int32) (a3 : Int32) (t0 : Int32) (h : xh_H) : xh_R Int32 := k5 a0 a1 t0 (a3 + (1 : Int32))  h
def f_X2_syllableAt_b5 (N : Nat) (k5 : Option Nat → Int32 → Int32 → Int32 → xh_H → xh_R Int32) (a0 : Option Nat) (a1 : Int32) (a2 : Int32) (a3 : Int32) (h : xh_H) : xh_R Int32 := (xh_gR h a0 2 0).bind fun x7 =>
  (xh_ld h x7 0 (5 : Int32)).bind fun x11 =>
  if x11 ≤ a3 then
  (f_X2_syllableAt_b47 N a2  h)
  else (xh_chk h a0 2).bind fun _ =>
  xh_cal (f_X2_of N a0 a3 (0 : Int32) h) fun x19 h =>
  (xh_chk h a0 2).bind fun _ =>
  xh_cal (f_X2_behind N a0 a3 h) fun x24 h =>
  xh_cal (f_X2_in N a1 x19 (x24 - (1 : Int32)) h) fun x29 h =>
  if x29 = 0 then
  (f_X2_syllableAt_b40 N k5 a0 a1 a3 a2 h)
  else f_X2_syllableAt_b40 N k5 a0 a1 a3 a3 h
def f_X2_syllableAt_l5 (N : Nat) : Nat → Option Nat → Int32 → Int32 → Int32 → xh_H → xh_R Int32 := xh_loop (fun _ _ _ _ _ => none) (fun k5 => f_X2_syllableAt_b5 N k5)
def f_X2_syllableAt (N : Nat) (a0 : Option Nat) (a1 : Int32) (h : xh_H) : xh_R Int32 := f_X2_syllableAt_l5 N N a0 a1 (-5 : Int32) (0 : Int32)  h
def f_X2_wanted (N : Nat) (a0 : Option Nat) (a1 : Int32) (h : xh_H) : xh_R Int32 := xh_cal (f_X2_isTick N a1 h) fun x1 h =>
  if x1 = 0 then
  (some ((-2 : Int32), h, 0, 0))
  else (xh_chk h a0 2).bind fun _ =>
  xh_cal (f_X2_syllableAt N a0 a1 h) fun x12 h =>
  if x12 = (-5 : Int32) then
  (some ((-5 : Int32), h, 0, 0))
  else (xh_chk h a0 2).bind fun _ =>
  xh_cal (f_X2_of N a0 x12 (0 : Int32) h) fun x33 h =>
  (xh_chk h a0 2).bind fun _ =>
  xh_cal (f_X2_wantedIn N a0 x12 (a1 - x33) h) fun x37 h =>
  some (x37, h, 0, 0)
def f_X2_sung (N : Nat) (a0 : Option Nat) (a1 : Int32) (h : xh_H) : xh_R Int32 := xh_cal (f_X2_isTick N a1 h) fun x1 h =>
  if x1 = 0 then
  (some ((-2 : Int32), h, 0, 0))
  else (xh_gR h a0 2 0).bind fun x11 =>
  (xh_ld h x11 0 ((206 : Int32) + a1)).bind fun x19 =>
  if x19 = 0 then
  (some ((-5 : Int32), h, 0, 0))
  else (xh_gR h a0 2 0).bind fun x29 =>
  (xh_ld h x29 0 ((206 : Int32) + a1)).bind fun x37 =>
  some ((x37 - (1 : Int32)), h, 0, 0)
def f_X2_lit (N : Nat) (a0 : Option Nat) (a1 : Int32) (a2 : Int32) (h : xh_H) : xh_R Int32 := (xh_chk h a0 2).bind fun _ =>
  xh_cal (f_X2_isSyllable N a0 a1 h) fun x2 h =>
  if x2 = 0 then
  (some ((-1 : Int32), h, 0, 0))
  else xh_cal (f_X2_isTick N a2 h) fun x11 h =>
  if x11 = 0 then
  (some ((-2 : Int32), h, 0, 0))
  else (xh_chk h a0 2).bind fun _ =>
  xh_cal (f_X2_of N a0 a1 (0 : Int32) h) fun x24 h =>
  if 0 ≤ ((a2 - x24) + (1 : Int32)) then
  ((xh_chk h a0 2).bind fun _ =>
  xh_cal (f_X2_of N a0 a1 (1 : Int32) h) fun x43 h =>
  if ((a2 - x24) + (1 : Int32)) ≤ x43 then
  (some (((a2 - x24) + (1 : Int32)), h, 0, 0))
  else (xh_chk h a0 2).bind fun _ =>
  xh_cal (f_X2_of N a0 a1 (1 : Int32) h) fun x52 h =>
  some (x52, h, 0, 0))
  else some ((0 : Int32), h, 0, 0)
def f_X2_ofPhrase_b153 (N : Nat) (a2 : Int32) (a3 : Int32) (a4 : Int32) (a5 : Int32) (a7 : Int32) (t0 : Int32) (t1 : Int32) (h : xh_H) : xh_R Int32 := if a2 = 0 then
  (some (a3, h, 0, 0))
  else if a2 = (1 : Int32) then
  (some (a4, h, 0, 0))
  else if a2 = (2 : Int32) then
  (some (a5, h, 0, 0))
  else if a2 = (3 : Int32) then
  (some ((t0 + t1), h, 0, 0))
  else some (a7, h, 0, 0)
def f_X2_ofPhrase_b152 (N : Nat) (a2 : Int32) (a3 : Int32) (a4 : Int32) (a5 : Int32) (a7 : Int32) (t0 : Int32) (h : xh_H) : xh_R Int32 := f_X2_ofPhrase_b153 N a2 a3 a4 a5 a7 t0 (0 : Int32) h
def f_X2_ofPhrase_b132 (N : Nat) (a2 : Int32) (a3 : Int32) (a4 : Int32) (a5 : Int32) (a6 : Int32) (a7 : Int32) (h : xh_H) : xh_R Int32 := if a4 ≤ (1 : Int32) then
  (f_X2_ofPhrase_b152 N a2 a3 a4 a5 a7 a6 h)
  else if a5 = a4 then
  (f_X2_ofPhrase_b153 N a2 a3 a4 a5 a7 a6 (50 : Int32) h)
  else f_X2_ofPhrase_b152 N a2 a3 a4 a5 a7 a6 h
def f_X2_ofPhrase_b126 (N : Nat) (k21 : Option Nat → Int32 → Int32 → Int32 → Int32 → Int32 → Int32 → Int32 → Int32 → Int32 → xh_H → xh_R Int32) (a0 : Option Nat) (a1 : Int32) (a2 : Int32) (a3 : Int32) (a4 : Int32) (a5 : Int32) (a6 : Int32) (a7 : Int32) (a8 : Int32) (a9 : Int32) (h : xh_H) : xh_R Int32 := k21 a0 a1 a2 a3 a4 a5 a6 a7 a8 (a9 + (1 : Int32))  h
def f_X2_ofPhrase_b124 (N : Nat) (k21 : Option Nat → Int32 → Int32 → Int32 → Int32 → Int32 → Int32 → Int32 → Int32 → Int32 → xh_H → xh_R Int32) (a0 : Option Nat) (a1 : Int32) (a2 : Int32) (a3 : Int32) (a4 : Int32) (a5 : Int32) (a6 : Int32) (a8 : Int32) (a9 : Int32) (t0 : Int32) (h : xh_H) : xh_R Int32 := f_X2_ofPhrase_b126 N k21 a0 a1 a2 a3 a4 a5 a6 t0 a8 a9  h
def f_X2_ofPhrase_b108 (N : Nat) (k21 : Option Nat → Int32 → Int32 → Int32 → Int32 → Int32 → Int32 → Int32 → Int32 → Int32 → xh_H → xh_R Int32) (a0 : Option Nat) (a1 : Int32) (a2 : Int32) (a3 : Int32) (a4 : Int32) (a5 : Int32) (a6 : Int32) (a7 : Int32) (a9 : Int32) (t0 : Int32) (h : xh_H) : xh_R Int32 := if t0 ≤ a7 then
  (f_X2_ofPhrase_b124 N k21 a0 a1 a2 a3 a4 a5 a6 t0 a9 a7 h)
  else f_X2_ofPhrase_b124 N k21 a0 a1 a2 a3 a4 a5 a6 t0 a9 t0 h
def f_X2_ofPhrase_b75 (N : Nat) (k21 : Option Nat → Int32 → Int32 → Int32 → Int32 → Int32 → Int32 → Int32 → Int32 → Int32 → xh_H → xh_R Int32) (a0 : Option Nat) (a1 : Int32) (a2 : Int32) (a3 : Int32) (a4 : Int32) (a6 : Int32) (a7 : Int32) (a8 : Int32) (a9 : Int32) (t0 : Int32) (t1 : Int32) (h : xh_H) : xh_R Int32 := (xh_gR h a0 2 12).bind fun x81 =>
  (xh_ld h x81 0 a9).bind fun x86 =>
  (xh_gR h a0 2 10).bind fun x91 =>
  (xh_ld h x91 0 a9).bind fun x96 =>
  if x96 = 0 then
  (f_X2_ofPhrase_b108 N k21 a0 a1 a2 a3 a4 (t0 + t1) (a6 + x86) a7 a9 (a8 + (1 : Int32)) h)
  else f_X2_ofPhrase_b108 N k21 a0 a1 a2 a3 a4 (t0 + t1) (a6 + x86) a7 a9 (0 : Int32) h
def f_X2_ofPhrase_b54 (N : Nat) (k21 : Option Nat → Int32 → Int32 → Int32 → Int32 → Int32 → Int32 → Int32 → Int32 → Int32 → xh_H → xh_R Int32) (a0 : Option Nat) (a1 : Int32) (a2 : Int32) (a4 : Int32) (a5 : Int32) (a6 : Int32) (a7 : Int32) (a8 : Int32) (a9 : Int32) (t0 : Int32) (h : xh_H) : xh_R Int32 := (xh_gR h a0 2 10).bind fun x61 =>
  (xh_ld h x61 0 a9).bind fun x66 =>
  if x66 = 0 then
  (f_X2_ofPhrase_b75 N k21 a0 a1 a2 t0 (a4 + (1 : Int32)) a6 a7 a8 a9 a5 (1 : Int32) h)
  else f_X2_ofPhrase_b75 N k21 a0 a1 a2 t0 (a4 + (1 : Int32)) a6 a7 a8 a9 a5 (0 : Int32) h
def f_X2_ofPhrase_b21 (N : Nat) (k21 : Option Nat → Int32 → Int32 → Int32 → Int32 → Int32 → Int32 → Int32 → Int32 → Int32 → xh_H → xh_R Int32) (a0 : Option Nat) (a1 : Int32) (a2 : Int32) (a3 : Int32) (a4 : Int32) (a5 : Int32) (a6 : Int32) (a7 : Int32) (a8 : Int32) (a9 : Int32) (h : xh_H) : xh_R Int32 := (xh_gR h a0 2 0).bind fun x24 =>
  (xh_ld h x24 0 (5 : Int32)).bind fun x28 =>
  if x28 ≤ a9 then
  (f_X2_ofPhrase_b132 N a2 a3 a4 a5 a6 a7  h)
  else (xh_chk h a0 2).bind fun _ =>
  xh_cal (f_X2_phraseOf N a0 a9 h) fun x35 h =>
  if x35 = a1 then
  (if a3 = (-5 : Int32) then
  (f_X2_ofPhrase_b54 N k21 a0 a1 a2 a4 a5 a6 a7 a8 a9 a9 h)
  else f_X2_ofPhrase_b54 N k21 a0 a1 a2 a4 a5 a6 a7 a8 a9 a3 h)
  else f_X2_ofPhrase_b126 N k21 a0 a1 a2 a3 a4 a5 a6 a7 a8 a9  h
def f_X2_ofPhrase_l21 (N : Nat) : Nat → Option Nat → Int32 → Int32 → Int32 → Int32 → Int32 → Int32 → Int32 → Int32 → Int32 → xh_H → xh_R Int32 := xh_loop (fun _ _ _ _ _ _ _ _ _ _ _ => none) (fun k21 => f_X2_ofPhrase_b21 N k21)
def f_X2_ofPhrase (N : Nat) (a0 : Option Nat) (a1 : Int32) (a2 : Int32) (h : xh_H) : xh_R Int32 := f_X2_ofPhrase_l21 N N a0 a1 a2 (-5 : Int32) (0 : Int32) (0 : Int32) (0 : Int32) (0 : Int32) (0 : Int32) (0 : Int32)  h
def f_X2_phrases (N : Nat) (a0 : Option Nat) (h : xh_H) : xh_R Int32 := (xh_gR h a0 2 0).bind fun x1 =>
  (xh_ld h x1 0 (5 : Int32)).bind fun x5 =>
  if x5 = 0 then
  (some ((0 : Int32), h, 0, 0))
  else (xh_gR h a0 2 0).bind fun x15 =>
  (xh_ld h x15 0 (5 : Int32)).bind fun x19 =>
  (xh_chk h a0 2).bind fun _ =>
  xh_cal (f_X2_phraseOf N a0 (x19 - (1 : Int32)) h) fun x22 h =>
  some ((x22 + (1 : Int32)), h, 0, 0)
def f_X2_phrase (N : Nat) (a0 : Option Nat) (a1 : Int32) (a2 : Int32) (h : xh_H) : xh_R Int32 := (xh_chk h a0 2).bind fun _ =>
  xh_cal (f_X2_phrases N a0 h) fun x3 h =>
  xh_cal (f_X2_in N a1 (0 : Int32) (x3 - (1 : Int32)) h) fun x8 h =>
  if x8 = 0 then
  (some ((-1 : Int32), h, 0, 0))
  else xh_cal (f_X2_in N a2 (0 : Int32) (4 : Int32) h) fun x19 h =>
  if x19 = 0 then
  (some ((-2 : Int32), h, 0, 0))
  else (xh_chk h a0 2).bind fun _ =>
  xh_cal (f_X2_judgeSong N a0 h) fun _ h =>
  (xh_chk h a0 2).bind fun _ =>
  xh_cal (f_X2_ofPhrase N a0 a1 a2 h) fun x35 h =>
  some (x35, h, 0, 0)
def f_X2_allPoints_b27 (N : Nat) (a1 : Int32) (h : xh_H) : xh_R Int32 := some (a1, h, 0, 0)
def f_X2_allPoints_b4 (N : Nat) (k4 : Option Nat → Int32 → Int32 → xh_H → xh_R Int32) (a0 : Option Nat) (a1 : Int32) (a2 : Int32) (h : xh_H) : xh_R Int32 := (xh_chk h a0 2).bind fun _ =>
  xh_cal (f_X2_phrases N a0 h) fun x6 h =>
  if x6 ≤ a2 then
  (f_X2_allPoints_b27 N a1  h)
  else (xh_chk h a0 2).bind fun _ =>
  xh_cal (f_X2_ofPhrase N a0 a2 (3 : Int32) h) fun x16 h =>
  k4 a0 (a1 + x16) (a2 + (1 : Int32))  h
def f_X2_allPoints_l4 (N : Nat) : Nat → Option Nat → Int32 → Int32 → xh_H → xh_R Int32 := xh_loop (fun _ _ _ _ => none) (fun k4 => f_X2_allPoints_b4 N k4)
def f_X2_allPoints (N : Nat) (a0 : Option Nat) (h : xh_H) : xh_R Int32 := f_X2_allPoints_l4 N N a0 (0 : Int32) (0 : Int32)  h
def f_X2_mostPoints_b88 (N : Nat) (a1 : Int32) (h : xh_H) : xh_R Int32 := some (a1, h, 0, 0)
def f_X2_mostPoints_b80 (N : Nat) (k6 : Option Nat → Int32 → Int32 → Int32 → xh_H → xh_R Int32) (a0 : Option Nat) (a2 : Int32) (a3 : Int32) (t0 : Int32) (t1 : Int32) (h : xh_H) : xh_R Int32 := k6 a0 (t0 + t1) a2 (a3 + (1 : Int32))  h
def f_X2_mostPoints_b58 (N : Nat) (k6 : Option Nat → Int32 → Int32 → Int32 → xh_H → xh_R Int32) (a0 : Option Nat) (a2 : Int32) (a3 : Int32) (t0 : Int32) (t1 : Int32) (t2 : Int32) (t3 : Int32) (h : xh_H) : xh_R Int32 := if (a2 + (1 : Int32)) = (2 : Int32) then
  (f_X2_mostPoints_b80 N k6 a0 (a2 + (1 : Int32)) a3 (t0 + ((t1 * (t2 + t3)) / (10 : Int32))) (50 : Int32) h)
  else f_X2_mostPoints_b80 N k6 a0 (a2 + (1 : Int32)) a3 (t0 + ((t1 * (t2 + t3)) / (10 : Int32))) (0 : Int32) h
def f_X2_mostPoints_b31 (N : Nat) (k6 : Option Nat → Int32 → Int32 → Int32 → xh_H → xh_R Int32) (a0 : Option Nat) (a1 : Int32) (a3 : Int32) (t0 : Int32) (h : xh_H) : xh_R Int32 := (xh_chk h a0 2).bind fun _ =>
  xh_cal (f_X2_bars N a0 a3 (0 : Int32) h) fun x39 h =>
  if (10 : Int32) ≤ t0 then
  (f_X2_mostPoints_b58 N k6 a0 t0 a3 a1 ((100 : Int32) + ((5 : Int32) * x39)) (10 : Int32) (10 : Int32) h)
  else f_X2_mostPoints_b58 N k6 a0 t0 a3 a1 ((100 : Int32) + ((5 : Int32) * x39)) (10 : Int32) t0 h
def f_X2_mostPoints_b6 (N : Nat) (k6 : Option Nat → Int32 → Int32 → Int32 → xh_H → xh_R Int32) (a0 : Option Nat) (a1 : Int32) (a2 : Int32) (a3 : Int32) (h : xh_H) : xh_R Int32 := (xh_gR h a0 2 0).bind fun x8 =>
  (xh_ld h x8 0 (5 : Int32)).bind fun x12 =>
  if x12 ≤ a3 then
  (f_X2_mostPoints_b88 N a1  h)
  else (xh_chk h a0 2).bind fun _ =>
  xh_cal (f_X2_of N a0 a3 (4 : Int32) h) fun x19 h =>
  if x19 = (1 : Int32) then
  (f_X2_mostPoints_b31 N k6 a0 a1 a3 (0 : Int32) h)
  else f_X2_mostPoints_b31 N k6 a0 a1 a3 a2 h
def f_X2_mostPoints_l6 (N : Nat) : Nat → Option Nat → Int32 → Int32 → Int32 → xh_H → xh_R Int32 := xh_loop (fun _ _ _ _ _ => none) (fun k6 => f_X2_mostPoints_b6 N k6)
def f_X2_mostPoints (N : Nat) (a0 : Option Nat) (h : xh_H) : xh_R Int32 := f_X2_mostPoints_l6 N N a0 (0 : Int32) (0 : Int32) (0 : Int32)  h
def f_X2_onsets_b33 (N : Nat) (a1 : Int32) (h : xh_H) : xh_R Int32 := some (a1, h, 0, 0)
def f_X2_onsets_b25 (N : Nat) (k4 : Option Nat → Int32 → Int32 → xh_H → xh_R Int32) (a0 : Option Nat) (a2 : Int32) (t0 : Int32) (t1 : Int32) (h : xh_H) : xh_R Int32 := k4 a0 (t0 + t1) (a2 + (1 : Int32))  h
def f_X2_onsets_b4 (N : Nat) (k4 : Option Nat → Int32 → Int32 → xh_H → xh_R Int32) (a0 : Option Nat) (a1 : Int32) (a2 : Int32) (h : xh_H) : xh_R Int32 := if (600 : Int32) ≤ a2 then
  (f_X2_onsets_b33 N a1  h)
  else (xh_chk h a0 2).bind fun _ =>
  xh_cal (f_X2_isOnset N a0 a2 h) fun x14 h =>
  if x14 = 0 then
  (f_X2_onsets_b25 N k4 a0 a2 a1 (0 : Int32) h)
  else f_X2_onsets_b25 N k4 a0 a2 a1 (1 : Int32) h
def f_X2_onsets_l4 (N : Nat) : Nat → Option Nat → Int32 → Int32 → xh_H → xh_R Int32 := xh_loop (fun _ _ _ _ => none) (fun k4 => f_X2_onsets_b4 N k4)
def f_X2_onsets (N : Nat) (a0 : Option Nat) (h : xh_H) : xh_R Int32 := f_X2_onsets_l4 N N a0 (0 : Int32) (0 : Int32)  h
def f_X2_sungTicks_b34 (N : Nat) (a1 : Int32) (h : xh_H) : xh_R Int32 := some (a1, h, 0, 0)
def f_X2_sungTicks_b26 (N : Nat) (k4 : Option Nat → Int32 → Int32 → xh_H → xh_R Int32) (a0 : Option Nat) (a2 : Int32) (t0 : Int32) (t1 : Int32) (h : xh_H) : xh_R Int32 := k4 a0 (t0 + t1) (a2 + (1 : Int32))  h
def f_X2_sungTicks_b4 (N : Nat) (k4 : Option Nat → Int32 → Int32 → xh_H → xh_R Int32) (a0 : Option Nat) (a1 : Int32) (a2 : Int32) (h : xh_H) : xh_R Int32 := if (600 : Int32) ≤ a2 then
  (f_X2_sungTicks_b34 N a1  h)
  else (xh_gR h a0 2 7).bind fun x13 =>
  (xh_ld h x13 0 a2).bind fun x17 =>
  if x17 ≤ 0 then
  (f_X2_sungTicks_b26 N k4 a0 a2 a1 (0 : Int32) h)
  else f_X2_sungTicks_b26 N k4 a0 a2 a1 (1 : Int32) h
def f_X2_sungTicks_l4 (N : Nat) : Nat → Option Nat → Int32 → Int32 → xh_H → xh_R Int32 := xh_loop (fun _ _ _ _ => none) (fun k4 => f_X2_sungTicks_b4 N k4)
def f_X2_sungTicks (N : Nat) (a0 : Option Nat) (h : xh_H) : xh_R Int32 := f_X2_sungTicks_l4 N N a0 (0 : Int32) (0 : Int32)  h
def f_X2_total (N : Nat) (a0 : Option Nat) (a1 : Int32) (h : xh_H) : xh_R Int32 := (xh_chk h a0 2).bind fun _ =>
  xh_cal (f_X2_judgeSong N a0 h) fun _ h =>
  if a1 = 6 then
  ((xh_chk h a0 2).bind fun _ =>
  xh_cal (f_X2_phrases N a0 h) fun x57 h =>
  some (x57, h, 0, 0))
  else if a1 = 7 then
  ((xh_chk h a0 2).bind fun _ =>
  xh_cal (f_X2_endOfSong N a0 h) fun x62 h =>
  some (x62, h, 0, 0))
  else if a1 = 8 then
  ((xh_chk h a0 2).bind fun _ =>
  xh_cal (f_X2_sungTicks N a0 h) fun x67 h =>
  some (x67, h, 0, 0))
  else if a1 = 9 then
  ((xh_chk h a0 2).bind fun _ =>
  xh_cal (f_X2_onsets N a0 h) fun x72 h =>
  some (x72, h, 0, 0))
  else if a1 = 10 then
  ((xh_chk h a0 2).bind fun _ =>
  xh_cal (f_X2_hits N a0 h) fun x77 h =>
  some (x77, h, 0, 0))
  else if a1 = 11 then
  ((xh_chk h a0 2).bind fun _ =>
  xh_cal (f_X2_allPoints N a0 h) fun x82 h =>
  some (x82, h, 0, 0))
  else if a1 = 12 then
  ((xh_chk h a0 2).bind fun _ =>
  xh_cal (f_X2_mostPoints N a0 h) fun x87 h =>
  some (x87, h, 0, 0))
  else if a1 = 13 then
  ((xh_gI h a0 2 2).bind fun x92 =>
  some (x92, h, 0, 0))
  else if a1 = 14 then
  ((xh_gI h a0 2 6).bind fun x97 =>
  some (x97, h, 0, 0))
  else xh_cal (f_X2_in N a1 (0 : Int32) (5 : Int32) h) fun x104 h =>
  if x104 = 0 then
  (some ((-2 : Int32), h, 0, 0))
  else (xh_gR h a0 2 0).bind fun x111 =>
  (xh_ld h x111 0 a1).bind fun x115 =>
  some (x115, h, 0, 0)
def f_X2_pointsShifted (N : Nat) (a0 : Option Nat) (a1 : Int32) (a2 : Int32) (h : xh_H) : xh_R Int32 := (xh_chk h a0 2).bind fun _ =>
  xh_cal (f_X2_hear N a0 a1 a2 h) fun _ h =>
  (xh_chk h a0 2).bind fun _ =>
  xh_cal (f_X2_judge N a0 h) fun _ h =>
  (xh_chk h a0 2).bind fun _ =>
  xh_cal (f_X2_allPoints N a0 h) fun x11 h =>
  some (x11, h, 0, 0)
def f_X2_ifShifted_b31 (N : Nat) (h : xh_H) : xh_R Int32 := some ((-2 : Int32), h, 0, 0)
def f_X2_ifShifted (N : Nat) (a0 : Option Nat) (a1 : Int32) (a2 : Int32) (h : xh_H) : xh_R Int32 := xh_cal (f_X2_in N a1 (-32 : Int32) (32 : Int32) h) fun x5 h =>
  if x5 = 0 then
  (f_X2_ifShifted_b31 N  h)
  else xh_cal (f_X2_in N a2 (-60 : Int32) (60 : Int32) h) fun x16 h =>
  if x16 = 0 then
  (f_X2_ifShifted_b31 N  h)
  else (xh_chk h a0 2).bind fun _ =>
  xh_cal (f_X2_pointsShifted N a0 a1 a2 h) fun x25 h =>
  some (x25, h, 0, 0)
def f_X2_bestShift_b76 (N : Nat) (a1 : Int32) (h : xh_H) : xh_R Int32 := some ((a1 + (32 : Int32)), h, 0, 0)
def f_X2_bestShift_b69 (N : Nat) (k11 : Option Nat → Int32 → Int32 → Int32 → xh_H → xh_R Int32) (a0 : Option Nat) (a1 : Int32) (a3 : Int32) (t0 : Int32) (h : xh_H) : xh_R Int32 := k11 a0 a1 t0 (a3 + (1 : Int32))  h
def f_X2_bestShift_b56 (N : Nat) (k11 : Option Nat → Int32 → Int32 → Int32 → xh_H → xh_R Int32) (a0 : Option Nat) (a2 : Int32) (a3 : Int32) (a5 : Int32) (t0 : Int32) (h : xh_H) : xh_R Int32 := if a5 ≤ a2 then
  (f_X2_bestShift_b69 N k11 a0 t0 a3 a2 h)
  else f_X2_bestShift_b69 N k11 a0 t0 a3 a5 h
def f_X2_bestShift_b33 (N : Nat) (k11 : Option Nat → Int32 → Int32 → Int32 → xh_H → xh_R Int32) (a0 : Option Nat) (a1 : Int32) (a2 : Int32) (a3 : Int32) (t0 : Int32) (h : xh_H) : xh_R Int32 := (xh_chk h a0 2).bind fun _ =>
  xh_cal (f_X2_pointsShifted N a0 t0 (0 : Int32) h) fun x39 h =>
  if x39 ≤ a2 then
  (f_X2_bestShift_b56 N k11 a0 a2 a3 x39 a1 h)
  else f_X2_bestShift_b56 N k11 a0 a2 a3 x39 t0 h
def f_X2_bestShift_b11 (N : Nat) (k11 : Option Nat → Int32 → Int32 → Int32 → xh_H → xh_R Int32) (a0 : Option Nat) (a1 : Int32) (a2 : Int32) (a3 : Int32) (h : xh_H) : xh_R Int32 := if (66 : Int32) ≤ a3 then
  (f_X2_bestShift_b76 N a1  h)
  else if (a3 - a3 / (2 : Int32) * (2 : Int32)) = 0 then
  (f_X2_bestShift_b33 N k11 a0 a1 a2 a3 (-(a3 / (2 : Int32))) h)
  else f_X2_bestShift_b33 N k11 a0 a1 a2 a3 (a3 / (2 : Int32)) h
def f_X2_bestShift_l11 (N : Nat) : Nat → Option Nat → Int32 → Int32 → Int32 → xh_H → xh_R Int32 := xh_loop (fun _ _ _ _ _ => none) (fun k11 => f_X2_bestShift_b11 N k11)
def f_X2_bestShift (N : Nat) (a0 : Option Nat) (h : xh_H) : xh_R Int32 := (xh_chk h a0 2).bind fun _ =>
  xh_cal (f_X2_pointsShifted N a0 (0 : Int32) (0 : Int32) h) fun x5 h =>
  f_X2_bestShift_l11 N N a0 (0 : Int32) x5 (2 : Int32)  h
def f_X2_ifSet (N : Nat) (a0 : Option Nat) (a1 : Int32) (a2 : Int32) (h : xh_H) : xh_R Int32 := xh_cal (f_X2_settingError N a1 a2 h) fun x2 h =>
  if 0 ≤ x2 then
  ((xh_gR h a0 2 0).bind fun x13 =>
  (xh_ld h x13 0 a1).bind fun x17 =>
  (xh_gR h a0 2 0).bind fun x21 =>
  (xh_sv h x21 0 a1 a2).bind fun h =>
  (xh_chk h a0 2).bind fun _ =>
  xh_cal (f_X2_pointsShifted N a0 (0 : Int32) (0 : Int32) h) fun x30 h =>
  (xh_gR h a0 2 0).bind fun x36 =>
  (xh_sv h x36 0 a1 x17).bind fun h =>
  some (x30, h, 0, 0))
  else some (x2, h, 0, 0)
def f_X2_worst_b50 (N : Nat) (a1 : Int32) (h : xh_H) : xh_R Int32 := some (a1, h, 0, 0)
def f_X2_worst_b43 (N : Nat) (k9 : Option Nat → Int32 → Int32 → xh_H → xh_R Int32) (a0 : Option Nat) (a2 : Int32) (t0 : Int32) (h : xh_H) : xh_R Int32 := k9 a0 t0 (a2 + (1 : Int32))  h
def f_X2_worst_b38 (N : Nat) (k9 : Option Nat → Int32 → Int32 → xh_H → xh_R Int32) (a0 : Option Nat) (a2 : Int32) (h : xh_H) : xh_R Int32 := f_X2_worst_b43 N k9 a0 a2 a2 h
def f_X2_worst_b9 (N : Nat) (k9 : Option Nat → Int32 → Int32 → xh_H → xh_R Int32) (a0 : Option Nat) (a1 : Int32) (a2 : Int32) (h : xh_H) : xh_R Int32 := (xh_chk h a0 2).bind fun _ =>
  xh_cal (f_X2_phrases N a0 h) fun x11 h =>
  if x11 ≤ a2 then
  (f_X2_worst_b50 N a1  h)
  else if a1 = (-5 : Int32) then
  (f_X2_worst_b38 N k9 a0 a2  h)
  else (xh_chk h a0 2).bind fun _ =>
  xh_cal (f_X2_ofPhrase N a0 a2 (3 : Int32) h) fun x26 h =>
  (xh_chk h a0 2).bind fun _ =>
  xh_cal (f_X2_ofPhrase N a0 a1 (3 : Int32) h) fun x32 h =>
  if x32 ≤ x26 then
  (f_X2_worst_b43 N k9 a0 a2 a1 h)
  else f_X2_worst_b38 N k9 a0 a2  h
def f_X2_worst_l9 (N : Nat) : Nat → Option Nat → Int32 → Int32 → xh_H → xh_R Int32 := xh_loop (fun _ _ _ _ => none) (fun k9 => f_X2_worst_b9 N k9)
def f_X2_worst (N : Nat) (a0 : Option Nat) (h : xh_H) : xh_R Int32 := (xh_chk h a0 2).bind fun _ =>
  xh_cal (f_X2_judgeSong N a0 h) fun _ h =>
  f_X2_worst_l9 N N a0 (-5 : Int32) (0 : Int32)  h
