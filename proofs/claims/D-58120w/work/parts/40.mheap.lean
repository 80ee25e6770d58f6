/-! THE MODEL's CELLS in the pure heap: its object at b, its arrays at b + 1 .. b + 11 (s, history, snapshot, text, heard, matching, onset, why, row, points, told); F: kept, isTaken, length, place, ticksOfText -/
set_option maxRecDepth 100000
def xm_len (j : Nat) : Nat := match j with
  | 1 => 806
  | 2 => 3224
  | 3 => 806
  | 4 => 60
  | 5 => 600
  | 11 => 4
  | _ => 40
def xm_E (b : Nat) (F : Nat → Int32) (V : Nat → Nat → Int32) (j : Nat) : xh_E := match j with
  | 0 => .inr (.inr (2, [.ref (b + 1), .ref (b + 2), .int (F 0), .ref (b + 3), .int (F 1), .ref (b + 4), .int (F 2), .ref (b + 5), .ref (b + 6), .ref (b + 7), .ref (b + 8), .ref (b + 9), .ref (b + 10), .int (F 3), .ref (b + 11), .int (F 4)]))
  | 4 => .inl (1, 60, V 4)
  | j => .inl (0, xm_len j, V j)
def xm_M (h : xh_H) (b : Nat) (F : Nat → Int32) (V : Nat → Nat → Int32) : xh_H := (fun q => if b ≤ q ∧ q < b + 12 then some (xm_E b F V (q - b)) else h.1 q, h.2)
def xm_sF (F : Nat → Int32) (k : Nat) (x : Int32) : Nat → Int32 := fun j => if j = k then x else F j
def xm_sV (V : Nat → Nat → Int32) (k : Nat) (f : Nat → Int32) : Nat → Nat → Int32 := fun j => if j = k then f else V j
theorem xm_at {h : xh_H} {b j : Nat} {F : Nat → Int32} {V : Nat → Nat → Int32} (hj : j < 12) : (xm_M h b F V).1 (b + j) = some (xm_E b F V j) := by
  show (if b ≤ b + j ∧ b + j < b + 12 then some (xm_E b F V (b + j - b)) else h.1 (b + j)) = _
  rw [if_pos (by omega), Nat.add_sub_cancel_left]
theorem xm_ob {h : xh_H} {b : Nat} {F : Nat → Int32} {V : Nat → Nat → Int32} : xh_ob (xm_M h b F V) (some b) 2 = some [.ref (b + 1), .ref (b + 2), .int (F 0), .ref (b + 3), .int (F 1), .ref (b + 4), .int (F 2), .ref (b + 5), .ref (b + 6), .ref (b + 7), .ref (b + 8), .ref (b + 9), .ref (b + 10), .int (F 3), .ref (b + 11), .int (F 4)] := by
  have e : (xm_M h b F V).1 b = _ := xm_at (h := h) (b := b) (F := F) (V := V) (j := 0) (by omega)
  unfold xh_ob
  simp only [e, xm_E, if_pos]
theorem xh_ldN {h : xh_H} {r : Option Nat} {k i n : Nat} {f : Nat → Int32} (e : xh_ai h r k = some (n, f)) (hi : i < n) (hn : n < 2147483648) : xh_ld h r k (nI i) = some (f i) := by
  unfold xh_ld
  rw [e]
  show (if 0 ≤ nI i ∧ (nI i).toNatClampNeg < n then some (f (nI i).toNatClampNeg) else none) = _
  rw [nI_clamp (by omega), if_pos ⟨nI_pos' (by omega), hi⟩]
theorem xh_svN {h : xh_H} {a k i n : Nat} {f : Nat → Int32} {x : Int32} (e : xh_ai h (some a) k = some (n, f)) (hi : i < n) (hn : n < 2147483648) : xh_sv h (some a) k (nI i) x = some (xh_set h a (.inl (k, n, upd f i x))) := by
  unfold xh_sv
  rw [e]
  show (if 0 ≤ nI i ∧ (nI i).toNatClampNeg < n then some (xh_set h a (.inl (k, n, upd f (nI i).toNatClampNeg x))) else none) = _
  rw [nI_clamp (by omega), if_pos ⟨nI_pos' (by omega), hi⟩]
theorem xc_0 {ρ ω : Type} {x : ρ} {h : xh_H} {F : ρ → xh_H → xh_R ω} : xh_cal (some (x, h, 0, 0)) F = F x h := by
  show xh_ad 0 0 (F x h) = F x h
  rcases F x h with _ | ⟨y, h', a, b⟩
  · rfl
  · show some (y, h', 0 + a, 0 + b) = _
    rw [Nat.zero_add, Nat.zero_add]
theorem xc_k {ρ ω : Type} {x : ρ} {h : xh_H} {k n : Nat} {F : ρ → xh_H → xh_R ω} : xh_cal (some (x, h, k, n)) F = xh_ad k n (F x h) := rfl
theorem xc_ad {ω : Type} {x : ω} {h : xh_H} {k n a c : Nat} : xh_ad k n (some (x, h, a, c)) = some (x, h, k + a, n + c) := rfl
/-- a loop: ap i takes it at its i-th turn -/
theorem xl_run {α β : Type} (z : α) (st : α → α) (ap : Nat → α → β) (out : β) (e : Nat) (hs : ∀ k i, i < e → ap i (st k) = ap (i + 1) k) (hx : ∀ k, ap e (st k) = out) : ∀ n i, i ≤ e → e < i + n → ap i (xh_loop z st n) = out := by
  intro n
  induction n with
  | zero => intro i h1 h2; omega
  | succ n ih =>
    intro i h1 h2
    show ap i (st (xh_loop z st n)) = out
    by_cases h : i = e
    · subst h; exact hx _
    · rw [hs _ i (by omega)]
      exact ih (i + 1) (by omega) (by omega)
section MG
variable {h : xh_H} {b : Nat} {F : Nat → Int32} {V : Nat → Nat → Int32}
theorem xm_chk : xh_chk (xm_M h b F V) (some b) 2 = some () := by unfold xh_chk; rw [xm_ob]; rfl
theorem xm_g0 : xh_gR (xm_M h b F V) (some b) 2 0 = some (some (b + 1)) := by unfold xh_gR; rw [xm_ob]; rfl
theorem xm_g1 : xh_gR (xm_M h b F V) (some b) 2 1 = some (some (b + 2)) := by unfold xh_gR; rw [xm_ob]; rfl
theorem xm_g3 : xh_gR (xm_M h b F V) (some b) 2 3 = some (some (b + 3)) := by unfold xh_gR; rw [xm_ob]; rfl
theorem xm_g5 : xh_gR (xm_M h b F V) (some b) 2 5 = some (some (b + 4)) := by unfold xh_gR; rw [xm_ob]; rfl
theorem xm_g7 : xh_gR (xm_M h b F V) (some b) 2 7 = some (some (b + 5)) := by unfold xh_gR; rw [xm_ob]; rfl
theorem xm_g8 : xh_gR (xm_M h b F V) (some b) 2 8 = some (some (b + 6)) := by unfold xh_gR; rw [xm_ob]; rfl
theorem xm_g9 : xh_gR (xm_M h b F V) (some b) 2 9 = some (some (b + 7)) := by unfold xh_gR; rw [xm_ob]; rfl
theorem xm_g10 : xh_gR (xm_M h b F V) (some b) 2 10 = some (some (b + 8)) := by unfold xh_gR; rw [xm_ob]; rfl
theorem xm_g11 : xh_gR (xm_M h b F V) (some b) 2 11 = some (some (b + 9)) := by unfold xh_gR; rw [xm_ob]; rfl
theorem xm_g12 : xh_gR (xm_M h b F V) (some b) 2 12 = some (some (b + 10)) := by unfold xh_gR; rw [xm_ob]; rfl
theorem xm_g14 : xh_gR (xm_M h b F V) (some b) 2 14 = some (some (b + 11)) := by unfold xh_gR; rw [xm_ob]; rfl
theorem xm_i2 : xh_gI (xm_M h b F V) (some b) 2 2 = some (F 0) := by unfold xh_gI; rw [xm_ob]; rfl
theorem xm_i4 : xh_gI (xm_M h b F V) (some b) 2 4 = some (F 1) := by unfold xh_gI; rw [xm_ob]; rfl
theorem xm_i6 : xh_gI (xm_M h b F V) (some b) 2 6 = some (F 2) := by unfold xh_gI; rw [xm_ob]; rfl
theorem xm_i13 : xh_gI (xm_M h b F V) (some b) 2 13 = some (F 3) := by unfold xh_gI; rw [xm_ob]; rfl
theorem xm_i15 : xh_gI (xm_M h b F V) (some b) 2 15 = some (F 4) := by unfold xh_gI; rw [xm_ob]; rfl
/-- a cell of the model is put -/
theorem xm_set {j : Nat} {F' : Nat → Int32} {V' : Nat → Nat → Int32} {e : xh_E} (hj : j < 12) (he : e = xm_E b F' V' j) (ho : ∀ i, i < 12 → i ≠ j → xm_E b F V i = xm_E b F' V' i) : xh_set (xm_M h b F V) (b + j) e = xm_M h b F' V' := by
  subst he
  unfold xh_set xm_M
  congr 1
  funext q
  by_cases hq : q = b + j
  · subst hq
    rw [if_pos rfl, if_pos (by omega), Nat.add_sub_cancel_left]
  · rw [if_neg hq]
    show (if b ≤ q ∧ q < b + 12 then some (xm_E b F V (q - b)) else h.1 q) = if b ≤ q ∧ q < b + 12 then some (xm_E b F' V' (q - b)) else h.1 q
    by_cases hr : b ≤ q ∧ q < b + 12
    · rw [if_pos hr, if_pos hr, ho (q - b) (by omega) (by omega)]
    · rw [if_neg hr, if_neg hr]
theorem xm_pf {k i : Nat} {x : Int32} {v : Value} (hk : k < 16) (he : xm_E b (xm_sF F i x) V 0 = .inr (.inr (2, ([.ref (b + 1), .ref (b + 2), .int (F 0), .ref (b + 3), .int (F 1), .ref (b + 4), .int (F 2), .ref (b + 5), .ref (b + 6), .ref (b + 7), .ref (b + 8), .ref (b + 9), .ref (b + 10), .int (F 3), .ref (b + 11), .int (F 4)] : List Value).set k v))) : xh_pf (xm_M h b F V) (some b) 2 k v = some (xm_M h b (xm_sF F i x) V) := by
  unfold xh_pf
  rw [xm_ob]
  show (if k < 16 then some (xh_set (xm_M h b F V) b _) else none) = _
  rw [if_pos hk]
  exact congrArg some (xm_set (j := 0) (by omega) he.symm (fun i hi hn => by
    unfold xm_E
    split
    · exact absurd rfl hn
    · rfl
    · rfl))
theorem xm_p2 {x : Int32} : xh_pI (xm_M h b F V) (some b) 2 2 x = some (xm_M h b (xm_sF F 0 x) V) := xm_pf (by omega) rfl
theorem xm_p4 {x : Int32} (hx : x = 0 ∨ x = 1) : xh_pZ (xm_M h b F V) (some b) 2 4 x = some (xm_M h b (xm_sF F 1 x) V) := by unfold xh_pZ; rw [if_pos hx]; exact xm_pf (by omega) rfl
theorem xm_p6 {x : Int32} : xh_pI (xm_M h b F V) (some b) 2 6 x = some (xm_M h b (xm_sF F 2 x) V) := xm_pf (by omega) rfl
theorem xm_p13 {x : Int32} : xh_pI (xm_M h b F V) (some b) 2 13 x = some (xm_M h b (xm_sF F 3 x) V) := xm_pf (by omega) rfl
theorem xm_p15 {x : Int32} : xh_pI (xm_M h b F V) (some b) 2 15 x = some (xm_M h b (xm_sF F 4 x) V) := xm_pf (by omega) rfl
theorem xm_a1 : xh_ai (xm_M h b F V) (some (b + 1)) 0 = some (806, V 1) := by
  have e : (xm_M h b F V).1 (b + 1) = _ := xm_at (h := h) (b := b) (F := F) (V := V) (j := 1) (by omega)
  unfold xh_ai
  simp only [e, xm_E, xm_len, if_pos]
theorem xm_l1 {i : Nat} (hi : i < 806) : xh_ld (xm_M h b F V) (some (b + 1)) 0 (nI i) = some (V 1 i) := xh_ldN xm_a1 hi (by omega)
theorem xm_s1 {i : Nat} {x : Int32} (hi : i < 806) : xh_sv (xm_M h b F V) (some (b + 1)) 0 (nI i) x = some (xm_M h b F (xm_sV V 1 (upd (V 1) i x))) := by
  rw [xh_svN xm_a1 hi (by omega)]
  refine congrArg some (xm_set (by omega) rfl fun i hi hn => ?_)
  have e : xm_sV V 1 (upd (V 1) i x) i = V i := by unfold xm_sV; exact if_neg hn
  unfold xm_E
  split
  · rfl
  · first | exact absurd rfl hn | rfl
  · first | rfl | rw [xm_sV, if_neg hn]
theorem xm_a2 : xh_ai (xm_M h b F V) (some (b + 2)) 0 = some (3224, V 2) := by
  have e : (xm_M h b F V).1 (b + 2) = _ := xm_at (h := h) (b := b) (F := F) (V := V) (j := 2) (by omega)
  unfold xh_ai
  simp only [e, xm_E, xm_len, if_pos]
theorem xm_l2 {i : Nat} (hi : i < 3224) : xh_ld (xm_M h b F V) (some (b + 2)) 0 (nI i) = some (V 2 i) := xh_ldN xm_a2 hi (by omega)
theorem xm_s2 {i : Nat} {x : Int32} (hi : i < 3224) : xh_sv (xm_M h b F V) (some (b + 2)) 0 (nI i) x = some (xm_M h b F (xm_sV V 2 (upd (V 2) i x))) := by
  rw [xh_svN xm_a2 hi (by omega)]
  refine congrArg some (xm_set (by omega) rfl fun i hi hn => ?_)
  have e : xm_sV V 2 (upd (V 2) i x) i = V i := by unfold xm_sV; exact if_neg hn
  unfold xm_E
  split
  · rfl
  · first | exact absurd rfl hn | rfl
  · first | rfl | rw [xm_sV, if_neg hn]
theorem xm_a3 : xh_ai (xm_M h b F V) (some (b + 3)) 0 = some (806, V 3) := by
  have e : (xm_M h b F V).1 (b + 3) = _ := xm_at (h := h) (b := b) (F := F) (V := V) (j := 3) (by omega)
  unfold xh_ai
  simp only [e, xm_E, xm_len, if_pos]
theorem xm_l3 {i : Nat} (hi : i < 806) : xh_ld (xm_M h b F V) (some (b + 3)) 0 (nI i) = some (V 3 i) := xh_ldN xm_a3 hi (by omega)
theorem xm_s3 {i : Nat} {x : Int32} (hi : i < 806) : xh_sv (xm_M h b F V) (some (b + 3)) 0 (nI i) x = some (xm_M h b F (xm_sV V 3 (upd (V 3) i x))) := by
  rw [xh_svN xm_a3 hi (by omega)]
  refine congrArg some (xm_set (by omega) rfl fun i hi hn => ?_)
  have e : xm_sV V 3 (upd (V 3) i x) i = V i := by unfold xm_sV; exact if_neg hn
  unfold xm_E
  split
  · rfl
  · first | exact absurd rfl hn | rfl
  · first | rfl | rw [xm_sV, if_neg hn]
theorem xm_a4 : xh_ai (xm_M h b F V) (some (b + 4)) 1 = some (60, V 4) := by
  have e : (xm_M h b F V).1 (b + 4) = _ := xm_at (h := h) (b := b) (F := F) (V := V) (j := 4) (by omega)
  unfold xh_ai
  simp only [e, xm_E, xm_len, if_pos]
theorem xm_l4 {i : Nat} (hi : i < 60) : xh_ld (xm_M h b F V) (some (b + 4)) 1 (nI i) = some (V 4 i) := xh_ldN xm_a4 hi (by omega)
theorem xm_s4 {i : Nat} {x : Int32} (hi : i < 60) : xh_sv (xm_M h b F V) (some (b + 4)) 1 (nI i) x = some (xm_M h b F (xm_sV V 4 (upd (V 4) i x))) := by
  rw [xh_svN xm_a4 hi (by omega)]
  refine congrArg some (xm_set (by omega) rfl fun i hi hn => ?_)
  have e : xm_sV V 4 (upd (V 4) i x) i = V i := by unfold xm_sV; exact if_neg hn
  unfold xm_E
  split
  · rfl
  · first | exact absurd rfl hn | rfl
  · first | rfl | rw [xm_sV, if_neg hn]
theorem xm_a5 : xh_ai (xm_M h b F V) (some (b + 5)) 0 = some (600, V 5) := by
  have e : (xm_M h b F V).1 (b + 5) = _ := xm_at (h := h) (b := b) (F := F) (V := V) (j := 5) (by omega)
  unfold xh_ai
  simp only [e, xm_E, xm_len, if_pos]
theorem xm_l5 {i : Nat} (hi : i < 600) : xh_ld (xm_M h b F V) (some (b + 5)) 0 (nI i) = some (V 5 i) := xh_ldN xm_a5 hi (by omega)
theorem xm_s5 {i : Nat} {x : Int32} (hi : i < 600) : xh_sv (xm_M h b F V) (some (b + 5)) 0 (nI i) x = some (xm_M h b F (xm_sV V 5 (upd (V 5) i x))) := by
  rw [xh_svN xm_a5 hi (by omega)]
  refine congrArg some (xm_set (by omega) rfl fun i hi hn => ?_)
  have e : xm_sV V 5 (upd (V 5) i x) i = V i := by unfold xm_sV; exact if_neg hn
  unfold xm_E
  split
  · rfl
  · first | exact absurd rfl hn | rfl
  · first | rfl | rw [xm_sV, if_neg hn]
theorem xm_a6 : xh_ai (xm_M h b F V) (some (b + 6)) 0 = some (40, V 6) := by
  have e : (xm_M h b F V).1 (b + 6) = _ := xm_at (h := h) (b := b) (F := F) (V := V) (j := 6) (by omega)
  unfold xh_ai
  simp only [e, xm_E, xm_len, if_pos]
theorem xm_l6 {i : Nat} (hi : i < 40) : xh_ld (xm_M h b F V) (some (b + 6)) 0 (nI i) = some (V 6 i) := xh_ldN xm_a6 hi (by omega)
theorem xm_s6 {i : Nat} {x : Int32} (hi : i < 40) : xh_sv (xm_M h b F V) (some (b + 6)) 0 (nI i) x = some (xm_M h b F (xm_sV V 6 (upd (V 6) i x))) := by
  rw [xh_svN xm_a6 hi (by omega)]
  refine congrArg some (xm_set (by omega) rfl fun i hi hn => ?_)
  have e : xm_sV V 6 (upd (V 6) i x) i = V i := by unfold xm_sV; exact if_neg hn
  unfold xm_E
  split
  · rfl
  · first | exact absurd rfl hn | rfl
  · first | rfl | rw [xm_sV, if_neg hn]
theorem xm_a7 : xh_ai (xm_M h b F V) (some (b + 7)) 0 = some (40, V 7) := by
  have e : (xm_M h b F V).1 (b + 7) = _ := xm_at (h := h) (b := b) (F := F) (V := V) (j := 7) (by omega)
  unfold xh_ai
  simp only [e, xm_E, xm_len, if_pos]
theorem xm_l7 {i : Nat} (hi : i < 40) : xh_ld (xm_M h b F V) (some (b + 7)) 0 (nI i) = some (V 7 i) := xh_ldN xm_a7 hi (by omega)
theorem xm_s7 {i : Nat} {x : Int32} (hi : i < 40) : xh_sv (xm_M h b F V) (some (b + 7)) 0 (nI i) x = some (xm_M h b F (xm_sV V 7 (upd (V 7) i x))) := by
  rw [xh_svN xm_a7 hi (by omega)]
  refine congrArg some (xm_set (by omega) rfl fun i hi hn => ?_)
  have e : xm_sV V 7 (upd (V 7) i x) i = V i := by unfold xm_sV; exact if_neg hn
  unfold xm_E
  split
  · rfl
  · first | exact absurd rfl hn | rfl
  · first | rfl | rw [xm_sV, if_neg hn]
theorem xm_a8 : xh_ai (xm_M h b F V) (some (b + 8)) 0 = some (40, V 8) := by
  have e : (xm_M h b F V).1 (b + 8) = _ := xm_at (h := h) (b := b) (F := F) (V := V) (j := 8) (by omega)
  unfold xh_ai
  simp only [e, xm_E, xm_len, if_pos]
theorem xm_l8 {i : Nat} (hi : i < 40) : xh_ld (xm_M h b F V) (some (b + 8)) 0 (nI i) = some (V 8 i) := xh_ldN xm_a8 hi (by omega)
theorem xm_s8 {i : Nat} {x : Int32} (hi : i < 40) : xh_sv (xm_M h b F V) (some (b + 8)) 0 (nI i) x = some (xm_M h b F (xm_sV V 8 (upd (V 8) i x))) := by
  rw [xh_svN xm_a8 hi (by omega)]
  refine congrArg some (xm_set (by omega) rfl fun i hi hn => ?_)
  have e : xm_sV V 8 (upd (V 8) i x) i = V i := by unfold xm_sV; exact if_neg hn
  unfold xm_E
  split
  · rfl
  · first | exact absurd rfl hn | rfl
  · first | rfl | rw [xm_sV, if_neg hn]
theorem xm_a9 : xh_ai (xm_M h b F V) (some (b + 9)) 0 = some (40, V 9) := by
  have e : (xm_M h b F V).1 (b + 9) = _ := xm_at (h := h) (b := b) (F := F) (V := V) (j := 9) (by omega)
  unfold xh_ai
  simp only [e, xm_E, xm_len, if_pos]
theorem xm_l9 {i : Nat} (hi : i < 40) : xh_ld (xm_M h b F V) (some (b + 9)) 0 (nI i) = some (V 9 i) := xh_ldN xm_a9 hi (by omega)
theorem xm_s9 {i : Nat} {x : Int32} (hi : i < 40) : xh_sv (xm_M h b F V) (some (b + 9)) 0 (nI i) x = some (xm_M h b F (xm_sV V 9 (upd (V 9) i x))) := by
  rw [xh_svN xm_a9 hi (by omega)]
  refine congrArg some (xm_set (by omega) rfl fun i hi hn => ?_)
  have e : xm_sV V 9 (upd (V 9) i x) i = V i := by unfold xm_sV; exact if_neg hn
  unfold xm_E
  split
  · rfl
  · first | exact absurd rfl hn | rfl
  · first | rfl | rw [xm_sV, if_neg hn]
theorem xm_a10 : xh_ai (xm_M h b F V) (some (b + 10)) 0 = some (40, V 10) := by
  have e : (xm_M h b F V).1 (b + 10) = _ := xm_at (h := h) (b := b) (F := F) (V := V) (j := 10) (by omega)
  unfold xh_ai
  simp only [e, xm_E, xm_len, if_pos]
theorem xm_l10 {i : Nat} (hi : i < 40) : xh_ld (xm_M h b F V) (some (b + 10)) 0 (nI i) = some (V 10 i) := xh_ldN xm_a10 hi (by omega)
theorem xm_s10 {i : Nat} {x : Int32} (hi : i < 40) : xh_sv (xm_M h b F V) (some (b + 10)) 0 (nI i) x = some (xm_M h b F (xm_sV V 10 (upd (V 10) i x))) := by
  rw [xh_svN xm_a10 hi (by omega)]
  refine congrArg some (xm_set (by omega) rfl fun i hi hn => ?_)
  have e : xm_sV V 10 (upd (V 10) i x) i = V i := by unfold xm_sV; exact if_neg hn
  unfold xm_E
  split
  · rfl
  · first | exact absurd rfl hn | rfl
  · first | rfl | rw [xm_sV, if_neg hn]
theorem xm_a11 : xh_ai (xm_M h b F V) (some (b + 11)) 0 = some (4, V 11) := by
  have e : (xm_M h b F V).1 (b + 11) = _ := xm_at (h := h) (b := b) (F := F) (V := V) (j := 11) (by omega)
  unfold xh_ai
  simp only [e, xm_E, xm_len, if_pos]
theorem xm_l11 {i : Nat} (hi : i < 4) : xh_ld (xm_M h b F V) (some (b + 11)) 0 (nI i) = some (V 11 i) := xh_ldN xm_a11 hi (by omega)
theorem xm_s11 {i : Nat} {x : Int32} (hi : i < 4) : xh_sv (xm_M h b F V) (some (b + 11)) 0 (nI i) x = some (xm_M h b F (xm_sV V 11 (upd (V 11) i x))) := by
  rw [xh_svN xm_a11 hi (by omega)]
  refine congrArg some (xm_set (by omega) rfl fun i hi hn => ?_)
  have e : xm_sV V 11 (upd (V 11) i x) i = V i := by unfold xm_sV; exact if_neg hn
  unfold xm_E
  split
  · rfl
  · first | exact absurd rfl hn | rfl
  · first | rfl | rw [xm_sV, if_neg hn]
end MG
theorem xm_sFs {F : Nat → Int32} {k : Nat} {x : Int32} : xm_sF F k x k = x := if_pos rfl
theorem xm_sFn {F : Nat → Int32} {k j : Nat} {x : Int32} (h : j ≠ k) : xm_sF F k x j = F j := if_neg h
theorem xm_sVs {V : Nat → Nat → Int32} {k : Nat} {f : Nat → Int32} : xm_sV V k f k = f := if_pos rfl
theorem xm_sVn {V : Nat → Nat → Int32} {k j : Nat} {f : Nat → Int32} (h : j ≠ k) : xm_sV V k f j = V j := if_neg h
theorem xm_sVV {V : Nat → Nat → Int32} {k : Nat} {f g : Nat → Int32} : xm_sV (xm_sV V k f) k g = xm_sV V k g := by
  funext j
  unfold xm_sV
  by_cases h : j = k
  · rw [if_pos h, if_pos h]
  · rw [if_neg h, if_neg h, if_neg h]
theorem xm_sVc {V : Nat → Nat → Int32} {k : Nat} : xm_sV V k (V k) = V := by
  funext j
  unfold xm_sV
  by_cases h : j = k
  · rw [if_pos h, h]
  · rw [if_neg h]
