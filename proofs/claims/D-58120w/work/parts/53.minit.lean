/-! THE MODEL's CONSTRUCTOR -/
set_option maxRecDepth 100000
def xi_L0 : List Value := [.null, .null, .int 0, .null, .int 0, .null, .int 0, .null, .null, .null, .null, .null, .null, .int 0, .null, .int 0]
def xi_H (h : xh_H) (b : Nat) (L : List Value) (n : Nat) : xh_H := (fun q => if b ≤ q ∧ q < b + 1 + n then some (if q = b then .inr (.inr (2, L)) else .inl (if q = b + 4 then 1 else 0, xm_len (q - b), fun _ => 0)) else h.1 q, b + 1 + n, h.2.2)
def xi_V : Nat → Nat → Int32 := xm_sV (fun _ _ => 0) 1 (upd (upd (upd (upd (fun _ => 0) 0 16) 1 1) 2 2) 4 50)
theorem xi_push {h : xh_H} {L : List Value} : xh_push h (.inr (.inr (2, L))) = xi_H h h.2.1 L 0 := by
  unfold xh_push xi_H
  refine Prod.ext (funext fun q => ?_) rfl
  by_cases e : q = h.2.1
  · dsimp only
    rw [if_pos e, if_pos (show h.2.1 ≤ q ∧ q < h.2.1 + 1 + 0 by omega), if_pos e]
  · dsimp only
    rw [if_neg e, if_neg (by omega)]
section MS
variable {h : xh_H} {b : Nat} {L : List Value} {n : Nat}
theorem xi_ob : xh_ob (xi_H h b L n) (some b) 2 = some L := by
  have e : (xi_H h b L n).1 b = some (.inr (.inr (2, L))) := by
    show (if b ≤ b ∧ b < b + 1 + n then _ else _) = _
    rw [if_pos (by omega), if_pos rfl]
  unfold xh_ob
  simp only [e, if_pos]
theorem xi_chk : xh_chk (xi_H h b L n) (some b) 2 = some () := by unfold xh_chk; rw [xi_ob]; rfl
theorem xi_na {ρ : Type} {k m : Nat} {F : Option Nat → xh_H → xh_R ρ} (x : Int32) (hx : x = nI m) (hm : m ≤ 100000) (hk : k = if n + 1 = 4 then 1 else 0) (hl : xm_len (n + 1) = m) : xh_na (xi_H h b L n) k x F = xh_ad 1 m (F (some (b + 1 + n)) (xi_H h b L (n + 1))) := by
  subst hx
  unfold xh_na
  rw [nI_clamp (by omega), if_pos ⟨nI_pos' (by omega), hm⟩]
  show xh_ad 1 m (F (some (b + 1 + n)) _) = _
  refine congrArg (fun z => xh_ad 1 m (F (some (b + 1 + n)) z)) ?_
  unfold xh_push
  refine Prod.ext (funext fun q => ?_) rfl
  show (if q = b + 1 + n then some (.inl (k, m, fun _ => 0)) else if b ≤ q ∧ q < b + 1 + n then some (if q = b then .inr (.inr (2, L)) else .inl (if q = b + 4 then 1 else 0, xm_len (q - b), fun _ => 0)) else h.1 q) = (if b ≤ q ∧ q < b + 1 + (n + 1) then some (if q = b then .inr (.inr (2, L)) else .inl (if q = b + 4 then 1 else 0, xm_len (q - b), fun _ => 0)) else h.1 q)
  by_cases e : q = b + 1 + n
  · rw [if_pos e, if_pos (by omega), if_neg (by omega), hk, ← hl]
    subst e
    have e1 : b + 1 + n - b = n + 1 := by omega
    rw [e1]
    by_cases z : n + 1 = 4
    · rw [if_pos z, if_pos (by omega)]
    · rw [if_neg z, if_neg (by omega)]
  · rw [if_neg e]
    by_cases z : b ≤ q ∧ q < b + 1 + n
    · rw [if_pos z, if_pos (show b ≤ q ∧ q < b + 1 + (n + 1) by omega)]
    · rw [if_neg z, if_neg (by omega)]
theorem xi_pR {j : Nat} {x : Option Nat} (hj : j < L.length) : xh_pR (xi_H h b L n) (some b) 2 j x = some (xi_H h b (L.set j (va_rf x)) n) := by
  unfold xh_pR xh_pf
  rw [xi_ob]
  show (if j < L.length then some (xh_set (xi_H h b L n) b _) else none) = _
  rw [if_pos hj]
  refine congrArg some (Prod.ext (funext fun q => ?_) rfl)
  show (if q = b then some (.inr (.inr (2, L.set j (va_rf x)))) else if b ≤ q ∧ q < b + 1 + n then some (if q = b then .inr (.inr (2, L)) else .inl (if q = b + 4 then 1 else 0, xm_len (q - b), fun _ => 0)) else h.1 q) = (if b ≤ q ∧ q < b + 1 + n then some (if q = b then .inr (.inr (2, L.set j (va_rf x))) else .inl (if q = b + 4 then 1 else 0, xm_len (q - b), fun _ => 0)) else h.1 q)
  by_cases e : q = b
  · rw [if_pos e, if_pos (by omega), if_pos e]
  · rw [if_neg e, if_neg e, if_neg e]
end MS
theorem xi_fin {h : xh_H} {b : Nat} : xi_H h b [.ref (b + 1), .ref (b + 2), .int 0, .ref (b + 3), .int 0, .ref (b + 4), .int 0, .ref (b + 5), .ref (b + 6), .ref (b + 7), .ref (b + 8), .ref (b + 9), .ref (b + 10), .int 0, .ref (b + 11), .int 0] 11 = xm_M (h.1, b + 12, h.2.2) b (fun _ => 0) (fun _ _ => 0) := by
  unfold xi_H xm_M
  refine Prod.ext (funext fun q => ?_) rfl
  show (if b ≤ q ∧ q < b + 1 + 11 then _ else h.1 q) = (if b ≤ q ∧ q < b + 12 then _ else h.1 q)
  by_cases z : b ≤ q ∧ q < b + 12
  · rw [if_pos (by omega), if_pos z]
    obtain ⟨j, hj, rfl⟩ : ∃ j, j < 12 ∧ q = b + j := ⟨q - b, by omega, by omega⟩
    rw [Nat.add_sub_cancel_left]
    refine congrArg some ?_
    by_cases j0 : j = 0
    · subst j0
      rw [if_pos (show b + 0 = b by omega)]
      rfl
    · rw [if_neg (by omega)]
      by_cases j4 : j = 4
      · subst j4
        rw [if_pos rfl]
        rfl
      · rw [if_neg (by omega)]
        unfold xm_E
        split
        · exact absurd rfl j0
        · exact absurd rfl j4
        · rfl
  · rw [if_neg (by omega), if_neg z]
theorem s_init {N b : Nat} {h : xh_H} : f_X2_init N (some b) (xi_H h b xi_L0 0) = some ((), xm_M (h.1, b + 12, h.2.2) b (fun _ => 0) xi_V, 11, 5700) := by
  unfold f_X2_init
  simp only [xi_chk, Option.bind_some]
  unfold xi_L0
  rw [xi_na (n := 0) (k := 0) (m := 806) 806 rfl (by omega) rfl rfl]
  rw [xi_pR (j := 0) (by exact (by decide : 0 < 16))]
  simp only [Option.bind_some]
  rw [xi_na (n := 1) (k := 0) (m := 3224) 3224 rfl (by omega) rfl rfl]
  rw [xi_pR (j := 1) (by exact (by decide : 1 < 16))]
  simp only [Option.bind_some]
  rw [xi_na (n := 2) (k := 0) (m := 806) 806 rfl (by omega) rfl rfl, xi_pR (j := 3) (by exact (by decide : 3 < 16))]
  simp only [Option.bind_some]
  rw [xi_na (n := 3) (k := 1) (m := 60) 60 rfl (by omega) rfl rfl, xi_pR (j := 5) (by exact (by decide : 5 < 16))]
  simp only [Option.bind_some]
  rw [xi_na (n := 4) (k := 0) (m := 600) 600 rfl (by omega) rfl rfl, xi_pR (j := 7) (by exact (by decide : 7 < 16))]
  simp only [Option.bind_some]
  rw [xi_na (n := 5) (k := 0) (m := 40) 40 rfl (by omega) rfl rfl, xi_pR (j := 8) (by exact (by decide : 8 < 16))]
  simp only [Option.bind_some]
  rw [xi_na (n := 6) (k := 0) (m := 40) 40 rfl (by omega) rfl rfl, xi_pR (j := 9) (by exact (by decide : 9 < 16))]
  simp only [Option.bind_some]
  rw [xi_na (n := 7) (k := 0) (m := 40) 40 rfl (by omega) rfl rfl, xi_pR (j := 10) (by exact (by decide : 10 < 16))]
  simp only [Option.bind_some]
  rw [xi_na (n := 8) (k := 0) (m := 40) 40 rfl (by omega) rfl rfl, xi_pR (j := 11) (by exact (by decide : 11 < 16))]
  simp only [Option.bind_some]
  rw [xi_na (n := 9) (k := 0) (m := 40) 40 rfl (by omega) rfl rfl, xi_pR (j := 12) (by exact (by decide : 12 < 16))]
  simp only [Option.bind_some]
  rw [xi_na (n := 10) (k := 0) (m := 4) 4 rfl (by omega) rfl rfl, xi_pR (j := 14) (by exact (by decide : 14 < 16))]
  simp only [Option.bind_some, List.set, va_rf]
  simp only [show ∀ i, b + 1 + i = b + (1 + i) from fun i => by omega, Nat.reduceAdd]
  rw [xi_fin]
  have q0 : ∀ x y, xh_sv x (some (b + 1)) 0 (0 : Int32) y = xh_sv x (some (b + 1)) 0 (nI 0) y := fun _ _ => rfl
  have q1 : ∀ x y, xh_sv x (some (b + 1)) 0 (1 : Int32) y = xh_sv x (some (b + 1)) 0 (nI 1) y := fun _ _ => rfl
  have q2 : ∀ x y, xh_sv x (some (b + 1)) 0 (2 : Int32) y = xh_sv x (some (b + 1)) 0 (nI 2) y := fun _ _ => rfl
  have q4 : ∀ x y, xh_sv x (some (b + 1)) 0 (4 : Int32) y = xh_sv x (some (b + 1)) 0 (nI 4) y := fun _ _ => rfl
  simp only [xm_chk, xm_g0, xm_g1, xm_g3, xm_g5, xm_g7, xm_g8, xm_g9, xm_g10, xm_g11, xm_g12, xm_g14, xm_i2, xm_i4, xm_i6, xm_i13, xm_i15, Option.bind_some, xc_0, xm_p2, xm_p6, xm_p13, xm_p15, q0, q1, q2, q4, xm_s1 (show 0 < 806 by omega), xm_s1 (show 1 < 806 by omega), xm_s1 (show 2 < 806 by omega), xm_s1 (show 4 < 806 by omega), xm_sVs, xm_sVV]
  rfl
