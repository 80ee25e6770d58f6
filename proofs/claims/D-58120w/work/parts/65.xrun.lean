/-! THE JUDGE's RUN -/
set_option maxRecDepth 100000
def xj_E (j sg : Nat) (o : Option Nat) (V : Nat → Nat → Int32) (i : Nat) : xh_E := match i with
  | 0 => .inr (.inr (7, [.ref sg, .ref (j + 1), .ref (j + 2), .ref (j + 3), .ref (j + 4), .ref (j + 5), va_rf o]))
  | i + 1 => .inl (0, 40, V (6 + i))
def xj_M (H : xh_H) (j sg : Nat) (o : Option Nat) (V : Nat → Nat → Int32) : xh_H := (fun q => if j ≤ q ∧ q < j + 6 then some (xj_E j sg o V (q - j)) else H.1 q, H.2)
section XJ
variable {H : xh_H} {j sg : Nat} {o : Option Nat} {V : Nat → Nat → Int32}
theorem xj_at {i : Nat} (hi : i < 6) : (xj_M H j sg o V).1 (j + i) = some (xj_E j sg o V i) := by
  show (if j ≤ j + i ∧ j + i < j + 6 then some (xj_E j sg o V (j + i - j)) else H.1 (j + i)) = _
  rw [if_pos (by omega), Nat.add_sub_cancel_left]
theorem xj_ne {q : Nat} (h : ¬ (j ≤ q ∧ q < j + 6)) : (xj_M H j sg o V).1 q = H.1 q := if_neg h
theorem xj_JV : JV (xj_M H j sg o V) j sg o V := by
  refine ⟨xj_at (i := 0) (by omega), fun i hi => ?_⟩
  rw [show j + 1 + i = j + (i + 1) by omega]
  exact xj_at (by omega)
theorem xj_id (a : JV H j sg o V) : xj_M H j sg o V = H := by
  refine Prod.ext (funext fun q => ?_) rfl
  by_cases z : j ≤ q ∧ q < j + 6
  · obtain ⟨i, hi, rfl⟩ : ∃ i, i < 6 ∧ q = j + i := ⟨q - j, by omega, by omega⟩
    rw [xj_at hi]
    cases i with
    | zero => exact a.1.symm
    | succ i => rw [show j + (i + 1) = j + 1 + i by omega]; exact (a.2 i (by omega)).symm
  · exact xj_ne z
theorem xj_XW (hj : j + 6 ≤ H.2.1) : XW (fun q => j ≤ q ∧ q < j + 6) H (xj_M H j sg o V) := by
  refine ⟨fun q _ hq => xj_ne hq, Nat.le_refl _, rfl, fun w => ⟨fun q c e => ?_, w.2⟩⟩
  by_cases z : j ≤ q ∧ q < j + 6
  · show q < H.2.1
    omega
  · exact w.1 q c ((xj_ne z).symm.trans e)
theorem xj_c : xh_chk (xj_M H j sg o V) (some j) 7 = some () := jv_c xj_JV
theorem xj_0 : xh_gR (xj_M H j sg o V) (some j) 7 0 = some (some sg) := jv_0 xj_JV
theorem xj_1 : xh_gR (xj_M H j sg o V) (some j) 7 1 = some (some (j + 1)) := jv_1 xj_JV
theorem xj_2 : xh_gR (xj_M H j sg o V) (some j) 7 2 = some (some (j + 2)) := jv_2 xj_JV
theorem xj_3 : xh_gR (xj_M H j sg o V) (some j) 7 3 = some (some (j + 3)) := jv_3 xj_JV
theorem xj_4 : xh_gR (xj_M H j sg o V) (some j) 7 4 = some (some (j + 4)) := jv_4 xj_JV
theorem xj_5 : xh_gR (xj_M H j sg o V) (some j) 7 5 = some (some (j + 5)) := jv_5 xj_JV
theorem xj_6 : xh_gR (xj_M H j sg o V) (some j) 7 6 = some o := jv_6 xj_JV
theorem xj_l6 {k : Nat} (hk : k < 40) : xh_ld (xj_M H j sg o V) (some (j + 1)) 0 (nI k) = some (V 6 k) := jv_l6 xj_JV hk
theorem xj_l7 {k : Nat} (hk : k < 40) : xh_ld (xj_M H j sg o V) (some (j + 2)) 0 (nI k) = some (V 7 k) := jv_l7 xj_JV hk
theorem xj_l8 {k : Nat} (hk : k < 40) : xh_ld (xj_M H j sg o V) (some (j + 3)) 0 (nI k) = some (V 8 k) := jv_l8 xj_JV hk
theorem xj_l9 {k : Nat} (hk : k < 40) : xh_ld (xj_M H j sg o V) (some (j + 4)) 0 (nI k) = some (V 9 k) := jv_l9 xj_JV hk
theorem xj_l10 {k : Nat} (hk : k < 40) : xh_ld (xj_M H j sg o V) (some (j + 5)) 0 (nI k) = some (V 10 k) := jv_l10 xj_JV hk
theorem xj_set {i : Nat} {f : Nat → Int32} (hi : i < 5) : xh_set (xj_M H j sg o V) (j + 1 + i) (.inl (0, 40, f)) = xj_M H j sg o (xm_sV V (6 + i) f) := by
  refine Prod.ext (funext fun q => ?_) rfl
  by_cases z : q = j + 1 + i
  · subst z
    rw [xs_eq, show j + 1 + i = j + (i + 1) by omega, xj_at (by omega)]
    show _ = some (Sum.inl (0, 40, xm_sV V (6 + i) f (6 + i)))
    rw [xm_sVs]
  · rw [xs_ne z]
    by_cases y : j ≤ q ∧ q < j + 6
    · obtain ⟨m, hm, rfl⟩ : ∃ m, m < 6 ∧ q = j + m := ⟨q - j, by omega, by omega⟩
      rw [xj_at hm, xj_at hm]
      cases m with
      | zero => rfl
      | succ m =>
        show some (Sum.inl (0, 40, V (6 + m))) = some (Sum.inl (0, 40, xm_sV V (6 + i) f (6 + m)))
        rw [xm_sVn (by omega)]
    · rw [xj_ne y, xj_ne y]
theorem xj_sN {i k : Nat} {x : Int32} (hi : i < 5) (hk : k < 40) : xh_sv (xj_M H j sg o V) (some (j + 1 + i)) 0 (nI k) x = some (xj_M H j sg o (xm_sV V (6 + i) (upd (V (6 + i)) k x))) := by
  rw [xo_sv (xj_JV.2 i hi) hk (by omega), xj_set hi]
theorem xj_s6 {k : Nat} {x : Int32} (hk : k < 40) : xh_sv (xj_M H j sg o V) (some (j + 1)) 0 (nI k) x = some (xj_M H j sg o (xm_sV V 6 (upd (V 6) k x))) := xj_sN (i := 0) (by omega) hk
theorem xj_s7 {k : Nat} {x : Int32} (hk : k < 40) : xh_sv (xj_M H j sg o V) (some (j + 2)) 0 (nI k) x = some (xj_M H j sg o (xm_sV V 7 (upd (V 7) k x))) := xj_sN (i := 1) (by omega) hk
theorem xj_s8 {k : Nat} {x : Int32} (hk : k < 40) : xh_sv (xj_M H j sg o V) (some (j + 3)) 0 (nI k) x = some (xj_M H j sg o (xm_sV V 8 (upd (V 8) k x))) := xj_sN (i := 2) (by omega) hk
theorem xj_s9 {k : Nat} {x : Int32} (hk : k < 40) : xh_sv (xj_M H j sg o V) (some (j + 4)) 0 (nI k) x = some (xj_M H j sg o (xm_sV V 9 (upd (V 9) k x))) := xj_sN (i := 3) (by omega) hk
theorem xj_s10 {k : Nat} {x : Int32} (hk : k < 40) : xh_sv (xj_M H j sg o V) (some (j + 5)) 0 (nI k) x = some (xj_M H j sg o (xm_sV V 10 (upd (V 10) k x))) := xj_sN (i := 4) (by omega) hk
theorem xj_p6 {r : Option Nat} : xh_pR (xj_M H j sg o V) (some j) 7 6 r = some (xj_M H j sg r V) := by
  rw [xo_pR xj_JV.1 (by exact (by decide : 6 < 7))]
  refine congrArg some (Prod.ext (funext fun q => ?_) rfl)
  by_cases z : q = j
  · subst z
    rw [xs_eq]
    exact (xj_at (H := H) (j := q) (i := 0) (by omega)).symm
  · rw [xs_ne z]
    by_cases y : j ≤ q ∧ q < j + 6
    · obtain ⟨m, hm, rfl⟩ : ∃ m, m < 6 ∧ q = j + m := ⟨q - j, by omega, by omega⟩
      rw [xj_at hm, xj_at hm]
      cases m with
      | zero => exact absurd rfl z
      | succ m => rfl
    · rw [xj_ne y, xj_ne y]
end XJ
theorem ms_ph_eq {s : Nat → Int32} {k : Nat} (h1 : s 10 = 1) (hk : 0 < k) : (ms_ph s (k - 1) = ms_ph s k) ↔ ¬ s (6 + 5 * k + 4) = 1 := by
  obtain ⟨k, rfl⟩ : ∃ m, k = m + 1 := ⟨k - 1, by omega⟩
  have hp := ms_fst_pos h1 k
  have e : ms_ph s (k + 1) = ms_cnt (ms_fst s) 0 (k + 1) + (if ms_fst s (0 + (k + 1)) then 1 else 0) - 1 := rfl
  rw [Nat.add_sub_cancel, e]
  unfold ms_ph ms_fst
  rw [Nat.zero_add]
  unfold ms_fst at hp
  by_cases z : s (6 + 5 * (k + 1) + 4) = 1
  · rw [decide_eq_true z, if_pos rfl]
    exact ⟨fun q => by omega, fun q => absurd z q⟩
  · rw [decide_eq_false z, if_neg (by decide)]
    exact ⟨fun _ => z, fun _ => by omega⟩
/-- the row, as the class reckons it -/
theorem mj_row_J {s hd : Nat → Int32} {k : Nat} (h1 : s 10 = 1) : mj_row s hd k = if 0 < k ∧ ms_ph s (k - 1) = ms_ph s k ∧ mj_why s hd (k - 1) = 0 then xh_mn 10 (mj_row s hd (k - 1) + 1) else 0 := by
  by_cases hk : 0 < k
  · obtain ⟨k, rfl⟩ : ∃ m, k = m + 1 := ⟨k - 1, by omega⟩
    have hph := ms_ph_eq h1 hk
    rw [Nat.add_sub_cancel] at hph ⊢
    unfold mj_row
    by_cases z : s (6 + 5 * (k + 1) + 4) = 1
    · rw [if_pos z, if_neg (fun q => hph.mp q.2.1 z)]; rfl
    · rw [if_neg z]
      have e : mj_run s hd (k + 1) = if mj_why s hd k = 0 then (if s (6 + 5 * k + 4) = 1 then 0 else mj_run s hd k) + 1 else 0 := rfl
      rw [e]
      generalize (if s (6 + 5 * k + 4) = 1 then 0 else mj_run s hd k) = r
      by_cases y : mj_why s hd k = 0
      · rw [if_pos y, if_pos ⟨hk, hph.mpr z, y⟩, nI_1]
        unfold xh_mn
        by_cases x : min 10 r + 1 < 10
        · rw [if_pos (by rw [xl_10, nI_ltI (by omega) (by omega)]; exact x)]
          congr 1; omega
        · rw [if_neg (by rw [xl_10, nI_ltI (by omega) (by omega)]; exact x), xl_10]
          congr 1; omega
      · rw [if_neg y, if_neg (fun q => y q.2.2)]; rfl
  · rw [if_neg (fun q => hk q.1)]
    have : k = 0 := by omega
    subst this
    unfold mj_row
    rw [if_pos h1]; rfl
theorem xpts {own row : Int32} : (xh_mx (0 : Int32) own * ((10 : Int32) + row)) / (10 : Int32) = if 0 ≤ own then (own * (10 + row)) / 10 else 0 := by
  unfold xh_mx
  by_cases z : 0 < own
  · rw [if_pos z, if_pos (Int32.le_of_lt z)]
  · rw [if_neg z, Int32.zero_mul, Int32.zero_div]
    by_cases y : 0 ≤ own
    · have : own = 0 := Int32.le_antisymm (Int32.not_lt.mp z) y
      rw [if_pos y, this, Int32.zero_mul, Int32.zero_div]
    · rw [if_neg y]
