/-! THE MODEL's METHODS on its cells: the small ones -/
set_option maxRecDepth 100000
theorem xl_0 : (0 : Int32) = nI 0 := rfl
theorem xl_1 : (1 : Int32) = nI 1 := rfl
theorem xl_2 : (2 : Int32) = nI 2 := rfl
theorem xl_3 : (3 : Int32) = nI 3 := rfl
theorem xl_4 : (4 : Int32) = nI 4 := rfl
theorem xl_5 : (5 : Int32) = nI 5 := rfl
theorem xl_6 : (6 : Int32) = nI 6 := rfl
theorem xl_7 : (7 : Int32) = nI 7 := rfl
theorem xl_8 : (8 : Int32) = nI 8 := rfl
theorem xl_9 : (9 : Int32) = nI 9 := rfl
theorem xl_10 : (10 : Int32) = nI 10 := rfl
theorem xl_11 : (11 : Int32) = nI 11 := rfl
theorem xl_12 : (12 : Int32) = nI 12 := rfl
theorem xl_14 : (14 : Int32) = nI 14 := rfl
theorem xl_16 : (16 : Int32) = nI 16 := rfl
theorem xl_20 : (20 : Int32) = nI 20 := rfl
theorem xl_25 : (25 : Int32) = nI 25 := rfl
theorem xl_30 : (30 : Int32) = nI 30 := rfl
theorem xl_32 : (32 : Int32) = nI 32 := rfl
theorem xl_33 : (33 : Int32) = nI 33 := rfl
theorem xl_40 : (40 : Int32) = nI 40 := rfl
theorem xl_48 : (48 : Int32) = nI 48 := rfl
theorem xl_50 : (50 : Int32) = nI 50 := rfl
theorem xl_57 : (57 : Int32) = nI 57 := rfl
theorem xl_58 : (58 : Int32) = nI 58 := rfl
theorem xl_59 : (59 : Int32) = nI 59 := rfl
theorem xl_60 : (60 : Int32) = nI 60 := rfl
theorem xl_64 : (64 : Int32) = nI 64 := rfl
theorem xl_65 : (65 : Int32) = nI 65 := rfl
theorem xl_66 : (66 : Int32) = nI 66 := rfl
theorem xl_100 : (100 : Int32) = nI 100 := rfl
theorem xl_206 : (206 : Int32) = nI 206 := rfl
theorem xl_599 : (599 : Int32) = nI 599 := rfl
theorem xl_600 : (600 : Int32) = nI 600 := rfl
theorem xl_806 : (806 : Int32) = nI 806 := rfl
theorem xl_2418 : (2418 : Int32) = nI 2418 := rfl
def xin (v lo hi : Int32) : Int32 := if lo ≤ v ∧ v ≤ hi then 1 else 0
theorem xin_b {v lo hi : Int32} : xin v lo hi = 0 ∨ xin v lo hi = 1 := by
  unfold xin
  split
  · exact Or.inr rfl
  · exact Or.inl rfl
theorem xin_0 {v lo hi : Int32} : (xin v lo hi = 0) ↔ ¬ (lo ≤ v ∧ v ≤ hi) := by
  unfold xin
  split
  · next h => exact ⟨fun q => absurd q (by decide), fun q => absurd h q⟩
  · next h => exact ⟨fun _ => h, fun _ => rfl⟩
def ms_abs (v : Int32) : Int32 := if 0 ≤ v then v else -v
theorem xbool {ρ : Type} {x : Int32} {A : Option ρ} (h : x = 0 ∨ x = 1) : (if x = 0 ∨ x = 1 then A else none) = A := if_pos h
section MS
variable {h : xh_H} {b : Nat} {F : Nat → Int32} {V : Nat → Nat → Int32}
theorem s_in {N : Nat} {v lo hi : Int32} : f_X2_in N v lo hi h = some (xin v lo hi, h, 0, 0) := by
  unfold f_X2_in f_X2_in_b14 xin
  by_cases h1 : v < lo
  · rw [if_pos h1, if_neg (fun q => absurd h1 (Int32.not_lt.mpr q.1))]
  · rw [if_neg h1]
    by_cases h2 : hi < v
    · rw [if_pos h2, if_neg (fun q => absurd h2 (Int32.not_lt.mpr q.2))]
    · rw [if_neg h2, if_pos ⟨Int32.not_lt.mp h1, Int32.not_lt.mp h2⟩]
theorem s_isPitch {N : Nat} {v : Int32} : f_X2_isPitch N v h = some (xin v 0 60, h, 0, 0) := by
  unfold f_X2_isPitch
  rw [s_in, xc_0, xbool xin_b]
theorem s_isTick {N : Nat} {v : Int32} : f_X2_isTick N v h = some (xin v 0 599, h, 0, 0) := by
  unfold f_X2_isTick
  rw [s_in, xc_0, xbool xin_b]
theorem s_size {N : Nat} {v : Int32} : f_X2_size N v h = some (ms_abs v, h, 0, 0) := by
  unfold f_X2_size ms_abs
  split <;> rfl
theorem s_isSyllable {N : Nat} {v : Int32} : f_X2_isSyllable N (some b) v (xm_M h b F V) = some (xin v 0 (V 1 5 - 1), xm_M h b F V, 0, 0) := by
  unfold f_X2_isSyllable
  simp (disch := omega) only [xm_chk, xm_g0, xm_g1, xm_g3, xm_g5, xm_g7, xm_g8, xm_g9, xm_g10, xm_g11, xm_g12, xm_g14, xm_i2, xm_i4, xm_i6, xm_i13, xm_i15, Option.bind_some, xc_0, xm_p2, xm_p6, xm_p13, xm_p15, xl_5, xm_l1, xm_l2, xm_l3, xm_l4, xm_l5, xm_l6, xm_l7, xm_l8, xm_l9, xm_l10, xm_l11, s_in]
  rw [xbool xin_b]
theorem s_of {N k w : Nat} (hk : 6 + 5 * k + w < 806) : f_X2_of N (some b) (nI k) (nI w) (xm_M h b F V) = some (V 1 (6 + 5 * k + w), xm_M h b F V, 0, 0) := by
  unfold f_X2_of
  simp (disch := omega) only [xm_chk, xm_g0, xm_g1, xm_g3, xm_g5, xm_g7, xm_g8, xm_g9, xm_g10, xm_g11, xm_g12, xm_g14, xm_i2, xm_i4, xm_i6, xm_i13, xm_i15, Option.bind_some, xc_0, xm_p2, xm_p6, xm_p13, xm_p15, xl_0, xl_1, xl_2, xl_3, xl_4, xl_5, xl_6, xl_7, xl_8, xl_9, xl_10, xl_11, xl_12, xl_14, xl_16, xl_20, xl_25, xl_30, xl_32, xl_33, xl_40, xl_48, xl_50, xl_57, xl_58, xl_59, xl_60, xl_64, xl_65, xl_66, xl_100, xl_206, xl_599, xl_600, xl_806, xl_2418, nI_add, pk_mul, pk_sub, Nat.add_zero, Nat.zero_add, Nat.mul_zero, Nat.mul_one, Nat.one_mul, xm_l1, xm_l2, xm_l3, xm_l4, xm_l5, xm_l6, xm_l7, xm_l8, xm_l9, xm_l10, xm_l11]
theorem s_of0 {N k : Nat} (hk : k < 155) : f_X2_of N (some b) (nI k) (0 : Int32) (xm_M h b F V) = some (V 1 (6 + 5 * k + 0), xm_M h b F V, 0, 0) := s_of (w := 0) (by omega)
theorem s_of1 {N k : Nat} (hk : k < 155) : f_X2_of N (some b) (nI k) (1 : Int32) (xm_M h b F V) = some (V 1 (6 + 5 * k + 1), xm_M h b F V, 0, 0) := s_of (w := 1) (by omega)
theorem s_of2 {N k : Nat} (hk : k < 155) : f_X2_of N (some b) (nI k) (2 : Int32) (xm_M h b F V) = some (V 1 (6 + 5 * k + 2), xm_M h b F V, 0, 0) := s_of (w := 2) (by omega)
theorem s_of3 {N k : Nat} (hk : k < 155) : f_X2_of N (some b) (nI k) (3 : Int32) (xm_M h b F V) = some (V 1 (6 + 5 * k + 3), xm_M h b F V, 0, 0) := s_of (w := 3) (by omega)
theorem s_of4 {N k : Nat} (hk : k < 155) : f_X2_of N (some b) (nI k) (4 : Int32) (xm_M h b F V) = some (V 1 (6 + 5 * k + 4), xm_M h b F V, 0, 0) := s_of (w := 4) (by omega)
theorem xm_l1c0 : xh_ld (xm_M h b F V) (some (b + 1)) 0 (0 : Int32) = some (V 1 0) := xm_l1 (i := 0) (by omega)
theorem xm_l1c1 : xh_ld (xm_M h b F V) (some (b + 1)) 0 (1 : Int32) = some (V 1 1) := xm_l1 (i := 1) (by omega)
theorem xm_l1c2 : xh_ld (xm_M h b F V) (some (b + 1)) 0 (2 : Int32) = some (V 1 2) := xm_l1 (i := 2) (by omega)
theorem xm_l1c3 : xh_ld (xm_M h b F V) (some (b + 1)) 0 (3 : Int32) = some (V 1 3) := xm_l1 (i := 3) (by omega)
theorem xm_l1c4 : xh_ld (xm_M h b F V) (some (b + 1)) 0 (4 : Int32) = some (V 1 4) := xm_l1 (i := 4) (by omega)
theorem xm_l1c5 : xh_ld (xm_M h b F V) (some (b + 1)) 0 (5 : Int32) = some (V 1 5) := xm_l1 (i := 5) (by omega)
theorem xm_l11c0 : xh_ld (xm_M h b F V) (some (b + 11)) 0 (0 : Int32) = some (V 11 0) := xm_l11 (i := 0) (by omega)
theorem xm_l11c1 : xh_ld (xm_M h b F V) (some (b + 11)) 0 (1 : Int32) = some (V 11 1) := xm_l11 (i := 1) (by omega)
theorem xm_l11c2 : xh_ld (xm_M h b F V) (some (b + 11)) 0 (2 : Int32) = some (V 11 2) := xm_l11 (i := 2) (by omega)
theorem xm_l11c3 : xh_ld (xm_M h b F V) (some (b + 11)) 0 (3 : Int32) = some (V 11 3) := xm_l11 (i := 3) (by omega)
theorem s_lay {N k w : Nat} {x : Int32} (hk : 6 + 5 * k + w < 806) : f_X2_lay N (some b) (nI k) (nI w) x (xm_M h b F V) = some ((), xm_M h b F (xm_sV V 1 (upd (V 1) (6 + 5 * k + w) x)), 0, 0) := by
  unfold f_X2_lay
  simp (disch := omega) only [xm_chk, xm_g0, xm_g1, xm_g3, xm_g5, xm_g7, xm_g8, xm_g9, xm_g10, xm_g11, xm_g12, xm_g14, xm_i2, xm_i4, xm_i6, xm_i13, xm_i15, Option.bind_some, xc_0, xm_p2, xm_p6, xm_p13, xm_p15, xl_0, xl_1, xl_2, xl_3, xl_4, xl_5, xl_6, xl_7, xl_8, xl_9, xl_10, xl_11, xl_12, xl_14, xl_16, xl_20, xl_25, xl_30, xl_32, xl_33, xl_40, xl_48, xl_50, xl_57, xl_58, xl_59, xl_60, xl_64, xl_65, xl_66, xl_100, xl_206, xl_599, xl_600, xl_806, xl_2418, nI_add, pk_mul, pk_sub, Nat.add_zero, Nat.zero_add, Nat.mul_zero, Nat.mul_one, Nat.one_mul, xm_s1, xm_s2, xm_s3, xm_s4, xm_s5, xm_s6, xm_s7, xm_s8, xm_s9, xm_s10, xm_s11]
theorem s_behind {N k : Nat} (hk : k < 155) : f_X2_behind N (some b) (nI k) (xm_M h b F V) = some (V 1 (6 + 5 * k) + V 1 (6 + 5 * k + 1), xm_M h b F V, 0, 0) := by
  unfold f_X2_behind
  rw [if_pos (nI_pos' (by omega))]
  simp (disch := omega) only [xm_chk, xm_g0, xm_g1, xm_g3, xm_g5, xm_g7, xm_g8, xm_g9, xm_g10, xm_g11, xm_g12, xm_g14, xm_i2, xm_i4, xm_i6, xm_i13, xm_i15, Option.bind_some, xc_0, xm_p2, xm_p6, xm_p13, xm_p15, xl_0, xl_1, xl_2, xl_3, xl_4, xl_5, xl_6, xl_7, xl_8, xl_9, xl_10, xl_11, xl_12, xl_14, xl_16, xl_20, xl_25, xl_30, xl_32, xl_33, xl_40, xl_48, xl_50, xl_57, xl_58, xl_59, xl_60, xl_64, xl_65, xl_66, xl_100, xl_206, xl_599, xl_600, xl_806, xl_2418, nI_add, pk_mul, pk_sub, Nat.add_zero, Nat.zero_add, Nat.mul_zero, Nat.mul_one, Nat.one_mul, s_of]
theorem s_behindm {N : Nat} : f_X2_behind N (some b) (-1) (xm_M h b F V) = some (0, xm_M h b F V, 0, 0) := rfl
def ms_n (s : Nat → Int32) : Nat := (s 5).toNatClampNeg
/-- the tick behind the song -/
def ms_end (s : Nat → Int32) : Int32 := if ms_n s = 0 then 0 else s (6 + 5 * (ms_n s - 1)) + s (6 + 5 * (ms_n s - 1) + 1)
theorem s_endOfSong {N : Nat} (h5 : V 1 5 = nI (ms_n (V 1))) (hn : ms_n (V 1) < 150) : f_X2_endOfSong N (some b) (xm_M h b F V) = some (ms_end (V 1), xm_M h b F V, 0, 0) := by
  unfold f_X2_endOfSong ms_end
  simp (disch := omega) only [xm_chk, xm_g0, xm_g1, xm_g3, xm_g5, xm_g7, xm_g8, xm_g9, xm_g10, xm_g11, xm_g12, xm_g14, xm_i2, xm_i4, xm_i6, xm_i13, xm_i15, Option.bind_some, xc_0, xm_p2, xm_p6, xm_p13, xm_p15, xl_5, xm_l1, xm_l2, xm_l3, xm_l4, xm_l5, xm_l6, xm_l7, xm_l8, xm_l9, xm_l10, xm_l11]
  rw [h5]
  by_cases h0 : ms_n (V 1) = 0
  · rw [if_pos h0, h0]
    show xh_cal (f_X2_behind N (some b) (-1) _) _ = _
    rw [s_behindm, xc_0]
  · rw [if_neg h0]
    simp (disch := omega) only [xm_chk, xm_g0, xm_g1, xm_g3, xm_g5, xm_g7, xm_g8, xm_g9, xm_g10, xm_g11, xm_g12, xm_g14, xm_i2, xm_i4, xm_i6, xm_i13, xm_i15, Option.bind_some, xc_0, xm_p2, xm_p6, xm_p13, xm_p15, xl_0, xl_1, xl_2, xl_3, xl_4, xl_5, xl_6, xl_7, xl_8, xl_9, xl_10, xl_11, xl_12, xl_14, xl_16, xl_20, xl_25, xl_30, xl_32, xl_33, xl_40, xl_48, xl_50, xl_57, xl_58, xl_59, xl_60, xl_64, xl_65, xl_66, xl_100, xl_206, xl_599, xl_600, xl_806, xl_2418, nI_add, pk_mul, pk_sub, Nat.add_zero, Nat.zero_add, Nat.mul_zero, Nat.mul_one, Nat.one_mul, s_behind]
/-- the pitch that is wanted of a syllable, d ticks behind its begin -/
def ms_w (s : Nat → Int32) (k : Nat) (d : Int32) : Int32 := if s (6 + 5 * k + 1) = 1 then s (6 + 5 * k + 2) else s (6 + 5 * k + 2) + (s (6 + 5 * k + 3) - s (6 + 5 * k + 2)) * d / (s (6 + 5 * k + 1) - 1)
theorem s_wantedIn {N k : Nat} {d : Int32} (hk : k < 155) : f_X2_wantedIn N (some b) (nI k) d (xm_M h b F V) = some (ms_w (V 1) k d, xm_M h b F V, 0, 0) := by
  unfold f_X2_wantedIn ms_w
  rw [xl_1, xl_2, xl_3]
  simp (disch := omega) only [xm_chk, xm_g0, xm_g1, xm_g3, xm_g5, xm_g7, xm_g8, xm_g9, xm_g10, xm_g11, xm_g12, xm_g14, xm_i2, xm_i4, xm_i6, xm_i13, xm_i15, Option.bind_some, xc_0, xm_p2, xm_p6, xm_p13, xm_p15, s_of]
  by_cases h1 : V 1 (6 + 5 * k + 1) = nI 1
  · rw [if_pos h1, if_pos h1]
  · rw [if_neg h1, if_neg h1, if_neg]
    intro q
    exact h1 (by grind)
theorem s_share {N k : Nat} (hk : k < 40) (h0 : V 1 (6 + 5 * k + 1) ≠ 0) : f_X2_share N (some b) (nI k) (xm_M h b F V) = some (V 6 k * 100 / V 1 (6 + 5 * k + 1), xm_M h b F V, 0, 0) := by
  unfold f_X2_share
  rw [xl_1]
  simp (disch := omega) only [xm_chk, xm_g0, xm_g1, xm_g3, xm_g5, xm_g7, xm_g8, xm_g9, xm_g10, xm_g11, xm_g12, xm_g14, xm_i2, xm_i4, xm_i6, xm_i13, xm_i15, Option.bind_some, xc_0, xm_p2, xm_p6, xm_p13, xm_p15, xm_l1, xm_l2, xm_l3, xm_l4, xm_l5, xm_l6, xm_l7, xm_l8, xm_l9, xm_l10, xm_l11, s_of]
  rw [if_neg h0]
/-- is there an onset at t; hd: what is heard, and 1 more -/
def ms_onI (hd : Nat → Int32) (t : Nat) : Int32 := if 0 < hd t ∧ (t = 0 ∨ hd (t - 1) ≠ hd t) then 1 else 0
end MS
