/-! A JUDGE in the heap, and what is read of it -/
set_option maxRecDepth 100000
def JV (H : xh_H) (j sg : Nat) (ro : Option Nat) (V : Nat → Nat → Int32) : Prop :=
  H.1 j = some (.inr (.inr (7, [.ref sg, .ref (j + 1), .ref (j + 2), .ref (j + 3), .ref (j + 4), .ref (j + 5), va_rf ro]))) ∧ ∀ i, i < 5 → H.1 (j + 1 + i) = some (.inl (0, 40, V (6 + i)))
/-- a row of what is sung; hd: 1 more -/
def XR (H : xh_H) (ro : Nat) (hd : Nat → Int32) : Prop := ∃ f, H.1 ro = some (.inl (0, 600, f)) ∧ ∀ t, t < 600 → f t = hd t - 1
theorem JV.ext {h h' : xh_H} {j sg : Nat} {ro : Option Nat} {V : Nat → Nat → Int32} (a : JV h j sg ro V) (w : WF h) (x : XE h h') : JV h' j sg ro V := ⟨x.getE w a.1, fun i hi => x.getE w (a.2 i hi)⟩
theorem XR.ext {h h' : xh_H} {ro : Nat} {hd : Nat → Int32} (a : XR h ro hd) (w : WF h) (x : XE h h') : XR h' ro hd := by
  obtain ⟨f, e1, e2⟩ := a
  exact ⟨f, x.getE w e1, e2⟩
section JG
variable {H : xh_H} {j sg ro : Nat} {o : Option Nat} {V : Nat → Nat → Int32} {hd : Nat → Int32} {N : Nat}
theorem jv_c (a : JV H j sg o V) : xh_chk H (some j) 7 = some () := xo_chk a.1
theorem jv_0 (a : JV H j sg o V) : xh_gR H (some j) 7 0 = some (some sg) := xo_gR a.1 rfl
theorem jv_1 (a : JV H j sg o V) : xh_gR H (some j) 7 1 = some (some (j + 1)) := xo_gR a.1 rfl
theorem jv_2 (a : JV H j sg o V) : xh_gR H (some j) 7 2 = some (some (j + 2)) := xo_gR a.1 rfl
theorem jv_3 (a : JV H j sg o V) : xh_gR H (some j) 7 3 = some (some (j + 3)) := xo_gR a.1 rfl
theorem jv_4 (a : JV H j sg o V) : xh_gR H (some j) 7 4 = some (some (j + 4)) := xo_gR a.1 rfl
theorem jv_5 (a : JV H j sg o V) : xh_gR H (some j) 7 5 = some (some (j + 5)) := xo_gR a.1 rfl
theorem jv_6 (a : JV H j sg o V) : xh_gR H (some j) 7 6 = some o := xo_gR a.1 rfl
theorem jv_l6 (a : JV H j sg o V) {k : Nat} (hk : k < 40) : xh_ld H (some (j + 1)) 0 (nI k) = some (V 6 k) := xo_ld (a.2 0 (by omega)) hk (by omega)
theorem jv_l7 (a : JV H j sg o V) {k : Nat} (hk : k < 40) : xh_ld H (some (j + 2)) 0 (nI k) = some (V 7 k) := xo_ld (a.2 1 (by omega)) hk (by omega)
theorem jv_l8 (a : JV H j sg o V) {k : Nat} (hk : k < 40) : xh_ld H (some (j + 3)) 0 (nI k) = some (V 8 k) := xo_ld (a.2 2 (by omega)) hk (by omega)
theorem jv_l9 (a : JV H j sg o V) {k : Nat} (hk : k < 40) : xh_ld H (some (j + 4)) 0 (nI k) = some (V 9 k) := xo_ld (a.2 3 (by omega)) hk (by omega)
theorem jv_l10 (a : JV H j sg o V) {k : Nat} (hk : k < 40) : xh_ld H (some (j + 5)) 0 (nI k) = some (V 10 k) := xo_ld (a.2 4 (by omega)) hk (by omega)
theorem xr_ld (a : XR H ro hd) {t : Nat} (ht : t < 600) : xh_ld H (some ro) 0 (nI t) = some (hd t - 1) := by
  obtain ⟨f, e1, e2⟩ := a
  rw [xo_ld e1 ht (by omega), e2 t ht]
theorem x_isB {v lo hi : Int32} : f_X0_isBetween N v lo hi H = some (xin v lo hi, H, 0, 0) := by
  unfold f_X0_isBetween f_X0_isBetween_b14 xin
  by_cases h1 : v < lo
  · rw [if_pos h1, if_neg (fun q => absurd h1 (Int32.not_lt.mpr q.1))]
  · rw [if_neg h1]
    by_cases h2 : hi < v
    · rw [if_pos h2, if_neg (fun q => absurd h2 (Int32.not_lt.mpr q.2))]
    · rw [if_neg h2, if_pos ⟨Int32.not_lt.mp h1, Int32.not_lt.mp h2⟩]
theorem x_isTick {v : Int32} : f_X0_isTick N v H = some (xin v 0 599, H, 0, 0) := by
  unfold f_X0_isTick
  rw [x_isB, xc_0, xbool xin_b]
theorem x_isPitch {v : Int32} : f_X0_isPitch N v H = some (xin v 0 60, H, 0, 0) := by
  unfold f_X0_isPitch
  rw [x_isB, xc_0, xbool xin_b]
theorem xm1 {x : Int32} : (x - 1 = -1) ↔ x = 0 := by
  constructor
  · intro q; grind
  · intro q; rw [q]; rfl
theorem xab_abs {x : Int32} : xh_ab x = ms_abs x := by
  unfold xh_ab ms_abs
  by_cases z : 0 ≤ x
  · rw [if_pos z, if_pos z]
  · rw [if_neg z, if_neg z]; grind
theorem xmn_oct {x y : Int32} : xh_mn x y = if x ≤ y then x else y := by
  unfold xh_mn
  by_cases z : y < x
  · rw [if_pos z, if_neg (Int32.not_le.mpr z)]
  · rw [if_neg z, if_pos (Int32.not_lt.mp z)]
end JG
section JG
variable {H : xh_H} {s : Nat → Int32} {A : Nat → Nat} {mc : Int32} {cap : Nat} {rf : Nat → Option Nat} {j ro : Nat} {V : Nat → Nat → Int32} {hd : Nat → Int32} {N : Nat}
theorem j_matches {k t : Nat} (hS : XS H s A mc cap rf) (hJ : JV H j (A 0) (some ro) V) (hR : XR H ro hd) (hk : k < ms_n s) (ht : t < 600) : f_X7_matches N (some j) (some (xy rf k)) (nI t) H = some (xb01 (ms_m s hd k t), H, 0, 0) := by
  have h56 : ∀ x : Int32, f_X7_matches_b56 N (some j) x H = some (xb01 (decide (x ≤ s 1)), H, 0, 0) := by
    intro x
    unfold f_X7_matches_b56
    simp only [jv_c hJ, jv_0 hJ, jv_1 hJ, jv_2 hJ, jv_3 hJ, jv_4 hJ, jv_5 hJ, jv_6 hJ, sg_0 hS, sg_1 hS, sg_2 hS, sg_c hS, sg_l hS, sg_t0 hS, sg_t1 hS, sg_t2 hS, sg_t3 hS, sg_t4 hS, sg_many hS, Option.bind_some, xc_0]
    by_cases z : s 1 < x
    · rw [if_pos z, decide_eq_false (Int32.not_le.mpr z)]; rfl
    · rw [if_neg z, decide_eq_true (Int32.not_lt.mp z)]; rfl
  unfold f_X7_matches ms_m ms_off ms_oct
  simp only [jv_c hJ, jv_0 hJ, jv_1 hJ, jv_2 hJ, jv_3 hJ, jv_4 hJ, jv_5 hJ, jv_6 hJ, sg_0 hS, sg_1 hS, sg_2 hS, sg_c hS, sg_l hS, sg_t0 hS, sg_t1 hS, sg_t2 hS, sg_t3 hS, sg_t4 hS, sg_many hS, Option.bind_some, xc_0, sg_get hS hk, sg_y0 hS hk, sg_y1 hS hk, sg_y2 hS hk, sg_y3 hS hk, sg_y4 hS hk, sg_yc hS hk, sg_yk hS hk, sg_yend hS hk, sg_yw hS hk, xr_ld hR ht, xm1, h56]
  by_cases z : hd t = 0
  · rw [if_pos z, if_pos z]; rfl
  · rw [if_neg z, if_neg z]
    by_cases y : s 3 = 1
    · rw [if_pos y, if_pos y, xab_abs, xmn_oct]
    · rw [if_neg y, if_neg y, xab_abs]
theorem j_isOnset {t : Nat} (hJ : JV H j (A 0) (some ro) V) (hR : XR H ro hd) (hb : ∀ t, t < 600 → 0 ≤ hd t) (ht : t < 600) : f_X7_isOnset N (some j) (nI t) H = some (ms_onI hd t, H, 0, 0) := by
  unfold f_X7_isOnset f_X7_isOnset_b42 f_X7_isOnset_b38 ms_onI
  have e0 : xin (nI t) 0 599 = 1 := if_pos ⟨nI_pos' (by omega), by rw [show (599 : Int32) = nI 599 from rfl, nI_leI (by omega) (by omega)]; omega⟩
  simp only [x_isTick, xc_0, e0]
  rw [if_neg (by decide)]
  simp only [jv_c hJ, jv_0 hJ, jv_1 hJ, jv_2 hJ, jv_3 hJ, jv_4 hJ, jv_5 hJ, jv_6 hJ, xr_ld hR ht, xm1, Option.bind_some]
  by_cases z : hd t = 0
  · rw [if_pos z, if_neg (fun q => by rw [z] at q; exact absurd q.1 (by decide))]
  · rw [if_neg z]
    have hp : 0 < hd t := by
      rcases Int32.le_iff_lt_or_eq.mp (hb t ht) with q | q
      · exact q
      · exact absurd q.symm z
    by_cases y : t = 0
    · rw [if_pos (by rw [y]; rfl), if_pos ⟨hp, Or.inl y⟩]
    · rw [if_neg (nI_ne0 (by omega) (by omega)), show nI t - 1 = nI (t - 1) from by rw [xl_1, pk_sub (by omega)], xr_ld hR (show t - 1 < 600 by omega)]
      simp only [Option.bind_some]
      by_cases x : hd (t - 1) = hd t
      · rw [if_pos (by rw [x]), if_neg (fun q => by rcases q.2 with q | q; · exact y q
                                                    · exact q x)]
      · rw [if_neg (fun q => x (by grind)), if_pos ⟨hp, Or.inr x⟩]
theorem j_isOnset0 {x : Int32} (hx : ¬ (0 ≤ x ∧ x ≤ 599)) : f_X7_isOnset N (some j) x H = some (0, H, 0, 0) := by
  unfold f_X7_isOnset f_X7_isOnset_b42
  simp only [x_isTick, xc_0]
  rw [if_pos (xin_0.mpr hx)]
theorem j_share {k : Nat} (hS : XS H s A mc cap rf) (hJ : JV H j (A 0) (some ro) V) (hk : k < ms_n s) (hn : ms_n s ≤ 40) (h0 : s (6 + 5 * k + 1) ≠ 0) : f_X7_share N (some j) (nI k) H = some (V 6 k * 100 / s (6 + 5 * k + 1), H, 0, 0) := by
  unfold f_X7_share
  simp only [jv_c hJ, jv_0 hJ, jv_1 hJ, jv_2 hJ, jv_3 hJ, jv_4 hJ, jv_5 hJ, jv_6 hJ, sg_0 hS, sg_1 hS, sg_2 hS, sg_c hS, sg_l hS, sg_t0 hS, sg_t1 hS, sg_t2 hS, sg_t3 hS, sg_t4 hS, sg_many hS, Option.bind_some, xc_0, sg_get hS hk, sg_y0 hS hk, sg_y1 hS hk, sg_y2 hS hk, sg_y3 hS hk, sg_y4 hS hk, sg_yc hS hk, sg_yk hS hk, sg_yend hS hk, sg_yw hS hk, jv_l6 hJ (show k < 40 by omega)]
  rw [if_neg h0]
end JG
