/-! THE JUDGE: onset, bars, reason -/
set_option maxRecDepth 100000
section JG
variable {H : xh_H} {s : Nat → Int32} {A : Nat → Nat} {mc : Int32} {cap : Nat} {rf : Nat → Option Nat} {j ro : Nat} {V : Nat → Nat → Int32} {hd : Nat → Int32} {N : Nat}
theorem j_onset {k bg w : Nat} (hN : 3000 ≤ N) (hS : XS H s A mc cap rf) (hJ : JV H j (A 0) (some ro) V) (hR : XR H ro hd) (hz : ∀ t, t < 600 → 0 ≤ hd t) (hk : k < ms_n s) (hb : s (6 + 5 * k) = nI bg) (hb6 : bg < 600) (hw : s 2 = nI w) (hw8 : w < 50) : f_X7_onset N (some j) (some (xy rf k)) H = some (ms_nr hd bg 0 (w + 1), H, 0, 0) := by
  unfold f_X7_onset
  have key : ∀ m far n : Nat, far + m = w + 1 → m < n → f_X7_onset_l2 N n (some j) (some (xy rf k)) (nI far) H = some (ms_nr hd bg far m, H, 0, 0) := by
    intro m
    induction m with
    | zero =>
      intro far n h1 h2
      obtain ⟨n, rfl⟩ : ∃ i, n = i + 1 := ⟨n - 1, by omega⟩
      show f_X7_onset_b2 N (f_X7_onset_l2 N n) _ _ _ _ = _
      unfold f_X7_onset_b2 f_X7_onset_b61
      simp only [jv_c hJ, jv_0 hJ, jv_1 hJ, jv_2 hJ, jv_3 hJ, jv_4 hJ, jv_5 hJ, jv_6 hJ, sg_0 hS, sg_1 hS, sg_2 hS, sg_c hS, sg_l hS, sg_t0 hS, sg_t1 hS, sg_t2 hS, sg_t3 hS, sg_t4 hS, sg_many hS, Option.bind_some, xc_0, hw]
      rw [if_pos (by rw [nI_ltI (by omega) (by omega)]; omega)]
      rfl
    | succ m ih =>
      intro far n h1 h2
      obtain ⟨n, rfl⟩ : ∃ i, n = i + 1 := ⟨n - 1, by omega⟩
      have ih := ih (far + 1) n (by omega) (by omega)
      show f_X7_onset_b2 N (f_X7_onset_l2 N n) _ _ _ _ = _
      unfold f_X7_onset_b2 f_X7_onset_b48 f_X7_onset_b28
      show _ = some ((if far ≤ bg ∧ ms_onI hd (bg - far) = 1 then nI (bg - far) else if bg + far < 600 ∧ ms_onI hd (bg + far) = 1 then nI (bg + far) else ms_nr hd bg (far + 1) m), _, _, _)
      simp only [jv_c hJ, jv_0 hJ, jv_1 hJ, jv_2 hJ, jv_3 hJ, jv_4 hJ, jv_5 hJ, jv_6 hJ, sg_0 hS, sg_1 hS, sg_2 hS, sg_c hS, sg_l hS, sg_t0 hS, sg_t1 hS, sg_t2 hS, sg_t3 hS, sg_t4 hS, sg_many hS, Option.bind_some, xc_0, sg_get hS hk, sg_y0 hS hk, sg_y1 hS hk, sg_y2 hS hk, sg_y3 hS hk, sg_y4 hS hk, sg_yc hS hk, sg_yk hS hk, sg_yend hS hk, sg_yw hS hk, hw, hb, nI_add, nI_1]
      rw [if_neg (by rw [nI_ltI (by omega) (by omega)]; omega)]
      have hB : (xh_cal (f_X7_isOnset N (some j) (nI (bg + far)) H) fun x42 h => if x42 = 0 then f_X7_onset_l2 N n (some j) (some (xy rf k)) (nI (far + 1)) h else (xh_gI h (some (xy rf k)) 5 0).bind fun x49 => some (x49 + nI far, h, 0, 0)) = some (if bg + far < 600 ∧ ms_onI hd (bg + far) = 1 then nI (bg + far) else ms_nr hd bg (far + 1) m, H, 0, 0) := by
        by_cases h1 : bg + far < 600
        · rw [j_isOnset hJ hR hz h1, xc_0]
          simp only [sg_y0 hS hk, hb, Option.bind_some, nI_add, ih]
          by_cases h2 : ms_onI hd (bg + far) = 1
          · rw [if_neg (fun q => ms_onI_b.mp q h2), if_pos ⟨h1, h2⟩]
          · rw [if_pos (ms_onI_b.mpr h2), if_neg (fun q => h2 q.2)]
        · rw [j_isOnset0 (fun q => h1 (by have q2 := q.2; rw [xl_599, nI_leI (by omega) (by omega)] at q2; omega)), xc_0]
          rw [if_pos rfl, if_neg (fun q => h1 q.1)]
          exact ih
      by_cases h3 : far ≤ bg
      · rw [pk_sub h3, j_isOnset hJ hR hz (show bg - far < 600 by omega), xc_0]
        by_cases h4 : ms_onI hd (bg - far) = 1
        · rw [if_neg (fun q => ms_onI_b.mp q h4), if_pos (show far ≤ bg ∧ ms_onI hd (bg - far) = 1 from ⟨h3, h4⟩)]
          simp only [sg_y0 hS hk, hb, Option.bind_some, pk_sub h3]
        · rw [if_pos (ms_onI_b.mpr h4), if_neg (show ¬ (far ≤ bg ∧ ms_onI hd (bg - far) = 1) from fun q => h4 q.2)]
          simp only [sg_y0 hS hk, hb, Option.bind_some, nI_add, jv_c hJ]
          exact hB
      · rw [j_isOnset0 (fun q => nI_sub_neg (by omega) (by omega) q.1), xc_0, if_pos rfl, if_neg (show ¬ (far ≤ bg ∧ ms_onI hd (bg - far) = 1) from fun q => h3 q.1)]
        simp only [sg_y0 hS hk, hb, Option.bind_some, nI_add, jv_c hJ]
        exact hB
  exact key (w + 1) 0 N (by omega) (by omega)
theorem j_bars {k bg ln : Nat} {sel : Bool} (hN : 3000 ≤ N) (hS : XS H s A mc cap rf) (hJ : JV H j (A 0) (some ro) V) (hR : XR H ro hd) (hk : k < ms_n s) (hb : s (6 + 5 * k) = nI bg) (hl : s (6 + 5 * k + 1) = nI ln) (hbl : bg + ln ≤ 600) (h1 : 1 ≤ ln) (h0 : s 0 ≠ 0) : f_X7_bars N (some j) (some (xy rf k)) (xb01 sel) H = some (nI (ms_cnt (ms_bar s hd k sel) (bg + 1) (ln - 1)), H, 0, 0) := by
  unfold f_X7_bars
  simp only [sg_get hS hk, sg_y0 hS hk, sg_y1 hS hk, sg_y2 hS hk, sg_y3 hS hk, sg_y4 hS hk, sg_yc hS hk, sg_yk hS hk, sg_yend hS hk, sg_yw hS hk, Option.bind_some, hb, nI_1]
  have key := xl_run (fun _ _ _ _ _ _ => none) (fun k10 => f_X7_bars_b10 N k10)
    (fun c f => f (some j) (some (xy rf k)) (xb01 sel) (nI (ms_cnt (ms_bar s hd k sel) (bg + 1) c)) (nI (bg + 1 + c)) H)
    (some (nI (ms_cnt (ms_bar s hd k sel) (bg + 1) (ln - 1)), H, 0, 0)) (ln - 1) ?_ ?_ N 0 (by omega) (by omega)
  · exact key
  · intro f c hc
    show f_X7_bars_b10 N f _ _ _ _ _ _ = _
    unfold f_X7_bars_b10 f_X7_bars_b39 f_X7_bars_b77 f_X7_bars_b73 f_X7_bars_b78
    simp only [jv_c hJ, jv_0 hJ, jv_1 hJ, jv_2 hJ, jv_3 hJ, jv_4 hJ, jv_5 hJ, jv_6 hJ, sg_0 hS, sg_1 hS, sg_2 hS, sg_c hS, sg_l hS, sg_t0 hS, sg_t1 hS, sg_t2 hS, sg_t3 hS, sg_t4 hS, sg_many hS, Option.bind_some, xc_0, sg_get hS hk, sg_y0 hS hk, sg_y1 hS hk, sg_y2 hS hk, sg_y3 hS hk, sg_y4 hS hk, sg_yc hS hk, sg_yk hS hk, sg_yend hS hk, sg_yw hS hk, hb, hl, nI_add]
    rw [if_neg (by rw [nI_leI (by omega) (by omega)]; omega), if_neg h0]
    have e1 : nI (bg + 1 + c) - 1 = nI (bg + 1 + c - 1) := by rw [xl_1, pk_sub (by omega)]
    simp only [e1, j_matches hS hJ hR hk (show bg + 1 + c < 600 by omega), j_matches hS hJ hR hk (show bg + 1 + c - 1 < 600 by omega), xc_0, nI_1, jv_c hJ, Option.bind_some]
    show _ = f _ _ _ (nI (ms_cnt _ _ c + (if ms_bar s hd k sel (bg + 1 + c) then 1 else 0))) _ _
    generalize ms_cnt (ms_bar s hd k sel) (bg + 1) c = x
    rw [nI_p0]
    unfold ms_bar
    by_cases h2 : nI (bg + 1 + c) - nI (bg + 1 + c) / s 0 * s 0 = 0
    · rw [if_pos h2, decide_eq_true h2]
      cases sel with
      | false => rfl
      | true =>
        rw [if_neg (by decide), if_neg (by decide)]
        cases ms_m s hd k (bg + 1 + c) with
        | false => rfl
        | true =>
          rw [if_neg (by decide)]
          cases ms_m s hd k (bg + 1 + c - 1) <;> rfl
    · rw [if_neg h2, decide_eq_false h2]; rfl
  · intro f
    show f_X7_bars_b10 N f _ _ _ _ _ _ = _
    unfold f_X7_bars_b10 f_X7_bars_b86
    simp only [sg_get hS hk, sg_y0 hS hk, sg_y1 hS hk, sg_y2 hS hk, sg_y3 hS hk, sg_y4 hS hk, sg_yc hS hk, sg_yk hS hk, sg_yend hS hk, sg_yw hS hk, Option.bind_some, xc_0, hb, hl, nI_add]
    rw [if_pos (by rw [nI_leI (by omega) (by omega)]; omega)]
theorem j_reason {k bg ln : Nat} (hN : 3000 ≤ N) (hS : XS H s A mc cap rf) (hJ : JV H j (A 0) (some ro) V) (hR : XR H ro hd) (hz : ∀ t, t < 600 → 0 ≤ hd t) (hk : k < ms_n s) (hn : ms_n s ≤ 40) (hb : s (6 + 5 * k) = nI bg) (hl : s (6 + 5 * k + 1) = nI ln) (hbl : bg + ln ≤ 600) (h1 : 1 ≤ ln) : f_X7_reason N (some j) (some (xy rf k)) (nI k) H = some (ms_why s hd k bg ln (V 6 k) (V 7 k), H, 0, 0) := by
  unfold f_X7_reason
  simp only [sg_get hS hk, sg_y0 hS hk, sg_y1 hS hk, sg_y2 hS hk, sg_y3 hS hk, sg_y4 hS hk, sg_yc hS hk, sg_yk hS hk, sg_yend hS hk, sg_yw hS hk, Option.bind_some, hb]
  have key := xl_run (fun _ _ _ _ _ _ => none) (fun k8 => f_X7_reason_b8 N k8)
    (fun c f => f (some j) (some (xy rf k)) (nI k) (xb01 (decide (ms_cnt (fun t => decide (0 < hd t)) bg c = 0))) (nI (bg + c)) H)
    (some (ms_why s hd k bg ln (V 6 k) (V 7 k), H, 0, 0)) ln ?_ ?_ N 0 (by omega) (by omega)
  · exact key
  · intro f c hc
    show f_X7_reason_b8 N f _ _ _ _ _ _ = _
    unfold f_X7_reason_b8 f_X7_reason_b37 f_X7_reason_b36 f_X7_reason_b37
    simp only [jv_c hJ, jv_0 hJ, jv_1 hJ, jv_2 hJ, jv_3 hJ, jv_4 hJ, jv_5 hJ, jv_6 hJ, sg_get hS hk, sg_y0 hS hk, sg_y1 hS hk, sg_y2 hS hk, sg_y3 hS hk, sg_y4 hS hk, sg_yc hS hk, sg_yk hS hk, sg_yend hS hk, sg_yw hS hk, Option.bind_some, xc_0, hb, hl, nI_add, xr_ld hR (show bg + c < 600 by omega), xm1, nI_1]
    rw [if_neg (by rw [nI_leI (by omega) (by omega)]; omega)]
    show _ = f _ _ _ (xb01 (decide (ms_cnt (fun t => decide (0 < hd t)) bg c + (if decide (0 < hd (bg + c)) then 1 else 0) = 0))) _ _
    generalize ms_cnt (fun t => decide (0 < hd t)) bg c = x
    by_cases h2 : x = 0
    · rw [decide_eq_true h2, if_neg (show ¬ xb01 true = 0 by decide)]
      by_cases h3 : hd (bg + c) = 0
      · rw [if_pos h3, h3, h2]; rfl
      · have hp : 0 < hd (bg + c) := by
          rcases Int32.le_iff_lt_or_eq.mp (hz (bg + c) (by omega)) with q | q
          · exact q
          · exact absurd q.symm h3
        rw [if_neg h3, decide_eq_true hp, if_pos rfl, decide_eq_false (by omega)]; rfl
    · rw [decide_eq_false h2, if_pos (show xb01 false = 0 from rfl), decide_eq_false (by omega)]; rfl
  · intro f
    show f_X7_reason_b8 N f _ _ _ _ _ _ = _
    unfold f_X7_reason_b8 f_X7_reason_b44 ms_why
    have hsh := j_share (N := N) hS hJ hk hn (by rw [hl]; exact nI_ne0 (by omega) (by omega))
    simp only [jv_c hJ, jv_0 hJ, jv_1 hJ, jv_2 hJ, jv_3 hJ, jv_4 hJ, jv_5 hJ, jv_6 hJ, sg_0 hS, sg_1 hS, sg_2 hS, sg_c hS, sg_l hS, sg_t0 hS, sg_t1 hS, sg_t2 hS, sg_t3 hS, sg_t4 hS, sg_many hS, Option.bind_some, xc_0, sg_get hS hk, sg_y0 hS hk, sg_y1 hS hk, sg_y2 hS hk, sg_y3 hS hk, sg_y4 hS hk, sg_yc hS hk, sg_yk hS hk, sg_yend hS hk, sg_yw hS hk, hb, hl, nI_add, hsh, jv_l6 hJ (show k < 40 by omega), jv_l7 hJ (show k < 40 by omega)]
    rw [if_pos (by rw [nI_leI (by omega) (by omega)]; omega)]
    by_cases h2 : ms_cnt (fun t => decide (0 < hd t)) bg ln = 0
    · rw [if_pos h2, decide_eq_true h2, if_neg (show ¬ xb01 true = 0 by decide)]
    · rw [if_neg h2, decide_eq_false h2, if_pos (show xb01 false = 0 from rfl)]
      by_cases h3 : V 6 k = 0
      · rw [if_pos h3, if_pos h3]
      · rw [if_neg h3, if_neg h3]
        by_cases h4 : V 7 k = -5
        · rw [if_pos h4, if_pos h4]
        · rw [if_neg h4, if_neg h4]
          split <;> rfl
end JG
