/-! THE JUDGE's RUN: one syllable, all -/
set_option maxRecDepth 100000
section XJ
variable {H : xh_H} {s : Nat → Int32} {A : Nat → Nat} {mc : Int32} {cap : Nat} {rf : Nat → Option Nat} {j ro : Nat} {V : Nat → Nat → Int32} {hd : Nat → Int32} {N : Nat}
theorem jr_29 {k bg ln : Nat} (hN : 3000 ≤ N) (hS : ∀ V, XS (xj_M H j (A 0) (some ro) V) s A mc cap rf) (hR : ∀ V, XR (xj_M H j (A 0) (some ro) V) ro hd) (hk : k < ms_n s) (hn : ms_n s ≤ 40) (hb : s (6 + 5 * k) = nI bg) (hl : s (6 + 5 * k + 1) = nI ln) (hbl : bg + ln ≤ 600) :
    f_X7_judge_l29 N N (some j) (nI k) (some (xy rf k)) (nI bg) (xj_M H j (A 0) (some ro) (xm_sV V 6 (upd (V 6) k 0))) = f_X7_judge_b66 N (some j) (nI k) (some (xy rf k)) (xj_M H j (A 0) (some ro) (xm_sV V 6 (upd (V 6) k (nI (ms_cnt (ms_m s hd k) bg ln))))) := by
  have key := xl_run (fun _ _ _ _ _ => none) (fun k29 => f_X7_judge_b29 N k29)
    (fun c f => f (some j) (nI k) (some (xy rf k)) (nI (bg + c)) (xj_M H j (A 0) (some ro) (xm_sV V 6 (upd (V 6) k (nI (ms_cnt (ms_m s hd k) bg c))))))
    (f_X7_judge_b66 N (some j) (nI k) (some (xy rf k)) (xj_M H j (A 0) (some ro) (xm_sV V 6 (upd (V 6) k (nI (ms_cnt (ms_m s hd k) bg ln)))))) ln ?_ ?_ N 0 (by omega) (by omega)
  · exact key
  · intro f c hc
    show f_X7_judge_b29 N f _ _ _ _ _ = _
    have hm : ∀ V, f_X7_matches N (some j) (some (xy rf k)) (nI (bg + c)) (xj_M H j (A 0) (some ro) V) = some (xb01 (ms_m s hd k (bg + c)), xj_M H j (A 0) (some ro) V, 0, 0) := fun V => j_matches (hS V) xj_JV (hR V) hk (by omega)
    unfold f_X7_judge_b29 f_X7_judge_b58
    simp (disch := omega) only [xj_c, xj_0, xj_1, xj_2, xj_3, xj_4, xj_5, xj_6, Option.bind_some, xc_0, sg_get (hS _) hk, sg_y0 (hS _) hk, sg_y1 (hS _) hk, sg_y2 (hS _) hk, sg_y3 (hS _) hk, sg_y4 (hS _) hk, sg_yc (hS _) hk, sg_yk (hS _) hk, sg_yend (hS _) hk, sg_yw (hS _) hk, hb, hl, nI_add, xj_l6, hm, xm_sVs, upd_s, xj_s6, upd_u, xm_sVV, nI_1, nI_p0]
    rw [if_neg (by rw [nI_leI (by omega) (by omega)]; omega)]
    show _ = f _ _ _ _ (xj_M H j (A 0) (some ro) (xm_sV V 6 (upd (V 6) k (nI (ms_cnt (ms_m s hd k) bg c + (if ms_m s hd k (bg + c) then 1 else 0))))))
    cases ms_m s hd k (bg + c) <;> rfl
  · intro f
    show f_X7_judge_b29 N f _ _ _ _ _ = _
    unfold f_X7_judge_b29
    simp (disch := omega) only [xj_c, xj_0, xj_1, xj_2, xj_3, xj_4, xj_5, xj_6, Option.bind_some, xc_0, sg_get (hS _) hk, sg_y0 (hS _) hk, sg_y1 (hS _) hk, sg_y2 (hS _) hk, sg_y3 (hS _) hk, sg_y4 (hS _) hk, sg_yc (hS _) hk, sg_yk (hS _) hk, sg_yend (hS _) hk, sg_yw (hS _) hk, hb, hl, nI_add]
    rw [if_pos (by rw [nI_leI (by omega) (by omega)]; omega)]
theorem jr_judge {k : Nat} (hN : 3000 ≤ N) (hS : ∀ V, XS (xj_M H j (A 0) (some ro) V) s A mc cap rf) (hR : ∀ V, XR (xj_M H j (A 0) (some ro) V) ro hd) (hz : ∀ t, t < 600 → 0 ≤ hd t) (hk : k < ms_n s) (hok : ms_ok s) (v1 : V 1 = s) (v5 : V 5 = hd) :
    f_X7_judge N (some j) (nI k) (xj_M H j (A 0) (some ro) (mj_V V k)) = some ((), xj_M H j (A 0) (some ro) (mj_V V (k + 1)), 0, 0) := by
  obtain ⟨h5, hn, hsy, hap, hfi, ⟨hs0, hs2, hs2'⟩, hsu⟩ := id hok
  obtain ⟨hb, hl, hl1, hl2, hbl, hfs⟩ := hsy k hk
  unfold f_X7_judge
  simp (disch := omega) only [xj_c, xj_0, xj_1, xj_2, xj_3, xj_4, xj_5, xj_6, Option.bind_some, xc_0, sg_0 (hS _), sg_1 (hS _), sg_2 (hS _), sg_c (hS _), sg_l (hS _), sg_t0 (hS _), sg_t1 (hS _), sg_t2 (hS _), sg_t3 (hS _), sg_t4 (hS _), sg_many (hS _), sg_get (hS _) hk, sg_y0 (hS _) hk, sg_y1 (hS _) hk, sg_y2 (hS _) hk, sg_y3 (hS _) hk, sg_y4 (hS _) hk, sg_yc (hS _) hk, sg_yk (hS _) hk, sg_yend (hS _) hk, sg_yw (hS _) hk, xj_s6, hb]
  rw [jr_29 hN hS hR hk hn hb hl hbl]
  have hon : ∀ V, f_X7_onset N (some j) (some (xy rf k)) (xj_M H j (A 0) (some ro) V) = some (mj_on s hd k, xj_M H j (A 0) (some ro) V, 0, 0) := fun V => j_onset hN (hS V) xj_JV (hR V) hz hk hb (by omega) hs2 (by omega)
  have hre : ∀ W : Nat → Nat → Int32, f_X7_reason N (some j) (some (xy rf k)) (nI k) (xj_M H j (A 0) (some ro) W) = some (ms_why s hd k (ms_b s k) (ms_l s k) (W 6 k) (W 7 k), xj_M H j (A 0) (some ro) W, 0, 0) := fun W => j_reason hN (hS W) xj_JV (hR W) hz hk hn hb hl hbl hl1
  have hba : ∀ W : Nat → Nat → Int32, f_X7_bars N (some j) (some (xy rf k)) (1 : Int32) (xj_M H j (A 0) (some ro) W) = some (nI (ms_cnt (ms_bar s hd k true) (ms_b s k + 1) (ms_l s k - 1)), xj_M H j (A 0) (some ro) W, 0, 0) := fun W => j_bars (sel := true) hN (hS W) xj_JV (hR W) hk hb hl hbl hl1 hs0
  have hsh : ∀ W : Nat → Nat → Int32, f_X7_share N (some j) (nI k) (xj_M H j (A 0) (some ro) W) = some (W 6 k * 100 / s (6 + 5 * k + 1), xj_M H j (A 0) (some ro) W, 0, 0) := fun W => j_share (hS W) xj_JV hk hn (by rw [hl]; exact nI_ne0 (by omega) (by omega))
  unfold f_X7_judge_b66
  simp (disch := omega) only [xj_c, xj_0, xj_1, xj_2, xj_3, xj_4, xj_5, xj_6, Option.bind_some, xc_0, hon, xj_s7, hre, xm_sVs, xm_sVn, upd_s, xj_s8]
  generalize hW : xm_sV (xm_sV (xm_sV (mj_V V k) 6 (upd (mj_V V k 6) k (nI (ms_cnt (ms_m s hd k) (ms_b s k) (ms_l s k))))) 7 (upd (mj_V V k 7) k (mj_on s hd k))) 8 (upd (mj_V V k 8) k (ms_why s hd k (ms_b s k) (ms_l s k) (nI (ms_cnt (ms_m s hd k) (ms_b s k) (ms_l s k))) (mj_on s hd k))) = W
  have w6 : W 6 k = mj_mt s hd k := by rw [← hW, xm_sVn (by omega), xm_sVn (by omega), xm_sVs, upd_s]; rfl
  have w7 : W 7 k = mj_on s hd k := by rw [← hW, xm_sVn (by omega), xm_sVs, upd_s]
  have w8 : W 8 k = mj_why s hd k := by rw [← hW, xm_sVs, upd_s]; rfl
  have w8p : 0 < k → W 8 (k - 1) = mj_why s hd (k - 1) := fun h0 => by
    rw [← hW, xm_sVs]
    unfold upd
    rw [if_neg (by omega), mj_Vi (by omega), v1, v5]
    unfold ms_pre
    rw [if_pos (by omega)]; rfl
  have w9p : 0 < k → W 9 (k - 1) = mj_row s hd (k - 1) := fun h0 => by
    rw [← hW, xm_sVn (by omega), xm_sVn (by omega), xm_sVn (by omega), mj_Vi (by omega), v1, v5]
    unfold ms_pre
    rw [if_pos (by omega)]; rfl
  -- the points
  have h166 : f_X7_judge_b166 N (some j) (nI k) (some (xy rf k)) (some (j + 4)) (nI k) (mj_row s hd k) (xj_M H j (A 0) (some ro) W) = some ((), xj_M H j (A 0) (some ro) (xm_sV (xm_sV W 9 (upd (W 9) k (mj_row s hd k))) 10 (upd (W 10) k (mj_pts s hd k))), 0, 0) := by
    unfold f_X7_judge_b166
    simp (disch := omega) only [xj_c, xj_0, xj_1, xj_2, xj_3, xj_4, xj_5, xj_6, Option.bind_some, xc_0, xj_s9, xj_s10, xj_l8, xj_l7, xj_l9, xm_sVn, xm_sVs, xm_sVV, upd_s, upd_u, hsh, hba, sg_get (hS _) hk, sg_y0 (hS _) hk, sg_y1 (hS _) hk, sg_y2 (hS _) hk, sg_y3 (hS _) hk, sg_y4 (hS _) hk, sg_yc (hS _) hk, sg_yk (hS _) hk, sg_yend (hS _) hk, sg_yw (hS _) hk, w6, w7, w8, xpts, xab_abs]
    unfold mj_pts ms_pts
    by_cases z : mj_why s hd k = 0
    · rw [if_pos z, if_pos z]
    · rw [if_neg z, if_neg z]
  have hfin : xm_sV (xm_sV W 9 (upd (W 9) k (mj_row s hd k))) 10 (upd (W 10) k (mj_pts s hd k)) = mj_V V (k + 1) := by
    have st : ∀ i, 6 ≤ i ∧ i ≤ 10 → upd (mj_V V k i) k (mj s hd i k) = mj_V V (k + 1) i := fun i hi => by rw [mj_Vi hi, mj_Vi hi, v1, v5]; exact ms_pre_s
    funext i
    by_cases j10 : i = 10
    · subst j10
      rw [xm_sVs, ← hW, xm_sVn (by omega), xm_sVn (by omega), xm_sVn (by omega)]
      exact st 10 (by omega)
    rw [xm_sVn j10]
    by_cases j9 : i = 9
    · subst j9
      rw [xm_sVs, ← hW, xm_sVn (by omega), xm_sVn (by omega), xm_sVn (by omega)]
      exact st 9 (by omega)
    rw [xm_sVn j9, ← hW]
    by_cases j8 : i = 8
    · subst j8
      rw [xm_sVs]
      exact st 8 (by omega)
    rw [xm_sVn j8]
    by_cases j7 : i = 7
    · subst j7
      rw [xm_sVs]
      exact st 7 (by omega)
    rw [xm_sVn j7]
    by_cases j6 : i = 6
    · subst j6
      rw [xm_sVs]
      exact st 6 (by omega)
    rw [xm_sVn j6, mj_Vo (by omega), mj_Vo (by omega)]
  rw [hfin] at h166
  have hrow := mj_row_J (s := s) (hd := hd) (k := k) (hfi (by omega))
  have h136 : (¬ (0 < k ∧ ms_ph s (k - 1) = ms_ph s k ∧ mj_why s hd (k - 1) = 0)) → f_X7_judge_b136 N (some j) (nI k) (some (xy rf k)) (xj_M H j (A 0) (some ro) W) = some ((), xj_M H j (A 0) (some ro) (mj_V V (k + 1)), 0, 0) := by
    intro q
    rw [if_neg q] at hrow
    unfold f_X7_judge_b136 f_X7_judge_b137
    simp only [xj_c, xj_0, xj_1, xj_2, xj_3, xj_4, xj_5, xj_6, Option.bind_some, xc_0]
    rw [if_pos trivial, ← hrow]
    exact h166
  by_cases k0 : k = 0
  · rw [if_pos (by rw [k0]; decide)]
    exact h136 (fun q => by omega)
  · have hk1 : k - 1 < ms_n s := by omega
    rw [if_neg (by rw [xl_0, nI_leI (by omega) (by omega)]; omega)]
    have em : nI k - 1 = nI (k - 1) := by rw [xl_1, pk_sub (by omega)]
    simp only [sg_0 (hS _), sg_1 (hS _), sg_2 (hS _), sg_c (hS _), sg_l (hS _), sg_t0 (hS _), sg_t1 (hS _), sg_t2 (hS _), sg_t3 (hS _), sg_t4 (hS _), sg_many (hS _), em, sg_get (hS _) hk1, sg_yk (hS _) hk1, sg_y4 (hS _) hk1, sg_y4 (hS _) hk, xj_c, xj_0, xj_1, xj_2, xj_3, xj_4, xj_5, xj_6, Option.bind_some, xc_0, xj_l8 (show k - 1 < 40 by omega), w8p (by omega)]
    have hp1 := ms_ph_le (s := s) (k - 1)
    have hp2 := ms_ph_le (s := s) k
    by_cases z : ms_ph s (k - 1) = ms_ph s k
    · rw [if_pos (by rw [z])]
      by_cases y : mj_why s hd (k - 1) = 0
      · rw [if_pos y]
        rw [if_pos ⟨by omega, z, y⟩] at hrow
        unfold f_X7_judge_b137
        simp only [xj_c, xj_0, xj_1, xj_2, xj_3, xj_4, xj_5, xj_6, Option.bind_some, xc_0]
        rw [if_neg (by decide)]
        simp only [em, xj_l9 (show k - 1 < 40 by omega), w9p (by omega), Option.bind_some]
        rw [← hrow]
        exact h166
      · rw [if_neg y]
        exact h136 (fun q => y q.2.2)
    · rw [if_neg (fun q => z ((nI_eq (by omega) (by omega)).mp q))]
      exact h136 (fun q => z q.2.1)
theorem jr_run {o : Option Nat} (hN : 3000 ≤ N) (hS : ∀ V, XS (xj_M H j (A 0) (some ro) V) s A mc cap rf) (hR : ∀ V, XR (xj_M H j (A 0) (some ro) V) ro hd) (hz : ∀ t, t < 600 → 0 ≤ hd t) (hok : ms_ok s) (v1 : V 1 = s) (v5 : V 5 = hd) :
    f_X7_run N (some j) (some ro) (xj_M H j (A 0) o V) = some (some j, xj_M H j (A 0) (some ro) (mj_V V (ms_n s)), 0, 0) := by
  unfold f_X7_run
  rw [xj_p6, Option.bind_some]
  have hn := hok.2.1
  have key := xl_run (fun _ _ _ => none) (fun k7 => f_X7_run_b7 N k7)
    (fun c f => f (some j) (nI c) (xj_M H j (A 0) (some ro) (mj_V V c)))
    (some (some j, xj_M H j (A 0) (some ro) (mj_V V (ms_n s)), 0, 0)) (ms_n s) ?_ ?_ N 0 (by omega) (by omega)
  · rw [mj_V0] at key
    exact key
  · intro f c hc
    show f_X7_run_b7 N f _ _ _ = _
    unfold f_X7_run_b7
    simp only [xj_c, xj_0, xj_1, xj_2, xj_3, xj_4, xj_5, xj_6, Option.bind_some, xc_0, sg_0 (hS _), sg_1 (hS _), sg_2 (hS _), sg_c (hS _), sg_l (hS _), sg_t0 (hS _), sg_t1 (hS _), sg_t2 (hS _), sg_t3 (hS _), sg_t4 (hS _), sg_many (hS _), jr_judge hN hS hR hz hc hok v1 v5, nI_1]
    rw [if_neg (by rw [nI_leI (by omega) (by omega)]; omega)]
  · intro f
    show f_X7_run_b7 N f _ _ _ = _
    unfold f_X7_run_b7 f_X7_run_b29
    simp only [xj_c, xj_0, xj_1, xj_2, xj_3, xj_4, xj_5, xj_6, Option.bind_some, xc_0, sg_0 (hS _), sg_1 (hS _), sg_2 (hS _), sg_c (hS _), sg_l (hS _), sg_t0 (hS _), sg_t1 (hS _), sg_t2 (hS _), sg_t3 (hS _), sg_t4 (hS _), sg_many (hS _)]
    rw [if_pos (by rw [nI_leI (by omega) (by omega)]; omega)]
end XJ
