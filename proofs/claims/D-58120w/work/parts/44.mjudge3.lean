/-! THE MODEL's judge -/
set_option maxRecDepth 100000
def ms_b (s : Nat → Int32) (k : Nat) : Nat := (s (6 + 5 * k)).toNatClampNeg
def ms_l (s : Nat → Int32) (k : Nat) : Nat := (s (6 + 5 * k + 1)).toNatClampNeg
/-- what holds of every song -/
def ms_ok (s : Nat → Int32) : Prop := s 5 = nI (ms_n s) ∧ ms_n s ≤ 40 ∧
  (∀ k, k < ms_n s → s (6 + 5 * k) = nI (ms_b s k) ∧ s (6 + 5 * k + 1) = nI (ms_l s k) ∧ 1 ≤ ms_l s k ∧ ms_l s k ≤ 32 ∧ ms_b s k + ms_l s k ≤ 600 ∧ (s (6 + 5 * k + 4) = 0 ∨ s (6 + 5 * k + 4) = 1)) ∧
  (∀ k, k + 1 < ms_n s → ms_b s k + ms_l s k ≤ ms_b s (k + 1)) ∧ (0 < ms_n s → s 10 = 1) ∧
  (s 0 ≠ 0 ∧ s 2 = nI (s 2).toNatClampNeg ∧ (s 2).toNatClampNeg ≤ 8) ∧ (∀ t, t < 600 → 0 ≤ s (206 + t) ∧ s (206 + t) ≤ 61)
def mj_mt (s hd : Nat → Int32) (k : Nat) : Int32 := nI (ms_cnt (ms_m s hd k) (ms_b s k) (ms_l s k))
def mj_on (s hd : Nat → Int32) (k : Nat) : Int32 := ms_nr hd (ms_b s k) 0 ((s 2).toNatClampNeg + 1)
def mj_why (s hd : Nat → Int32) (k : Nat) : Int32 := ms_why s hd k (ms_b s k) (ms_l s k) (mj_mt s hd k) (mj_on s hd k)
/-- the hits in a row ahead of k -/
def mj_run (s hd : Nat → Int32) : Nat → Nat
  | 0 => 0
  | k + 1 => if mj_why s hd k = 0 then (if s (6 + 5 * k + 4) = 1 then 0 else mj_run s hd k) + 1 else 0
theorem mj_run_le (s hd : Nat → Int32) : ∀ k, mj_run s hd k ≤ k
  | 0 => Nat.le_refl 0
  | k + 1 => by
    have := mj_run_le s hd k
    show (if mj_why s hd k = 0 then (if s (6 + 5 * k + 4) = 1 then 0 else mj_run s hd k) + 1 else 0) ≤ k + 1
    split
    · split <;> omega
    · omega
def mj_row (s hd : Nat → Int32) (k : Nat) : Int32 := nI (min 10 (if s (6 + 5 * k + 4) = 1 then 0 else mj_run s hd k))
def mj_pts (s hd : Nat → Int32) (k : Nat) : Int32 := ms_pts s hd k (ms_b s k) (ms_l s k) (mj_mt s hd k) (mj_on s hd k) (mj_why s hd k) (mj_row s hd k)
def mj (s hd : Nat → Int32) (j : Nat) : Nat → Int32 := match j with
  | 6 => mj_mt s hd
  | 7 => mj_on s hd
  | 8 => mj_why s hd
  | 9 => mj_row s hd
  | _ => mj_pts s hd
def mj_V (V : Nat → Nat → Int32) (n : Nat) : Nat → Nat → Int32 := fun j => if 6 ≤ j ∧ j ≤ 10 then ms_pre (mj (V 1) (V 5) j) (V j) n else V j
theorem mj_V0 {V : Nat → Nat → Int32} : mj_V V 0 = V := by
  funext j
  unfold mj_V
  split
  · exact ms_pre_0
  · rfl
theorem mj_Vo {V : Nat → Nat → Int32} {n j : Nat} (h : ¬ (6 ≤ j ∧ j ≤ 10)) : mj_V V n j = V j := if_neg h
theorem mj_Vi {V : Nat → Nat → Int32} {n j : Nat} (h : 6 ≤ j ∧ j ≤ 10) : mj_V V n j = ms_pre (mj (V 1) (V 5) j) (V j) n := if_pos h
section MS
variable {h : xh_H} {b : Nat} {F : Nat → Int32} {V : Nat → Nat → Int32}
theorem s_judge28 {N k bg ln : Nat} {a1 : Int32} {k4 : Option Nat → Int32 → Int32 → xh_H → xh_R Unit} (hN : 3000 ≤ N) (hk : k < 40) (hb : V 1 (6 + 5 * k) = nI bg) (hl : V 1 (6 + 5 * k + 1) = nI ln) (hbl : bg + ln ≤ 600) : f_X2_judge_l28 N k4 N (some b) a1 (nI k) (nI bg) (xm_M h b F (xm_sV V 6 (upd (V 6) k 0))) = f_X2_judge_b66 N k4 (some b) a1 (nI k) (xm_M h b F (xm_sV V 6 (upd (V 6) k (nI (ms_cnt (ms_m (V 1) (V 5) k) bg ln))))) := by
  have key := xl_run (fun _ _ _ _ _ => none) (fun k28 => f_X2_judge_b28 N k4 k28)
    (fun c f => f (some b) a1 (nI k) (nI (bg + c)) (xm_M h b F (xm_sV V 6 (upd (V 6) k (nI (ms_cnt (ms_m (V 1) (V 5) k) bg c))))))
    (f_X2_judge_b66 N k4 (some b) a1 (nI k) (xm_M h b F (xm_sV V 6 (upd (V 6) k (nI (ms_cnt (ms_m (V 1) (V 5) k) bg ln)))))) ln ?_ ?_ N 0 (by omega) (by omega)
  · exact key
  · intro f c hc
    have hcn : ∀ j, j ≠ 6 → xm_sV V 6 (upd (V 6) k (nI (ms_cnt (ms_m (V 1) (V 5) k) bg c))) j = V j := fun j hj => xm_sVn hj
    show f_X2_judge_b28 N k4 f _ _ _ _ _ = _
    unfold f_X2_judge_b28 f_X2_judge_b58
    simp (disch := omega) only [xm_chk, xm_g0, xm_g1, xm_g3, xm_g5, xm_g7, xm_g8, xm_g9, xm_g10, xm_g11, xm_g12, xm_g14, xm_i2, xm_i4, xm_i6, xm_i13, xm_i15, Option.bind_some, xc_0, xm_p2, xm_p6, xm_p13, xm_p15, s_behind, xm_l6, s_matches, hcn, hb, hl, nI_add, xm_sVs, upd_s, xm_s6, upd_u, xm_sVV, nI_1, nI_p0]
    rw [if_neg (by rw [nI_leI (by omega) (by omega)]; omega)]
    show _ = f _ _ _ _ (xm_M h b F (xm_sV V 6 (upd (V 6) k (nI (ms_cnt (ms_m (V 1) (V 5) k) bg c + (if ms_m (V 1) (V 5) k (bg + c) then 1 else 0))))))
    cases ms_m (V 1) (V 5) k (bg + c) <;> rfl
  · intro f
    have hcn : ∀ j, j ≠ 6 → xm_sV V 6 (upd (V 6) k (nI (ms_cnt (ms_m (V 1) (V 5) k) bg ln))) j = V j := fun j hj => xm_sVn hj
    show f_X2_judge_b28 N k4 f _ _ _ _ _ = _
    unfold f_X2_judge_b28
    simp (disch := omega) only [xm_chk, xm_g0, xm_g1, xm_g3, xm_g5, xm_g7, xm_g8, xm_g9, xm_g10, xm_g11, xm_g12, xm_g14, xm_i2, xm_i4, xm_i6, xm_i13, xm_i15, Option.bind_some, xc_0, xm_p2, xm_p6, xm_p13, xm_p15, s_behind, hcn, hb, hl, nI_add]
    rw [if_pos (by rw [nI_leI (by omega) (by omega)]; omega)]
theorem s_judge {N : Nat} (hN : 3000 ≤ N) (hok : ms_ok (V 1)) : f_X2_judge N (some b) (xm_M h b F V) = some ((), xm_M h b F (mj_V V (ms_n (V 1))), 0, 0) := by
  obtain ⟨h5, hn, hsy, hap, hfi, ⟨hs0, hs2, hs2'⟩, hsu⟩ := hok
  have key := xl_run (fun _ _ _ _ => none) (fun k4 => f_X2_judge_b4 N k4)
    (fun c f => f (some b) (nI (mj_run (V 1) (V 5) c)) (nI c) (xm_M h b F (mj_V V c)))
    (some ((), xm_M h b F (mj_V V (ms_n (V 1))), 0, 0)) (ms_n (V 1)) ?_ ?_ N 0 (by omega) (by omega)
  · rw [mj_V0] at key
    exact key
  · intro f k hk
    obtain ⟨hb, hl, hl1, hl2, hbl, hfs⟩ := hsy k hk
    have e1 : mj_V V k 1 = V 1 := mj_Vo (by omega)
    have e5 : mj_V V k 5 = V 5 := mj_Vo (by omega)
    show f_X2_judge_b4 N f _ _ _ _ = _
    unfold f_X2_judge_b4
    simp (disch := omega) only [xm_chk, xm_g0, xm_g1, xm_g3, xm_g5, xm_g7, xm_g8, xm_g9, xm_g10, xm_g11, xm_g12, xm_g14, xm_i2, xm_i4, xm_i6, xm_i13, xm_i15, Option.bind_some, xc_0, xm_p2, xm_p6, xm_p13, xm_p15, xm_l1c0, xm_l1c1, xm_l1c2, xm_l1c3, xm_l1c4, xm_l1c5, s_of0, s_of1, s_of2, s_of3, s_of4, e1, h5, xm_s6, xm_sVn, Nat.add_zero]
    rw [if_neg (by rw [nI_leI (by omega) (by omega)]; omega), hb, s_judge28 hN (by omega) (by rw [e1]; exact hb) (by rw [e1]; exact hl) hbl, e1, e5]
    have hrun := mj_run_le (V 1) (V 5) k
    unfold f_X2_judge_b66 f_X2_judge_b103
    have hnr : ∀ W : Nat → Nat → Int32, W 1 = V 1 → f_X2_nearestOnset N (some b) (nI k) (xm_M h b F W) = some (ms_nr (W 5) (ms_b (V 1) k) 0 ((V 1 2).toNatClampNeg + 1), xm_M h b F W, 0, 0) := fun W hW =>
      s_nearestOnset hN (by omega) (by rw [hW]; exact hb) (by omega) (by rw [hW]; exact hs2) (by omega)
    have hre : ∀ W : Nat → Nat → Int32, W 1 = V 1 → f_X2_reasonOf N (some b) (nI k) (xm_M h b F W) = some (ms_why (V 1) (W 5) k (ms_b (V 1) k) (ms_l (V 1) k) (W 6 k) (W 7 k), xm_M h b F W, 0, 0) := fun W hW => by
      have := s_reasonOf (h := h) (b := b) (F := F) (V := W) hN (show k < 40 by omega) (by rw [hW]; exact hb) (by rw [hW]; exact hl) hbl hl1
      rw [hW] at this; exact this
    have hpo : ∀ W : Nat → Nat → Int32, W 1 = V 1 → f_X2_pointsOf N (some b) (nI k) (xm_M h b F W) = some (ms_pts (V 1) (W 5) k (ms_b (V 1) k) (ms_l (V 1) k) (W 6 k) (W 7 k) (W 8 k) (W 9 k), xm_M h b F W, 0, 0) := fun W hW => by
      have := s_pointsOf (h := h) (b := b) (F := F) (V := W) hN (show k < 40 by omega) (by rw [hW]; exact hb) (by rw [hW]; exact hl) hbl hl1 (by rw [hW]; exact hs0)
      rw [hW] at this; exact this
    simp (disch := first | omega | (simp (disch := omega) only [xm_sVn, e1])) only [xm_chk, xm_g0, xm_g1, xm_g3, xm_g5, xm_g7, xm_g8, xm_g9, xm_g10, xm_g11, xm_g12, xm_g14, xm_i2, xm_i4, xm_i6, xm_i13, xm_i15, Option.bind_some, xc_0, xm_p2, xm_p6, xm_p13, xm_p15, hnr, xm_s7, xm_sVn, e1, e5, xm_sVs, upd_s, hre, xm_s8, s_of4]
    generalize hW : xm_sV (xm_sV (xm_sV (mj_V V k) 6 (upd (mj_V V k 6) k (nI (ms_cnt (ms_m (V 1) (V 5) k) (ms_b (V 1) k) (ms_l (V 1) k))))) 7 (upd (mj_V V k 7) k (ms_nr (V 5) (ms_b (V 1) k) 0 ((V 1 2).toNatClampNeg + 1)))) 8 (upd (mj_V V k 8) k (ms_why (V 1) (V 5) k (ms_b (V 1) k) (ms_l (V 1) k) (nI (ms_cnt (ms_m (V 1) (V 5) k) (ms_b (V 1) k) (ms_l (V 1) k))) (ms_nr (V 5) (ms_b (V 1) k) 0 ((V 1 2).toNatClampNeg + 1)))) = W
    have w1 : W 1 = V 1 := by rw [← hW, xm_sVn (by omega), xm_sVn (by omega), xm_sVn (by omega), e1]
    have w5 : W 5 = V 5 := by rw [← hW, xm_sVn (by omega), xm_sVn (by omega), xm_sVn (by omega), e5]
    have w6 : W 6 k = mj_mt (V 1) (V 5) k := by rw [← hW, xm_sVn (by omega), xm_sVn (by omega), xm_sVs, upd_s]; rfl
    have w7 : W 7 k = mj_on (V 1) (V 5) k := by rw [← hW, xm_sVn (by omega), xm_sVs, upd_s]; rfl
    have w8 : W 8 k = mj_why (V 1) (V 5) k := by rw [← hW, xm_sVs, upd_s]; rfl
    have h121 : ∀ (q : Nat) (r : Int32), f_X2_judge_b121 N f (some b) (nI q) (nI k) (some (b + 9)) (nI k) r (xm_M h b F W) = f (some b) (nI (if mj_why (V 1) (V 5) k = 0 then q + 1 else 0)) (nI (k + 1)) (xm_M h b F (xm_sV (xm_sV W 9 (upd (W 9) k r)) 10 (upd (W 10) k (ms_pts (V 1) (V 5) k (ms_b (V 1) k) (ms_l (V 1) k) (mj_mt (V 1) (V 5) k) (mj_on (V 1) (V 5) k) (mj_why (V 1) (V 5) k) r)))) := by
      intro q r
      unfold f_X2_judge_b121 f_X2_judge_b138
      simp (disch := first | omega | (simp (disch := omega) only [xm_sVn, w1])) only [xm_chk, xm_g0, xm_g1, xm_g3, xm_g5, xm_g7, xm_g8, xm_g9, xm_g10, xm_g11, xm_g12, xm_g14, xm_i2, xm_i4, xm_i6, xm_i13, xm_i15, Option.bind_some, xc_0, xm_p2, xm_p6, xm_p13, xm_p15, xm_s9, xm_l8, hpo, xm_sVn, xm_sVs, upd_s, w5, w6, w7, w8, xm_s10, nI_1]
      by_cases hq : mj_why (V 1) (V 5) k = 0
      · rw [if_pos hq, if_pos hq]
      · rw [if_neg hq, if_neg hq]; rfl
    have hfin : ∀ r, r = mj_row (V 1) (V 5) k → xm_sV (xm_sV W 9 (upd (W 9) k r)) 10 (upd (W 10) k (ms_pts (V 1) (V 5) k (ms_b (V 1) k) (ms_l (V 1) k) (mj_mt (V 1) (V 5) k) (mj_on (V 1) (V 5) k) (mj_why (V 1) (V 5) k) r)) = mj_V V (k + 1) := by
      intro r hr
      subst hr
      have st : ∀ j, 6 ≤ j ∧ j ≤ 10 → upd (mj_V V k j) k (mj (V 1) (V 5) j k) = mj_V V (k + 1) j := fun j hj => by rw [mj_Vi hj, mj_Vi hj]; exact ms_pre_s
      funext j
      by_cases j10 : j = 10
      · subst j10
        rw [xm_sVs, ← hW, xm_sVn (by omega), xm_sVn (by omega), xm_sVn (by omega)]
        exact st 10 (by omega)
      rw [xm_sVn j10]
      by_cases j9 : j = 9
      · subst j9
        rw [xm_sVs, ← hW, xm_sVn (by omega), xm_sVn (by omega), xm_sVn (by omega)]
        exact st 9 (by omega)
      rw [xm_sVn j9, ← hW]
      by_cases j8 : j = 8
      · subst j8
        rw [xm_sVs]
        exact st 8 (by omega)
      rw [xm_sVn j8]
      by_cases j7 : j = 7
      · subst j7
        rw [xm_sVs]
        exact st 7 (by omega)
      rw [xm_sVn j7]
      by_cases j6 : j = 6
      · subst j6
        rw [xm_sVs]
        exact st 6 (by omega)
      rw [xm_sVn j6, mj_Vo (by omega), mj_Vo (by omega)]
    show _ = f (some b) (nI (if mj_why (V 1) (V 5) k = 0 then (if V 1 (6 + 5 * k + 4) = 1 then 0 else mj_run (V 1) (V 5) k) + 1 else 0)) _ _
    by_cases hf1 : V 1 (6 + 5 * k + 4) = 1
    · rw [if_pos hf1, if_pos hf1, if_neg (by decide), show (0 : Int32) = nI 0 from rfl, h121, hfin _ (by unfold mj_row; rw [if_pos hf1]; rfl)]
      rfl
    · rw [if_neg hf1, if_neg hf1]
      by_cases h10 : (10 : Int32) ≤ nI (mj_run (V 1) (V 5) k)
      · rw [if_pos h10, h121, hfin _ (by
          rw [xl_10, nI_leI (by omega) (by omega)] at h10
          unfold mj_row; rw [if_neg hf1, Nat.min_eq_left h10]; rfl)]
      · rw [if_neg h10, h121, hfin _ (by
          rw [xl_10, nI_leI (by omega) (by omega)] at h10
          unfold mj_row; rw [if_neg hf1, Nat.min_eq_right (by omega)])]
  · intro f
    have e1 : mj_V V (ms_n (V 1)) 1 = V 1 := mj_Vo (by omega)
    show f_X2_judge_b4 N f _ _ _ _ = _
    unfold f_X2_judge_b4
    simp (disch := omega) only [xm_chk, xm_g0, xm_g1, xm_g3, xm_g5, xm_g7, xm_g8, xm_g9, xm_g10, xm_g11, xm_g12, xm_g14, xm_i2, xm_i4, xm_i6, xm_i13, xm_i15, Option.bind_some, xc_0, xm_p2, xm_p6, xm_p13, xm_p15, xm_l1c0, xm_l1c1, xm_l1c2, xm_l1c3, xm_l1c4, xm_l1c5, s_of0, s_of1, s_of2, s_of3, s_of4, e1, h5]
    rw [if_pos (by rw [nI_leI (by omega) (by omega)]; omega)]
/-- the cells behind judgeSong, behind hear and judge -/
def mj_H (V : Nat → Nat → Int32) (tk by_ : Int32) : Nat → Nat → Int32 := mj_V (xm_sV V 5 (ms_pre (ms_hd (V 1) tk by_) (V 5) 600)) (ms_n (V 1))
theorem s_hj {N : Nat} {tk by_ : Int32} (hN : 3000 ≤ N) (hok : ms_ok (V 1)) : f_X2_judge N (some b) (xm_M h b F (xm_sV V 5 (ms_pre (ms_hd (V 1) tk by_) (V 5) 600))) = some ((), xm_M h b F (mj_H V tk by_), 0, 0) := by
  have e1 : xm_sV V 5 (ms_pre (ms_hd (V 1) tk by_) (V 5) 600) 1 = V 1 := xm_sVn (by omega)
  have := s_judge (h := h) (b := b) (F := F) (V := xm_sV V 5 (ms_pre (ms_hd (V 1) tk by_) (V 5) 600)) hN (by rw [e1]; exact hok)
  rw [e1] at this
  exact this
theorem s_judgeSong {N : Nat} (hN : 3000 ≤ N) (hok : ms_ok (V 1)) : f_X2_judgeSong N (some b) (xm_M h b F V) = some ((), xm_M h b F (mj_H V 0 0), 0, 0) := by
  unfold f_X2_judgeSong
  simp only [xm_chk, xm_g0, xm_g1, xm_g3, xm_g5, xm_g7, xm_g8, xm_g9, xm_g10, xm_g11, xm_g12, xm_g14, xm_i2, xm_i4, xm_i6, xm_i13, xm_i15, Option.bind_some, xc_0, xm_p2, xm_p6, xm_p13, xm_p15, s_hear hN, s_hj hN hok]
end MS
