/-! THE CLASS's QUERIES -/
set_option maxRecDepth 100000
theorem QX.ad {ρ : Type} {r : xh_R ρ} {v : ρ} {h h' : xh_H} {k n K S : Nat} (x : XE h h') (a : QX r v h' K S) : QX (xh_ad k n r) v h (k + K) (n + S) := by
  obtain ⟨h'', kc, ks, e, xe, b1, b2⟩ := a
  exact ⟨h'', k + kc, n + ks, by rw [e]; rfl, x.trans xe (fun _ _ => id), by omega, by omega⟩
theorem jzV_i {s hd : Nat → Int32} {i k : Nat} (hi : 6 ≤ i ∧ i ≤ 10) (hk : k < ms_n s) : jzV s hd i k = mj s hd i k := by
  have e1 : jz s hd 1 = s := by unfold jz; rw [xm_sVn (by omega), xm_sVs]
  have e5 : jz s hd 5 = hd := xm_sVs
  unfold jzV
  rw [mj_Vi hi, e1, e5]
  exact if_pos hk
section XQ
variable {h : xh_H} {s : Nat → Int32} {A : Nat → Nat} {mc : Int32} {cap : Nat} {rf : Nat → Option Nat} {a hl tx N : Nat} {sn : Option Nat} {len : Int32}
theorem x_isS {v : Int32} (x : XO h a (A 0) hl sn tx len) (hS : XS h s A mc cap rf) (hok : ms_ok s) : f_X0_isSyllable N (some a) v h = some (xin v 0 (s 5 - 1), h, 0, 0) := by
  unfold f_X0_isSyllable
  simp only [xo_0 x, sg_0 hS, sg_1 hS, sg_2 hS, sg_c hS, sg_l hS, sg_t0 hS, sg_t1 hS, sg_t2 hS, sg_t3 hS, sg_t4 hS, sg_many hS, Option.bind_some, xc_0, x_isB, ← hok.1]
  rw [xbool xin_b]
theorem x_syllable {x w : Int32} (hN : 3000 ≤ N) (wf : WF h) (hO : XO h a (A 0) hl sn tx len) (hS : XS h s A mc cap rf) (hok : ms_ok s) : QX (f_X0_syllable N (some a) x w h) (if 0 ≤ x ∧ x ≤ s 5 - 1 then sy_r s x.toNatClampNeg w else -1) h 6 207 := by
  obtain ⟨h5, hn, hsy, hap, hfi, ⟨hs0, -⟩, -⟩ := id hok
  unfold f_X0_syllable
  simp only [xo_c hO, x_isS hO hS hok, Option.bind_some, xc_0]
  by_cases z : 0 ≤ x ∧ x ≤ s 5 - 1
  · rw [if_neg (fun q => xin_0.mp q z), if_pos z]
    obtain ⟨k, hk, rfl⟩ := (ms_isS h5 hn).mp z
    obtain ⟨hb, hl1, hl2, hl3, hbl, hfs⟩ := hsy k hk
    rw [nI_clamp (by omega)]
    simp only [xo_0 hO, sg_0 hS, sg_1 hS, sg_2 hS, sg_c hS, sg_l hS, sg_t0 hS, sg_t1 hS, sg_t2 hS, sg_t3 hS, sg_t4 hS, sg_many hS, Option.bind_some, xc_0, sg_get hS hk, sg_y0 hS hk, sg_y1 hS hk, sg_y2 hS hk, sg_y3 hS hk, sg_y4 hS hk, sg_yc hS hk, sg_yk hS hk, sg_yend hS hk, sg_yw hS hk]
    unfold sy_r
    by_cases w0 : w = 0
    · rw [if_pos w0, if_pos w0]; exact QX.ret.mono (by omega) (by omega)
    rw [if_neg w0, if_neg w0]
    by_cases w1 : w = 1
    · rw [if_pos w1, if_pos w1]; exact QX.ret.mono (by omega) (by omega)
    rw [if_neg w1, if_neg w1]
    by_cases w2 : w = 2
    · rw [if_pos w2, if_pos w2]; exact QX.ret.mono (by omega) (by omega)
    rw [if_neg w2, if_neg w2]
    by_cases w3 : w = 3
    · rw [if_pos w3, if_pos w3]; exact QX.ret.mono (by omega) (by omega)
    rw [if_neg w3, if_neg w3]
    by_cases w4 : w = 4
    · rw [if_pos w4, if_pos w4]; exact QX.ret.mono (by omega) (by omega)
    rw [if_neg w4, if_neg w4]
    obtain ⟨h1, e1, xe, hJ⟩ := x_judged (N := N) hN wf hO hS hok
    have hO1 : XO h1 a (A 0) hl sn tx len := xe.getE wf hO
    have hS1 := hS.ext wf xe
    rw [e1]
    simp only [xc_k, xo_c hO, xo_c hO1, Option.bind_some]
    refine (QX.ad xe ?_).mono (show 6 + 0 ≤ 6 by omega) (show 207 + 0 ≤ 207 by omega)
    refine QX.eq ?_
    have hba := j_bars (N := N) (sel := false) hN hS1 hJ (hS1.xr hok) hk hb hl1 hbl hl2 hs0
    have hba' : f_X7_bars N (some h.2.1) (some (xy rf k)) (0 : Int32) h1 = _ := hba
    rw [ms_bar_f (hd' := fun _ => 0)] at hba'
    have hsh := j_share (N := N) hS1 hJ hk hn (by rw [hl1]; exact nI_ne0 (by omega) (by omega))
    have k40 : k < 40 := by omega
    rw [jzV_i (by omega) hk] at hsh
    unfold f_X0_ofJudge
    simp only [xo_0 hO1, sg_0 hS1, sg_l hS1, sg_get hS1 hk, sg_yk hS1 hk, jv_c hJ, jv_1 hJ, jv_2 hJ, jv_3 hJ, jv_4 hJ, jv_5 hJ, jv_l6 hJ k40, jv_l7 hJ k40, jv_l8 hJ k40, jv_l9 hJ k40, jv_l10 hJ k40, hba', hsh, Option.bind_some, xc_0, jzV_i (show 6 ≤ 6 ∧ 6 ≤ 10 by omega) hk, jzV_i (show 6 ≤ 7 ∧ 7 ≤ 10 by omega) hk, jzV_i (show 6 ≤ 8 ∧ 8 ≤ 10 by omega) hk, jzV_i (show 6 ≤ 9 ∧ 9 ≤ 10 by omega) hk, jzV_i (show 6 ≤ 10 ∧ 10 ≤ 10 by omega) hk]
    by_cases w5 : w = 5
    · rw [if_pos w5, if_pos w5]; rfl
    rw [if_neg w5, if_neg w5]
    by_cases w6 : w = 6
    · rw [if_pos w6, if_pos w6]; rfl
    rw [if_neg w6, if_neg w6]
    by_cases w7 : w = 7
    · rw [if_pos w7, if_pos w7]; rfl
    rw [if_neg w7, if_neg w7]
    by_cases w8 : w = 8
    · rw [if_pos w8, if_pos w8]; rfl
    rw [if_neg w8, if_neg w8]
    by_cases w9 : w = 9
    · rw [if_pos w9, if_pos w9]; rfl
    rw [if_neg w9, if_neg w9]
    by_cases w10 : w = 10
    · rw [if_pos w10, if_pos w10]; rfl
    rw [if_neg w10, if_neg w10]
    by_cases w11 : w = 11
    · rw [if_pos w11, if_pos w11]; rfl
    rw [if_neg w11, if_neg w11]; rfl
  · rw [if_pos (xin_0.mpr z), if_neg z]
    exact QX.ret.mono (by omega) (by omega)
theorem x_sung {x : Int32} (hO : XO h a (A 0) hl sn tx len) (hS : XS h s A mc cap rf) : QX (f_X0_sung N (some a) x h) (if 0 ≤ x ∧ x ≤ 599 then (if s (206 + x.toNatClampNeg) = 0 then -5 else s (206 + x.toNatClampNeg) - 1) else -2) h 0 0 := by
  refine QX.eq ?_
  unfold f_X0_sung
  simp only [x_isTick, xc_0]
  by_cases z : 0 ≤ x ∧ x ≤ 599
  · rw [if_neg (fun q => xin_0.mp q z), if_pos z]
    obtain ⟨e1, e2⟩ := nI_btw (n := 599) (by omega) z.1 z.2
    rw [e1]
    generalize x.toNatClampNeg = t at e2
    rw [nI_clamp (by omega)]
    simp only [xo_0 hO, sg_1 hS, sg_u hS (show t < 600 by omega), Option.bind_some, xm1]
    split <;> rfl
  · rw [if_pos (xin_0.mpr z), if_neg z]
theorem x_lit {x y : Int32} (hO : XO h a (A 0) hl sn tx len) (hS : XS h s A mc cap rf) (hok : ms_ok s) : QX (f_X0_lit N (some a) x y h) (if 0 ≤ x ∧ x ≤ s 5 - 1 then (if 0 ≤ y ∧ y ≤ 599 then (if 0 ≤ (y - s (6 + 5 * x.toNatClampNeg)) + 1 then (if (y - s (6 + 5 * x.toNatClampNeg)) + 1 ≤ s (6 + 5 * x.toNatClampNeg + 1) then (y - s (6 + 5 * x.toNatClampNeg)) + 1 else s (6 + 5 * x.toNatClampNeg + 1)) else 0) else -2) else -1) h 0 0 := by
  obtain ⟨h5, hn, hsy, -⟩ := id hok
  refine QX.eq ?_
  unfold f_X0_lit
  simp only [xo_c hO, x_isS hO hS hok, x_isTick, Option.bind_some, xc_0]
  by_cases z : 0 ≤ x ∧ x ≤ s 5 - 1
  · rw [if_neg (fun q => xin_0.mp q z), if_pos z]
    obtain ⟨k, hk, rfl⟩ := (ms_isS h5 hn).mp z
    obtain ⟨hb, hl1, hl2, hl3, hbl, hfs⟩ := hsy k hk
    rw [nI_clamp (by omega)]
    by_cases w : 0 ≤ y ∧ y ≤ 599
    · rw [if_neg (fun q => xin_0.mp q w), if_pos w]
      simp only [xo_0 hO, sg_0 hS, sg_1 hS, sg_2 hS, sg_c hS, sg_l hS, sg_t0 hS, sg_t1 hS, sg_t2 hS, sg_t3 hS, sg_t4 hS, sg_many hS, Option.bind_some, xc_0, sg_get hS hk, sg_y0 hS hk, sg_y1 hS hk, sg_y2 hS hk, sg_y3 hS hk, sg_y4 hS hk, sg_yc hS hk, sg_yk hS hk, sg_yend hS hk, sg_yw hS hk]
      rw [hl1]
      generalize (y - s (6 + 5 * k)) + 1 = d
      have hpos : (0 : Int32) < nI (ms_l s k) := by rw [xl_0, nI_ltI (by omega) (by omega)]; omega
      generalize nI (ms_l s k) = L at hpos
      refine congrArg (fun v => some (v, h, 0, 0)) ?_
      unfold xh_mx xh_mn
      by_cases d0 : 0 ≤ d
      · rw [if_pos d0]
        by_cases dl : d < L
        · rw [if_pos dl, if_pos (Int32.le_of_lt dl)]
          by_cases dz : 0 < d
          · rw [if_pos dz]
          · rw [if_neg dz]; exact Int32.le_antisymm d0 (Int32.not_lt.mp dz)
        · rw [if_neg dl, if_pos hpos]
          by_cases dl2 : d ≤ L
          · rw [if_pos dl2]; exact Int32.le_antisymm (Int32.not_lt.mp dl) dl2
          · rw [if_neg dl2]
      · have dn : d < 0 := Int32.not_le.mp d0
        rw [if_neg d0, if_pos (Int32.lt_trans dn hpos), if_neg (Int32.not_lt.mpr (Int32.le_of_lt dn))]
    · rw [if_pos (xin_0.mpr w), if_neg w]
  · rw [if_pos (xin_0.mpr z), if_neg z]
theorem x_phrase {x w : Int32} (hN : 3000 ≤ N) (wf : WF h) (hO : XO h a (A 0) hl sn tx len) (hS : XS h s A mc cap rf) (hok : ms_ok s) : QX (f_X0_phrase N (some a) x w h) (if 0 ≤ x ∧ x ≤ nI (ms_phs s) - 1 then (if 0 ≤ w ∧ w ≤ 4 then ph_r s x.toNatClampNeg w else -2) else -1) h 8 215 := by
  obtain ⟨h5, hn, -⟩ := id hok
  have hp := ms_phs_le (s := s)
  unfold f_X0_phrase
  simp only [xo_0 hO, xo_c hO, sg_0 hS, sg_1 hS, sg_2 hS, sg_c hS, sg_l hS, sg_t0 hS, sg_t1 hS, sg_t2 hS, sg_t3 hS, sg_t4 hS, sg_many hS, Option.bind_some, xc_0, sg_phs hS hn, x_isB]
  by_cases z : 0 ≤ x ∧ x ≤ nI (ms_phs s) - 1
  · rw [if_neg (fun q => xin_0.mp q z), if_pos z]
    obtain ⟨f, hf, rfl⟩ := (ms_isP hn).mp z
    rw [nI_clamp (by omega)]
    obtain ⟨h1, e1, xe, hJ⟩ := x_judged (N := N) hN wf hO hS hok
    have hS1 := hS.ext wf xe
    rw [e1]
    simp only [xc_k, jv_c hJ, Option.bind_some, j_first hN hS1 hJ hn hf, j_hitsf hN hS1 hJ hn (show f < 1000 by omega), j_longest hN hS1 hJ hn (show f < 1000 by omega), xc_0]
    refine (QX.ad xe (K := 2) (S := 8) ?_).mono (by omega) (by omega)
    have w8 : ∀ k, k < ms_n s → jzV s (ms_hdz s 0 0) 8 k = mj_why s (ms_hdz s 0 0) k := fun k hk => jzV_i (by omega) hk
    have w10 : ∀ k, k < ms_n s → jzV s (ms_hdz s 0 0) 10 k = mj_pts s (ms_hdz s 0 0) k := fun k hk => jzV_i (by omega) hk
    unfold ph_r pf_r
    by_cases w0 : w = 0
    · rw [if_pos w0, w0, if_pos (by decide), if_pos rfl]; exact QX.ret.mono (by omega) (by omega)
    rw [if_neg w0, if_neg w0]
    by_cases w1 : w = 1
    · rw [if_pos w1, w1, if_pos (by decide), if_pos rfl]
      exact ((j_many hN (xe.wf wf) hS1 hJ hn (show f < 1000 by omega)).cal (fun h2 x2 => QX.ret)).mono (by omega) (by omega)
    rw [if_neg w1, if_neg w1]
    by_cases w2 : w = 2
    · rw [if_pos w2, w2, if_pos (by decide), if_pos rfl, pf_h_congr w8]; exact QX.ret.mono (by omega) (by omega)
    rw [if_neg w2, if_neg w2]
    by_cases w3 : w = 3
    · rw [if_pos w3, w3, if_pos (by decide), if_pos rfl, ← pf_p_congr w8 w10]
      exact ((j_pointsOf hN (xe.wf wf) hS1 hJ hn (show f < 1000 by omega)).cal (fun h2 x2 => QX.ret)).mono (by omega) (by omega)
    rw [if_neg w3, if_neg w3]
    by_cases w4 : w = 4
    · rw [if_pos w4, w4, if_pos (by decide), pf_l_congr _ w8]; exact QX.ret.mono (by omega) (by omega)
    rw [if_neg w4, if_neg]
    · exact QX.ret.mono (by omega) (by omega)
    · rintro ⟨q1, q2⟩
      obtain ⟨e1, e2⟩ := nI_btw (n := 4) (by omega) q1 q2
      generalize w.toNatClampNeg = v at e1 e2
      subst e1
      have : v = 0 ∨ v = 1 ∨ v = 2 ∨ v = 3 ∨ v = 4 := by omega
      rcases this with rfl | rfl | rfl | rfl | rfl
      · exact w0 rfl
      · exact w1 rfl
      · exact w2 rfl
      · exact w3 rfl
      · exact w4 rfl
  · rw [if_pos (xin_0.mpr z), if_neg z]
    exact QX.ret.mono (by omega) (by omega)
theorem x_worst (hN : 3000 ≤ N) (wf : WF h) (hO : XO h a (A 0) hl sn tx len) (hS : XS h s A mc cap rf) (hok : ms_ok s) : QX (f_X0_worst N (some a) h) (oI (wo s (mj_why s (ms_hdz s 0 0)) (mj_pts s (ms_hdz s 0 0)) (ms_n s) (ms_phs s))) h 86 527 := by
  obtain ⟨h5, hn, -⟩ := id hok
  have hp := ms_phs_le (s := s)
  unfold f_X0_worst
  simp only [xo_c hO, Option.bind_some]
  obtain ⟨h1, e1, xe, hJ⟩ := x_judged (N := N) hN wf hO hS hok
  have w8 : ∀ k, k < ms_n s → jzV s (ms_hdz s 0 0) 8 k = mj_why s (ms_hdz s 0 0) k := fun k hk => jzV_i (by omega) hk
  have w10 : ∀ k, k < ms_n s → jzV s (ms_hdz s 0 0) 10 k = mj_pts s (ms_hdz s 0 0) k := fun k hk => jzV_i (by omega) hk
  rw [e1, ← wo_congr w8 w10]
  simp only [xc_k]
  have hO1 : XO h1 a (A 0) hl sn tx len := xe.getE wf hO
  have hS1 := hS.ext wf xe
  have wf1 := xe.wf wf
  generalize jzV s (ms_hdz s 0 0) = V at *
  have key : ∀ m c h' n, c + m = ms_phs s → m < n → XE h1 h' → QX (f_X0_worst_l13 N n (some a) (some h.2.1) (oI (wo s (V 8) (V 10) (ms_n s) c)) (match wo s (V 8) (V 10) (ms_n s) c with | none => 0 | some g => pf_p s (V 8) (V 10) g (ms_n s)) (nI c) h') (oI (wo s (V 8) (V 10) (ms_n s) (ms_phs s))) h' (2 * m) (8 * m) := by
    intro m
    induction m with
    | zero =>
      intro c h' n hc hnn xe
      obtain ⟨n, rfl⟩ : ∃ i, n = i + 1 := ⟨n - 1, by omega⟩
      have hS' := hS1.ext wf1 xe
      have hO' : XO h' a (A 0) hl sn tx len := xe.getE wf1 hO1
      show QX (f_X0_worst_b13 N (f_X0_worst_l13 N n) _ _ _ _ _ h') _ _ _ _
      unfold f_X0_worst_b13 f_X0_worst_b57
      simp only [xo_0 hO', sg_c hS', sg_phs hS' hn, Option.bind_some, xc_0]
      rw [if_pos (by rw [nI_leI (by omega) (by omega)]; omega), show c = ms_phs s by omega]
      exact QX.ret
    | succ m ih =>
      intro c h' n hc hnn xe
      obtain ⟨n, rfl⟩ : ∃ i, n = i + 1 := ⟨n - 1, by omega⟩
      have hS' := hS1.ext wf1 xe
      have hJ' := hJ.ext wf1 xe
      have hO' : XO h' a (A 0) hl sn tx len := xe.getE wf1 hO1
      show QX (f_X0_worst_b13 N (f_X0_worst_l13 N n) _ _ _ _ _ h') _ _ _ _
      unfold f_X0_worst_b13 f_X0_worst_b45 f_X0_worst_b51
      simp only [xo_0 hO', sg_c hS', sg_phs hS' hn, jv_c hJ', Option.bind_some, xc_0]
      rw [if_neg (by rw [nI_leI (by omega) (by omega)]; omega)]
      refine (QX.cal (j_pointsOf hN (xe.wf wf1) hS' hJ' hn (show c < 1000 by omega)) (fun h2 x2 => ?_)).mono (show 2 + 2 * m ≤ _ by omega) (show 8 + 8 * m ≤ _ by omega)
      have ih' := ih (c + 1) h2 n (by omega) (by omega) (xe.trans x2 (fun _ _ => id))
      have ew : wo s (V 8) (V 10) (ms_n s) (c + 1) = (match wo s (V 8) (V 10) (ms_n s) c with | none => some c | some g => if pf_p s (V 8) (V 10) g (ms_n s) ≤ pf_p s (V 8) (V 10) c (ms_n s) then some g else some c) := rfl
      rw [ew] at ih'
      rw [nI_1]
      cases hw : wo s (V 8) (V 10) (ms_n s) c with
      | none =>
        rw [hw] at ih'
        rw [if_pos (show oI none = -5 from rfl)]
        exact ih'
      | some g =>
        rw [hw] at ih'
        have hg := wo_lt _ hw
        rw [if_neg (show ¬ oI (some g) = -5 from fun q => by
          have h1 := nI_pos' (n := g) (by omega)
          have q' : nI g = -5 := q
          rw [q'] at h1
          exact absurd h1 (by decide))]
        dsimp only at ih' ⊢
        by_cases z : pf_p s (V 8) (V 10) g (ms_n s) ≤ pf_p s (V 8) (V 10) c (ms_n s)
        · rw [if_pos z] at ih' ⊢
          exact ih'
        · rw [if_neg z] at ih' ⊢
          exact ih'
  exact (QX.ad xe (key (ms_phs s) 0 h1 N (by omega) (by omega) XW.refl)).mono (by omega) (by omega)
end XQ
