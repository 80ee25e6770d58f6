/-! THE CLASS's QUERIES: the totals, the wanted pitch -/
set_option maxRecDepth 100000
theorem ms_onI_c {hd : Nat → Int32} {t : Nat} : ms_onI hd t = 0 ∨ ms_onI hd t = 1 := by
  unfold ms_onI
  split
  · exact Or.inr rfl
  · exact Or.inl rfl
section XQ
variable {h : xh_H} {s : Nat → Int32} {A : Nat → Nat} {mc : Int32} {cap : Nat} {rf : Nat → Option Nat} {a hl tx N : Nat} {sn : Option Nat} {len : Int32}
theorem x_sungTicks {on : Bool} (hN : 3000 ≤ N) (wf : WF h) (hO : XO h a (A 0) hl sn tx len) (hS : XS h s A mc cap rf) (hok : ms_ok s) : QX (f_X0_sungTicks N (some a) (xb01 on) h) (nI (ms_cnt (fun t => if on then decide (ms_onI (ms_hdz s 0 0) t = 1) else decide (0 < ms_hdz s 0 0 t)) 0 600)) h 6 207 := by
  unfold f_X0_sungTicks
  simp only [xo_c hO, Option.bind_some]
  obtain ⟨h1, e1, xe, hJ⟩ := x_judged (N := N) hN wf hO hS hok
  have hO1 : XO h1 a (A 0) hl sn tx len := xe.getE wf hO
  have hS1 := hS.ext wf xe
  have hR1 := hS1.xr hok
  rw [e1]
  simp only [xc_k]
  refine (QX.ad xe (QX.eq ?_)).mono (by omega) (by omega)
  have key := xl_run (fun _ _ _ _ _ _ => none) (fun k10 => f_X0_sungTicks_b10 N k10)
    (fun c f => f (some a) (xb01 on) (some h.2.1) (nI (ms_cnt (fun t => if on then decide (ms_onI (ms_hdz s 0 0) t = 1) else decide (0 < ms_hdz s 0 0 t)) 0 c)) (nI c) h1)
    (some (nI (ms_cnt (fun t => if on then decide (ms_onI (ms_hdz s 0 0) t = 1) else decide (0 < ms_hdz s 0 0 t)) 0 600), h1, 0, 0)) 600 ?_ ?_ N 0 (by omega) (by omega)
  · exact key
  · intro f c hc
    show f_X0_sungTicks_b10 N f _ _ _ _ _ _ = _
    unfold f_X0_sungTicks_b10 f_X0_sungTicks_b59
    simp only [xo_0 hO1, sg_1 hS1, sg_u hS1 hc, jv_c hJ, j_isOnset hJ hR1 (fun t _ => ms_hdz_b) hc, Option.bind_some, xc_0, xm1, nI_1, nI_p0, ms_cnt_s]
    rw [if_neg (by rw [show (600 : Int32) = nI 600 from rfl, nI_leI (by omega) (by omega)]; omega)]
    generalize ms_cnt (fun t => if on = true then decide (ms_onI (ms_hdz s 0 0) t = 1) else decide (0 < ms_hdz s 0 0 t)) 0 c = x
    cases on with
    | false =>
      rw [if_pos (show xb01 false = 0 from rfl), ms_hdz0 hok hc]
      have hz := hok.2.2.2.2.2.2 c hc
      by_cases z : s (206 + c) = 0
      · rw [if_pos z, z]; rfl
      · have hp : 0 < s (206 + c) := by
          rcases Int32.le_iff_lt_or_eq.mp hz.1 with q | q
          · exact q
          · exact absurd q.symm z
        rw [if_neg z, if_neg (show ¬ false = true by decide), if_pos (decide_eq_true hp)]
    | true =>
      rw [if_neg (show ¬ xb01 true = 0 by decide)]
      rcases ms_onI_c (hd := ms_hdz s 0 0) (t := c) with z | z
      · rw [z]; rfl
      · rw [z]; rfl
  · intro f
    show f_X0_sungTicks_b10 N f _ _ _ _ _ _ = _
    unfold f_X0_sungTicks_b10 f_X0_sungTicks_b67
    rw [if_pos (by decide)]
theorem x_total {w : Int32} {F : Nat → Int32} {hm : Int32} {he hc hn' : Nat} {hrf : Nat → Option Nat} (hN : 3000 ≤ N) (wf : WF h) (hO : XO h a (A 0) hl sn tx len) (hS : XS h s A mc cap rf) (hok : ms_ok s) (hH : XL h hl hm he hc hn' hrf) (f0 : F 0 = nI hn') (f2 : F 2 = len) : QX (f_X0_total N (some a) w h) (to_r s F w) h 86 527 := by
  obtain ⟨h5, hn, -⟩ := id hok
  have w8 : ∀ k, k < ms_n s → jzV s (ms_hdz s 0 0) 8 k = mj_why s (ms_hdz s 0 0) k := fun k hk => jzV_i (by omega) hk
  have w10 : ∀ k, k < ms_n s → jzV s (ms_hdz s 0 0) 10 k = mj_pts s (ms_hdz s 0 0) k := fun k hk => jzV_i (by omega) hk
  obtain ⟨h1, e1, xe, hJ⟩ := x_judged (N := N) hN wf hO hS hok
  have hS1 := hS.ext wf xe
  have wf1 := xe.wf wf
  unfold f_X0_total f_X0_isSetting
  rw [x_isB, xc_0, xbool xin_b, xc_0]
  by_cases z : 0 ≤ w ∧ w ≤ 4
  · rw [if_neg (fun q => xin_0.mp q z)]
    obtain ⟨q1, q2⟩ := nI_btw (n := 4) (by omega) z.1 z.2
    generalize hv : w.toNatClampNeg = v at q1 q2
    subst q1
    have er : to_r s F (nI v) = s v := by
      unfold to_r
      have hne : ∀ m, 5 ≤ m → m < 20 → ¬ nI v = nI m := fun m h1 h2 q => by have := (nI_eq (by omega) (by omega)).mp q; omega
      rw [if_neg (show ¬ nI v = 6 from hne 6 (by omega) (by omega)), if_neg (show ¬ nI v = 7 from hne 7 (by omega) (by omega)), if_neg (show ¬ nI v = 8 from hne 8 (by omega) (by omega)), if_neg (show ¬ nI v = 9 from hne 9 (by omega) (by omega)), if_neg (show ¬ nI v = 10 from hne 10 (by omega) (by omega)), if_neg (show ¬ nI v = 11 from hne 11 (by omega) (by omega)), if_neg (show ¬ nI v = 12 from hne 12 (by omega) (by omega)), if_neg (show ¬ nI v = 13 from hne 13 (by omega) (by omega)), if_neg (show ¬ nI v = 14 from hne 14 (by omega) (by omega)), if_pos ⟨nI_pos' (by omega), by rw [show (5 : Int32) = nI 5 from rfl, nI_leI (by omega) (by omega)]; omega⟩, nI_clamp (by omega)]
    rw [er]
    simp only [xo_0 hO, sg_2 hS, sg_t hS (show v < 5 by omega), Option.bind_some]
    exact QX.ret.mono (by omega) (by omega)
  · rw [if_pos (xin_0.mpr z)]
    unfold f_X0_total_b96 f_X0_total_b108 to_r
    by_cases w5 : w = 5
    · subst w5
      rw [if_pos rfl]
      simp only [xo_0 hO, sg_0 hS, sg_1 hS, sg_2 hS, sg_c hS, sg_l hS, sg_t0 hS, sg_t1 hS, sg_t2 hS, sg_t3 hS, sg_t4 hS, sg_many hS, Option.bind_some, xc_0]
      have : ¬ (5 : Int32) = 6 ∧ ¬ (5 : Int32) = 7 ∧ ¬ (5 : Int32) = 8 ∧ ¬ (5 : Int32) = 9 ∧ ¬ (5 : Int32) = 10 ∧ ¬ (5 : Int32) = 11 ∧ ¬ (5 : Int32) = 12 ∧ ¬ (5 : Int32) = 13 ∧ ¬ (5 : Int32) = 14 := by decide
      obtain ⟨c1, c2, c3, c4, c5, c6, c7, c8, c9⟩ := this
      rw [if_neg c1, if_neg c2, if_neg c3, if_neg c4, if_neg c5, if_neg c6, if_neg c7, if_neg c8, if_neg c9, if_pos (by decide), ← h5]
      exact QX.ret.mono (by omega) (by omega)
    rw [if_neg w5]
    by_cases w6 : w = 6
    · rw [if_pos w6, if_pos w6]
      simp only [xo_0 hO, sg_0 hS, sg_1 hS, sg_2 hS, sg_c hS, sg_l hS, sg_t0 hS, sg_t1 hS, sg_t2 hS, sg_t3 hS, sg_t4 hS, sg_many hS, Option.bind_some, xc_0, sg_phs hS hn]
      exact QX.ret.mono (by omega) (by omega)
    rw [if_neg w6, if_neg w6]
    by_cases w7 : w = 7
    · rw [if_pos w7, if_pos w7]
      simp only [xo_0 hO, sg_0 hS, sg_1 hS, sg_2 hS, sg_c hS, sg_l hS, sg_t0 hS, sg_t1 hS, sg_t2 hS, sg_t3 hS, sg_t4 hS, sg_many hS, Option.bind_some, xc_0, sg_end hS hn]
      exact QX.ret.mono (by omega) (by omega)
    rw [if_neg w7, if_neg w7]
    by_cases w8' : w = 8
    · rw [if_pos w8', if_pos w8', w8', if_neg (by decide)]
      simp only [xo_c hO, Option.bind_some]
      exact ((x_sungTicks (on := false) hN wf hO hS hok).cal (fun h2 x2 => QX.ret)).mono (by omega) (by omega)
    rw [if_neg w8', if_neg w8']
    by_cases w9 : w = 9
    · rw [if_pos w9, if_pos w9, if_pos w9]
      simp only [xo_c hO, Option.bind_some]
      exact ((x_sungTicks (on := true) hN wf hO hS hok).cal (fun h2 x2 => QX.ret)).mono (by omega) (by omega)
    rw [if_neg w9, if_neg w9]
    by_cases w10' : w = 10
    · rw [if_pos w10', if_pos w10']
      simp only [xo_c hO, Option.bind_some, e1, xc_k, jv_c hJ, j_hits hN hS1 hJ hn, xc_0]
      have e : ms_hits s = nI (ms_cnt (fun k => decide (jzV s (ms_hdz s 0 0) 8 k = 0)) 0 (ms_n s)) := by
        unfold ms_hits
        rw [ms_cnt_congr (p := fun k => decide (mj_why s (ms_hdz s 0 0) k = 0)) (p' := fun k => decide (jzV s (ms_hdz s 0 0) 8 k = 0)) (ms_n s) (fun i hi => by rw [Nat.zero_add, w8 i hi])]
      rw [e]
      exact (QX.ad xe QX.ret).mono (by omega) (by omega)
    rw [if_neg w10', if_neg w10']
    by_cases w11 : w = 11
    · rw [if_pos w11, if_pos w11]
      simp only [xo_c hO, Option.bind_some, e1, xc_k, jv_c hJ]
      unfold pS
      rw [← pf_all_congr w8 w10]
      exact (QX.ad xe ((j_all hN wf1 hS1 hJ hn).cal (fun h2 x2 => QX.ret))).mono (by omega) (by omega)
    rw [if_neg w11, if_neg w11]
    by_cases w12 : w = 12
    · rw [if_pos w12, if_pos w12]
      simp only [xo_c hO, Option.bind_some, e1, xc_k, jv_c hJ]
      exact (QX.ad xe ((j_most hN wf1 hS1 hJ (hS1.xr hok) hok).cal (fun h2 x2 => QX.ret))).mono (by omega) (by omega)
    rw [if_neg w12, if_neg w12]
    by_cases w13 : w = 13
    · rw [if_pos w13, if_pos w13]
      simp only [xo_1 hO, xo_chk hH.1, jl_size hH, Option.bind_some, xc_0]
      rw [f0]
      exact QX.ret.mono (by omega) (by omega)
    rw [if_neg w13, if_neg w13]
    by_cases w14 : w = 14
    · rw [if_pos w14, if_pos w14]
      simp only [xo_4 hO, Option.bind_some]
      rw [f2]
      exact QX.ret.mono (by omega) (by omega)
    rw [if_neg w14, if_neg w14, if_neg]
    · exact QX.ret.mono (by omega) (by omega)
    · rintro ⟨q1, q2⟩
      obtain ⟨e1, e2⟩ := nI_btw (n := 5) (by omega) q1 q2
      generalize w.toNatClampNeg = v at e1 e2
      subst e1
      by_cases v5 : v = 5
      · subst v5; exact w5 rfl
      · exact z ⟨q1, by rw [show (4 : Int32) = nI 4 from rfl, nI_leI (by omega) (by omega)]; omega⟩
/-- the first syllable from c on that has a tick, m of them looked at -/
def ms_af (s : Nat → Int32) (x : Int32) (c : Nat) : Nat → Option Nat
  | 0 => none
  | m + 1 => if s (6 + 5 * c) ≤ x ∧ x ≤ (s (6 + 5 * c) + s (6 + 5 * c + 1)) - 1 then some c else ms_af s x (c + 1) m
theorem ms_at_none {s : Nat → Int32} {x : Int32} : ∀ n, (∀ i, i < n → ¬ (s (6 + 5 * i) ≤ x ∧ x ≤ (s (6 + 5 * i) + s (6 + 5 * i + 1)) - 1)) → ms_at s x n = none
  | 0, _ => rfl
  | n + 1, q => by
    show (if s (6 + 5 * n) ≤ x ∧ x ≤ (s (6 + 5 * n) + s (6 + 5 * n + 1)) - 1 then some n else ms_at s x n) = none
    rw [if_neg (q n (by omega))]
    exact ms_at_none n (fun i hi => q i (by omega))
theorem ms_at_one {s : Nat → Int32} {x : Int32} {c : Nat} (hc : s (6 + 5 * c) ≤ x ∧ x ≤ (s (6 + 5 * c) + s (6 + 5 * c + 1)) - 1) : ∀ m, (∀ i, c < i → i < c + 1 + m → ¬ (s (6 + 5 * i) ≤ x ∧ x ≤ (s (6 + 5 * i) + s (6 + 5 * i + 1)) - 1)) → ms_at s x (c + 1 + m) = some c
  | 0, _ => by
    show (if s (6 + 5 * c) ≤ x ∧ x ≤ (s (6 + 5 * c) + s (6 + 5 * c + 1)) - 1 then some c else ms_at s x c) = some c
    rw [if_pos hc]
  | m + 1, q => by
    show (if s (6 + 5 * (c + 1 + m)) ≤ x ∧ x ≤ (s (6 + 5 * (c + 1 + m)) + s (6 + 5 * (c + 1 + m) + 1)) - 1 then some (c + 1 + m) else ms_at s x (c + 1 + m)) = some c
    rw [if_neg (q (c + 1 + m) (by omega) (by omega))]
    exact ms_at_one hc m (fun i h1 h2 => q i h1 (by omega))
theorem ms_in {x : Nat} {k : Nat} (hx : x < 600) (hok : ms_ok s) (hk : k < ms_n s) : (s (6 + 5 * k) ≤ nI x ∧ nI x ≤ (s (6 + 5 * k) + s (6 + 5 * k + 1)) - 1) ↔ (ms_b s k ≤ x ∧ x < ms_b s k + ms_l s k) := by
  obtain ⟨h5, hn, hsy, hap, hfi, -⟩ := hok
  obtain ⟨hb, hl1, hl2, hl3, hbl, hfs⟩ := hsy k hk
  rw [hb, hl1, nI_add, xl_1, pk_sub (by omega), nI_leI (by omega) (by omega), nI_leI (by omega) (by omega)]
  omega
theorem ms_b_mono (hok : ms_ok s) : ∀ m k, k + 1 + m < ms_n s → ms_b s k + ms_l s k ≤ ms_b s (k + 1 + m)
  | 0, k, h => hok.2.2.2.1 k h
  | m + 1, k, h => by
    have h1 := ms_b_mono hok m k (by omega)
    have h2 := hok.2.2.2.1 (k + 1 + m) (by omega)
    show ms_b s k + ms_l s k ≤ ms_b s (k + 1 + m + 1)
    omega
theorem ms_af_at {x : Nat} (hx : x < 600) (hok : ms_ok s) : ∀ m c, c + m = ms_n s → (∀ i, i < c → ¬ (s (6 + 5 * i) ≤ nI x ∧ nI x ≤ (s (6 + 5 * i) + s (6 + 5 * i + 1)) - 1)) → ms_af s (nI x) c m = ms_at s (nI x) (ms_n s)
  | 0, c, hc, q => by
    rw [ms_at_none (ms_n s) (fun i hi => q i (by omega))]; rfl
  | m + 1, c, hc, q => by
    show (if s (6 + 5 * c) ≤ nI x ∧ nI x ≤ (s (6 + 5 * c) + s (6 + 5 * c + 1)) - 1 then some c else ms_af s (nI x) (c + 1) m) = _
    by_cases z : s (6 + 5 * c) ≤ nI x ∧ nI x ≤ (s (6 + 5 * c) + s (6 + 5 * c + 1)) - 1
    · rw [if_pos z]
      have := ms_at_one z m (fun i h1 h2 q => by
        have z' := (ms_in hx hok (by omega)).mp z
        have q' := (ms_in hx hok (show i < ms_n s by omega)).mp q
        have := ms_b_mono hok (i - (c + 1)) c (by omega)
        rw [show c + 1 + (i - (c + 1)) = i by omega] at this
        omega)
      rw [show c + 1 + m = ms_n s by omega] at this
      exact this.symm
    · rw [if_neg z]
      exact ms_af_at hx hok m (c + 1) (by omega) (fun i hi => by
        by_cases y : i = c
        · rw [y]; exact z
        · exact q i (by omega))
theorem x_wanted {x : Int32} (hN : 3000 ≤ N) (wf : WF h) (hO : XO h a (A 0) hl sn tx len) (hS : XS h s A mc cap rf) (hok : ms_ok s) : QX (f_X0_wanted N (some a) x h) (if 0 ≤ x ∧ x ≤ 599 then (match ms_at s x (ms_n s) with | none => -5 | some k => ms_w s k (x - s (6 + 5 * k))) else -2) h 1 4 := by
  obtain ⟨h5, hn, -⟩ := id hok
  unfold f_X0_wanted
  simp only [x_isTick, xc_0]
  by_cases z : 0 ≤ x ∧ x ≤ 599
  · rw [if_neg (fun q => xin_0.mp q z), if_pos z]
    obtain ⟨e1, e2⟩ := nI_btw (n := 599) (by omega) z.1 z.2
    rw [e1]
    generalize x.toNatClampNeg = t at e2
    rw [← ms_af_at (show t < 600 by omega) hok (ms_n s) 0 (by omega) (fun i hi => by omega)]
    unfold f_X1_at
    simp only [xo_0 hO, sg_0 hS, sg_1 hS, sg_2 hS, sg_c hS, sg_l hS, sg_t0 hS, sg_t1 hS, sg_t2 hS, sg_t3 hS, sg_t4 hS, sg_many hS, Option.bind_some, xc_0]
    obtain ⟨h1, f1, i1, x1, -, -⟩ := jl_iter (N := N) wf hS.2.1
    rw [f1]
    simp only [xc_k]
    have key : ∀ m c h' n, c + m = ms_n s → m < n → XE h h' → XI h' h.2.1 c mc (A 1) → ∃ h'', f_X1_at_l10 N n (nI t) (some h.2.1) h' = some ((ms_af s (nI t) c m).map (xy rf), h'', 0, 0) ∧ XE h h'' := by
      intro m
      induction m with
      | zero =>
        intro c h' n hc hnn xe xi
        obtain ⟨n, rfl⟩ : ∃ i, n = i + 1 := ⟨n - 1, by omega⟩
        have hS' := hS.ext wf xe
        show ∃ h'', f_X1_at_b10 N (f_X1_at_l10 N n) _ _ h' = _ ∧ _
        unfold f_X1_at_b10 f_X1_at_b51
        have xi' := xi
        obtain ⟨lr, xi'⟩ := xi'
        simp only [xo_chk xi', Option.bind_some, jl_hasNext xi hS'.2.1 (show c ≤ ms_n s by omega), xc_0]
        rw [if_pos (show c = ms_n s by omega), if_pos rfl]
        exact ⟨h', rfl, xe⟩
      | succ m ih =>
        intro c h' n hc hnn xe xi
        obtain ⟨n, rfl⟩ : ∃ i, n = i + 1 := ⟨n - 1, by omega⟩
        have hS' := hS.ext wf xe
        show ∃ h'', f_X1_at_b10 N (f_X1_at_l10 N n) _ _ h' = _ ∧ _
        unfold f_X1_at_b10 f_X1_at_b46
        have xi' := xi
        obtain ⟨lr, xi'⟩ := xi'
        simp only [xo_chk xi', Option.bind_some, jl_hasNext xi hS'.2.1 (show c ≤ ms_n s by omega), xc_0]
        rw [if_neg (show ¬ c = ms_n s by omega), if_neg (by decide)]
        obtain ⟨h2, f2, i2, x2⟩ := jl_next (N := N) xi hS'.2.1 (show c < ms_n s by omega)
        have xe2 : XE h h2 := xe.trans x2 (fun q hq z => by omega)
        have hS2 := hS.ext wf xe2
        have hk : c < ms_n s := by omega
        rw [f2, sg_rf hS hk]
        simp only [xc_0, sg_yk hS2 hk, sg_y0 hS2 hk, sg_yc hS2 hk, sg_yend hS2 hk, x_isB, Option.bind_some]
        show ∃ h'', _ = some ((if s (6 + 5 * c) ≤ nI t ∧ nI t ≤ (s (6 + 5 * c) + s (6 + 5 * c + 1)) - 1 then some c else ms_af s (nI t) (c + 1) m).map (xy rf), h'', 0, 0) ∧ _
        by_cases y : s (6 + 5 * c) ≤ nI t ∧ nI t ≤ (s (6 + 5 * c) + s (6 + 5 * c + 1)) - 1
        · rw [if_neg (fun q => xin_0.mp q y), if_pos y]
          exact ⟨h2, rfl, xe2⟩
        · rw [if_pos (xin_0.mpr y), if_neg y]
          exact ih (c + 1) h2 n (by omega) (by omega) xe2 i2
    obtain ⟨h2, f2, x2⟩ := key (ms_n s) 0 h1 N (by omega) (by omega) x1 i1
    have haf := ms_af_at (s := s) (show t < 600 by omega) hok (ms_n s) 0 (by omega) (fun i hi => by omega)
    rw [f2]
    cases hA : ms_af s (nI t) 0 (ms_n s) with
    | none => exact ⟨h2, 1, 4, rfl, x2, by omega, by omega⟩
    | some k =>
      rw [hA] at haf
      have hk := ms_at_lt _ haf.symm
      have hS2 := hS.ext wf x2
      show QX (xh_cal (some (some (xy rf k), h2, 1, 4)) _) _ h 1 4
      simp only [xc_k]
      rw [if_neg (fun q => by cases q)]
      simp only [sg_yc hS2 hk, sg_yw hS2 hk, Option.bind_some, xc_0]
      exact (QX.ad x2 QX.ret).mono (by omega) (by omega)
  · rw [if_pos (xin_0.mpr z), if_neg z]
    exact QX.ret.mono (by omega) (by omega)
end XQ
