/-! THE JUDGE's SUMS -/
set_option maxRecDepth 100000
/-- r answers v; the heap behind it holds all that it held, at most K cells and S slots were made -/
def QX {ρ : Type} (r : xh_R ρ) (v : ρ) (h : xh_H) (K S : Nat) : Prop := ∃ h' kc ks, r = some (v, h', kc, ks) ∧ XE h h' ∧ kc ≤ K ∧ ks ≤ S
theorem QX.ret {ρ : Type} {v : ρ} {h : xh_H} : QX (some (v, h, 0, 0)) v h 0 0 := ⟨h, 0, 0, rfl, XW.refl, Nat.le_refl _, Nat.le_refl _⟩
theorem QX.eq {ρ : Type} {r : xh_R ρ} {v : ρ} {h : xh_H} (e : r = some (v, h, 0, 0)) : QX r v h 0 0 := e ▸ QX.ret
theorem QX.cal {ρ ω : Type} {r : xh_R ρ} {v : ρ} {x : ω} {h : xh_H} {K S K' S' : Nat} {F : ρ → xh_H → xh_R ω} (a : QX r v h K S) (b : ∀ h', XE h h' → QX (F v h') x h' K' S') : QX (xh_cal r F) x h (K + K') (S + S') := by
  obtain ⟨h', kc, ks, e, xe, b1, b2⟩ := a
  obtain ⟨h'', kc', ks', e', xe', b1', b2'⟩ := b h' xe
  refine ⟨h'', kc + kc', ks + ks', ?_, xe.trans xe' (fun _ _ => id), by omega, by omega⟩
  rw [e]
  show xh_ad kc ks (F v h') = _
  rw [e']; rfl
theorem QX.mono {ρ : Type} {r : xh_R ρ} {v : ρ} {h : xh_H} {K S K' S' : Nat} (a : QX r v h K S) (h1 : K ≤ K') (h2 : S ≤ S') : QX r v h K' S' := by
  obtain ⟨h', kc, ks, e, xe, b1, b2⟩ := a
  exact ⟨h', kc, ks, e, xe, Nat.le_trans b1 h1, Nat.le_trans b2 h2⟩
section JQ
variable {H : xh_H} {s : Nat → Int32} {A : Nat → Nat} {mc : Int32} {cap : Nat} {rf : Nat → Option Nat} {j ro : Nat} {V : Nat → Nat → Int32} {hd : Nat → Int32} {N : Nat}
theorem ms_cnt_s {p : Nat → Bool} {n : Nat} : ms_cnt p 0 (n + 1) = ms_cnt p 0 n + (if p n then 1 else 0) := by
  show ms_cnt p 0 n + (if p (0 + n) then 1 else 0) = _
  rw [Nat.zero_add]
theorem j_hits {o : Option Nat} (hN : 3000 ≤ N) (hS : XS H s A mc cap rf) (hJ : JV H j (A 0) o V) (hn : ms_n s ≤ 40) : f_X7_hits N (some j) (-5) H = some (nI (ms_cnt (fun k => decide (V 8 k = 0)) 0 (ms_n s)), H, 0, 0) := by
  unfold f_X7_hits
  have key := xl_run (fun _ _ _ _ _ => none) (fun k4 => f_X7_hits_b4 N k4)
    (fun c f => f (some j) (-5) (nI (ms_cnt (fun k => decide (V 8 k = 0)) 0 c)) (nI c) H)
    (some (nI (ms_cnt (fun k => decide (V 8 k = 0)) 0 (ms_n s)), H, 0, 0)) (ms_n s) ?_ ?_ N 0 (by omega) (by omega)
  · exact key
  · intro f c hc
    show f_X7_hits_b4 N f _ _ _ _ _ = _
    unfold f_X7_hits_b4 f_X7_hits_b58 f_X7_hits_b54 f_X7_hits_b59
    simp only [jv_c hJ, jv_0 hJ, jv_1 hJ, jv_2 hJ, jv_3 hJ, jv_4 hJ, jv_5 hJ, jv_6 hJ, sg_0 hS, sg_1 hS, sg_2 hS, sg_c hS, sg_l hS, sg_t0 hS, sg_t1 hS, sg_t2 hS, sg_t3 hS, sg_t4 hS, sg_many hS, Option.bind_some, xc_0, jv_l8 hJ (show c < 40 by omega), nI_1, nI_p0]
    rw [if_neg (by rw [nI_leI (by omega) (by omega)]; omega), if_pos trivial, ms_cnt_s]
    generalize ms_cnt (fun k => decide (V 8 k = 0)) 0 c = x
    by_cases z : V 8 c = 0
    · rw [if_pos z, decide_eq_true z]; rfl
    · rw [if_neg z, decide_eq_false z]; rfl
  · intro f
    show f_X7_hits_b4 N f _ _ _ _ _ = _
    unfold f_X7_hits_b4 f_X7_hits_b67
    simp only [jv_c hJ, jv_0 hJ, jv_1 hJ, jv_2 hJ, jv_3 hJ, jv_4 hJ, jv_5 hJ, jv_6 hJ, sg_0 hS, sg_1 hS, sg_2 hS, sg_c hS, sg_l hS, sg_t0 hS, sg_t1 hS, sg_t2 hS, sg_t3 hS, sg_t4 hS, sg_many hS, Option.bind_some, xc_0]
    rw [if_pos (by rw [nI_leI (by omega) (by omega)]; omega)]
theorem j_hitsf {f : Nat} {o : Option Nat} (hN : 3000 ≤ N) (hS : XS H s A mc cap rf) (hJ : JV H j (A 0) o V) (hn : ms_n s ≤ 40) (hf : f < 1000) : f_X7_hits N (some j) (nI f) H = some (nI (pf_h s (V 8) f (ms_n s)), H, 0, 0) := by
  unfold f_X7_hits
  have key := xl_run (fun _ _ _ _ _ => none) (fun k4 => f_X7_hits_b4 N k4)
    (fun c g => g (some j) (nI f) (nI (pf_h s (V 8) f c)) (nI c) H)
    (some (nI (pf_h s (V 8) f (ms_n s)), H, 0, 0)) (ms_n s) ?_ ?_ N 0 (by omega) (by omega)
  · exact key
  · intro g c hk
    show f_X7_hits_b4 N g _ _ _ _ _ = _
    have hp := ms_ph_le (s := s) c
    unfold f_X7_hits_b4 f_X7_hits_b58 f_X7_hits_b54 f_X7_hits_b59
    simp only [jv_c hJ, jv_0 hJ, jv_1 hJ, jv_2 hJ, jv_3 hJ, jv_4 hJ, jv_5 hJ, jv_6 hJ, sg_0 hS, sg_1 hS, sg_2 hS, sg_c hS, sg_l hS, sg_t0 hS, sg_t1 hS, sg_t2 hS, sg_t3 hS, sg_t4 hS, sg_many hS, Option.bind_some, xc_0, jv_l8 hJ (show c < 40 by omega), nI_1, nI_p0]
    have n5 : ¬ nI f = -5 := fun q => by
      have h0 : (0 : Int32) ≤ nI f := nI_pos' (by omega)
      rw [q] at h0
      exact absurd h0 (by decide)
    rw [if_neg (by rw [nI_leI (by omega) (by omega)]; omega), if_neg n5]
    simp only [sg_get hS hk, sg_y0 hS hk, sg_y1 hS hk, sg_y2 hS hk, sg_y3 hS hk, sg_y4 hS hk, sg_yc hS hk, sg_yk hS hk, sg_yend hS hk, sg_yw hS hk, Option.bind_some, xc_0]
    have e : pf_h s (V 8) f (c + 1) = pf_h s (V 8) f c + (if decide (ms_ph s c = f) && decide (V 8 c = 0) then 1 else 0) := ms_cnt_s
    rw [e]
    generalize pf_h s (V 8) f c = x
    by_cases z : V 8 c = 0
    · rw [if_pos z, decide_eq_true z]
      by_cases y : ms_ph s c = f
      · rw [if_pos (by rw [y]), decide_eq_true y]; rfl
      · rw [if_neg (fun q => y ((nI_eq (by omega) (by omega)).mp q)), decide_eq_false y]; rfl
    · rw [if_neg z, decide_eq_false z]
      cases decide (ms_ph s c = f) <;> rfl
  · intro g
    show f_X7_hits_b4 N g _ _ _ _ _ = _
    unfold f_X7_hits_b4 f_X7_hits_b67
    simp only [jv_c hJ, jv_0 hJ, jv_1 hJ, jv_2 hJ, jv_3 hJ, jv_4 hJ, jv_5 hJ, jv_6 hJ, sg_0 hS, sg_1 hS, sg_2 hS, sg_c hS, sg_l hS, sg_t0 hS, sg_t1 hS, sg_t2 hS, sg_t3 hS, sg_t4 hS, sg_many hS, Option.bind_some, xc_0]
    rw [if_pos (by rw [nI_leI (by omega) (by omega)]; omega)]
theorem j_many {f : Nat} {o : Option Nat} (hN : 3000 ≤ N) (w : WF H) (hS : XS H s A mc cap rf) (hJ : JV H j (A 0) o V) (hn : ms_n s ≤ 40) (hf : f < 1000) : QX (f_X7_many N (some j) (nI f) H) (nI (pf_m s f (ms_n s))) H 1 4 := by
  unfold f_X7_many
  simp only [jv_c hJ, jv_0 hJ, jv_1 hJ, jv_2 hJ, jv_3 hJ, jv_4 hJ, jv_5 hJ, jv_6 hJ, sg_0 hS, sg_1 hS, sg_2 hS, sg_c hS, sg_l hS, sg_t0 hS, sg_t1 hS, sg_t2 hS, sg_t3 hS, sg_t4 hS, sg_many hS, Option.bind_some, xc_0]
  obtain ⟨h1, e1, i1, x1, -, -⟩ := jl_iter (N := N) w hS.2.1
  rw [e1]
  simp only [xc_k]
  have key : ∀ m c h' n, c + m = ms_n s → m < n → XE H h' → XI h' H.2.1 c mc (A 1) → ∃ h'', f_X7_many_l15 N n (nI f) (nI (pf_m s f c)) (some H.2.1) h' = some (nI (pf_m s f (ms_n s)), h'', 0, 0) ∧ XE H h'' := by
    intro m
    induction m with
    | zero =>
      intro c h' n hc hnn xe xi
      obtain ⟨n, rfl⟩ : ∃ i, n = i + 1 := ⟨n - 1, by omega⟩
      have hS' := hS.ext w xe
      show ∃ h'', f_X7_many_b15 N (f_X7_many_l15 N n) (nI f) _ _ h' = _ ∧ _
      unfold f_X7_many_b15 f_X7_many_b55
      have xi' := xi
      obtain ⟨lr, xi'⟩ := xi'
      simp only [xo_chk xi', Option.bind_some, jl_hasNext xi hS'.2.1 (by omega), xc_0]
      rw [if_pos (show c = ms_n s by omega), if_pos rfl, show c = ms_n s by omega]
      exact ⟨h', rfl, xe⟩
    | succ m ih =>
      intro c h' n hc hnn xe xi
      obtain ⟨n, rfl⟩ : ∃ i, n = i + 1 := ⟨n - 1, by omega⟩
      have hS' := hS.ext w xe
      have hp := ms_ph_le (s := s) c
      show ∃ h'', f_X7_many_b15 N (f_X7_many_l15 N n) (nI f) _ _ h' = _ ∧ _
      unfold f_X7_many_b15 f_X7_many_b50
      have xi' := xi
      obtain ⟨lr, xi'⟩ := xi'
      simp only [xo_chk xi', Option.bind_some, jl_hasNext xi hS'.2.1 (by omega), xc_0]
      rw [if_neg (show ¬ c = ms_n s by omega), if_neg (by decide)]
      obtain ⟨h2, e2, i2, x2⟩ := jl_next (N := N) xi hS'.2.1 (show c < ms_n s by omega)
      have xe2 : XE H h2 := xe.trans x2 (fun q hq z => by omega)
      have hS2 := hS.ext w xe2
      have hk : c < ms_n s := by omega
      rw [e2, sg_rf hS hk]
      simp only [xc_0, sg_yk hS2 hk, sg_y4 hS2 hk, Option.bind_some, nI_1, nI_p0]
      have e : pf_m s f (c + 1) = pf_m s f c + (if decide (ms_ph s c = f) then 1 else 0) := ms_cnt_s
      obtain ⟨h3, e3, x3⟩ := ih (c + 1) h2 n (by omega) (by omega) xe2 i2
      rw [e] at e3
      refine ⟨h3, ?_, x3⟩
      rw [← e3]
      generalize pf_m s f c = x
      by_cases y : ms_ph s c = f
      · rw [if_pos (by rw [y]), decide_eq_true y]; rfl
      · rw [if_neg (fun q => y ((nI_eq (by omega) (by omega)).mp q)), decide_eq_false y]; rfl
  obtain ⟨h2, e2, x2⟩ := key (ms_n s) 0 h1 N (by omega) (by omega) x1 i1
  refine ⟨h2, 1, 4, ?_, x2, Nat.le_refl _, Nat.le_refl _⟩
  show xh_ad 1 4 (f_X7_many_l15 N N (nI f) (nI (pf_m s f 0)) (some H.2.1) h1) = _
  rw [e2]; rfl
theorem pf_m_le {f n : Nat} : pf_m s f n ≤ n := ms_cnt_le _ _ _
theorem pf_h_le {f n : Nat} {wy : Nat → Int32} : pf_h s wy f n ≤ n := ms_cnt_le _ _ _
theorem j_pointsOf {f : Nat} {o : Option Nat} (hN : 3000 ≤ N) (w : WF H) (hS : XS H s A mc cap rf) (hJ : JV H j (A 0) o V) (hn : ms_n s ≤ 40) (hf : f < 1000) : QX (f_X7_pointsOf N (some j) (nI f) H) (pf_p s (V 8) (V 10) f (ms_n s)) H 2 8 := by
  have h57 : QX (f_X7_pointsOf_b57 N (some j) (nI f) (pf_s s (V 10) f (ms_n s)) H) (pf_p s (V 8) (V 10) f (ms_n s)) H 2 8 := by
    unfold f_X7_pointsOf_b57 f_X7_pointsOf_b85 f_X7_pointsOf_b86
    have hm := pf_m_le (s := s) (f := f) (n := ms_n s)
    have hh := pf_h_le (s := s) (wy := V 8) (f := f) (n := ms_n s)
    rw [jv_c hJ, Option.bind_some]
    refine QX.cal (K := 1) (S := 4) (K' := 1) (S' := 4) (j_many hN w hS hJ hn hf) (fun h1 x1 => ?_)
    have hJ1 := hJ.ext w x1
    have hS1 := hS.ext w x1
    unfold pf_p
    by_cases z : pf_m s f (ms_n s) ≤ 1
    · rw [if_pos (by rw [show (2 : Int32) = nI 2 from rfl, nI_ltI (by omega) (by omega)]; omega), if_pos z]
      exact QX.ret.mono (by omega) (by omega)
    · rw [if_neg (by rw [show (2 : Int32) = nI 2 from rfl, nI_ltI (by omega) (by omega)]; omega), if_neg z]
      simp only [jv_c hJ1, j_hitsf hN hS1 hJ1 hn hf, Option.bind_some, xc_0]
      refine QX.cal (K := 1) (S := 4) (K' := 0) (S' := 0) (j_many hN (x1.wf w) hS1 hJ1 hn hf) (fun h2 x2 => ?_)
      by_cases y : pf_h s (V 8) f (ms_n s) = pf_m s f (ms_n s)
      · rw [if_pos (by rw [y]), if_pos y]; exact QX.ret
      · rw [if_neg (fun q => y ((nI_eq (by omega) (by omega)).mp q)), if_neg y]; exact QX.ret
  unfold f_X7_pointsOf
  have key := xl_run (fun _ _ _ _ _ => none) (fun k4 => f_X7_pointsOf_b4 N k4)
    (fun c g => g (some j) (nI f) (pf_s s (V 10) f c) (nI c) H)
    (f_X7_pointsOf_b57 N (some j) (nI f) (pf_s s (V 10) f (ms_n s)) H) (ms_n s) ?_ ?_ N 0 (by omega) (by omega)
  · have key' : f_X7_pointsOf_l4 N N (some j) (nI f) 0 0 H = _ := key
    rw [key']; exact h57
  · intro g c hk
    show f_X7_pointsOf_b4 N g _ _ _ _ _ = _
    have hp := ms_ph_le (s := s) c
    unfold f_X7_pointsOf_b4 f_X7_pointsOf_b49
    simp only [jv_c hJ, jv_0 hJ, jv_1 hJ, jv_2 hJ, jv_3 hJ, jv_4 hJ, jv_5 hJ, jv_6 hJ, sg_0 hS, sg_1 hS, sg_2 hS, sg_c hS, sg_l hS, sg_t0 hS, sg_t1 hS, sg_t2 hS, sg_t3 hS, sg_t4 hS, sg_many hS, Option.bind_some, xc_0, sg_get hS hk, sg_y0 hS hk, sg_y1 hS hk, sg_y2 hS hk, sg_y3 hS hk, sg_y4 hS hk, sg_yc hS hk, sg_yk hS hk, sg_yend hS hk, sg_yw hS hk, jv_l10 hJ (show c < 40 by omega), nI_1]
    rw [if_neg (by rw [nI_leI (by omega) (by omega)]; omega)]
    show _ = g _ _ (if ms_ph s c = f then pf_s s (V 10) f c + V 10 c else pf_s s (V 10) f c) _ _
    by_cases y : ms_ph s c = f
    · rw [if_pos (by rw [y]), if_pos y]
    · rw [if_neg (fun q => y ((nI_eq (by omega) (by omega)).mp q)), if_neg y, Int32.add_zero]
  · intro g
    show f_X7_pointsOf_b4 N g _ _ _ _ _ = _
    unfold f_X7_pointsOf_b4
    simp only [jv_c hJ, jv_0 hJ, jv_1 hJ, jv_2 hJ, jv_3 hJ, jv_4 hJ, jv_5 hJ, jv_6 hJ, sg_0 hS, sg_1 hS, sg_2 hS, sg_c hS, sg_l hS, sg_t0 hS, sg_t1 hS, sg_t2 hS, sg_t3 hS, sg_t4 hS, sg_many hS, Option.bind_some, xc_0]
    rw [if_pos (by rw [nI_leI (by omega) (by omega)]; omega)]
theorem j_all {o : Option Nat} (hN : 3000 ≤ N) (w : WF H) (hS : XS H s A mc cap rf) (hJ : JV H j (A 0) o V) (hn : ms_n s ≤ 40) : QX (f_X7_all N (some j) H) (pf_all s (V 8) (V 10) (ms_n s) (ms_phs s)) H 80 320 := by
  have hps : ms_phs s ≤ ms_n s := ms_phs_le
  have key : ∀ m c h' n, c + m = ms_phs s → m < n → XE H h' → QX (f_X7_all_l4 N n (some j) (pf_all s (V 8) (V 10) (ms_n s) c) (nI c) h') (pf_all s (V 8) (V 10) (ms_n s) (ms_phs s)) h' (2 * m) (8 * m) := by
    intro m
    induction m with
    | zero =>
      intro c h' n hc hnn xe
      obtain ⟨n, rfl⟩ : ∃ i, n = i + 1 := ⟨n - 1, by omega⟩
      have hS' := hS.ext w xe
      have hJ' := hJ.ext w xe
      show QX (f_X7_all_b4 N (f_X7_all_l4 N n) _ _ _ h') _ _ _ _
      unfold f_X7_all_b4 f_X7_all_b29
      simp only [jv_0 hJ', sg_c hS', sg_phs hS' hn, Option.bind_some, xc_0]
      rw [if_pos (by rw [nI_leI (by omega) (by omega)]; omega), show c = ms_phs s by omega]
      exact QX.ret
    | succ m ih =>
      intro c h' n hc hnn xe
      obtain ⟨n, rfl⟩ : ∃ i, n = i + 1 := ⟨n - 1, by omega⟩
      have hS' := hS.ext w xe
      have hJ' := hJ.ext w xe
      show QX (f_X7_all_b4 N (f_X7_all_l4 N n) _ _ _ h') _ _ _ _
      unfold f_X7_all_b4
      simp only [jv_0 hJ', sg_c hS', sg_phs hS' hn, jv_c hJ', Option.bind_some, xc_0]
      rw [if_neg (by rw [nI_leI (by omega) (by omega)]; omega)]
      refine (QX.cal (j_pointsOf hN (xe.wf w) hS' hJ' hn (show c < 1000 by omega)) (fun h2 x2 => ?_)).mono (show 2 + 2 * m ≤ _ by omega) (show 8 + 8 * m ≤ _ by omega)
      rw [nI_1]
      exact ih (c + 1) h2 n (by omega) (by omega) (xe.trans x2 (fun _ _ => id))
  exact (key (ms_phs s) 0 H N (by omega) (by omega) XW.refl).mono (by omega) (by omega)
end JQ
