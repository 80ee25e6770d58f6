/-! THE MOST POINTS -/
set_option maxRecDepth 100000
def pm_b (s : Nat → Int32) : Nat → Int32
  | 0 => 0
  | k + 1 => pm_b s k + ((100 + 5 * nI (ms_cnt (ms_bar s (fun _ => 0) k false) (ms_b s k + 1) (ms_l s k - 1))) * (10 + nI (min 10 (pm_t s k)))) / 10
def pq_s (s : Nat → Int32) (n : Nat) : Nat → Int32
  | 0 => 0
  | f + 1 => pq_s s n f + (if pf_m s f n < 2 then 0 else 50)
def pm_c (s : Nat → Int32) (n : Nat) : Nat := ms_cnt (fun k => decide (pm_t s k = 1)) 0 n
def pq_c (s : Nat → Int32) (n f : Nat) : Nat := ms_cnt (fun f => decide (2 ≤ pf_m s f n)) 0 f
section PM
variable {s : Nat → Int32}
theorem pm_split : ∀ n, pm_s s n = pm_b s n + nI (50 * pm_c s n)
  | 0 => rfl
  | n + 1 => by
    have ih := pm_split n
    have ec : pm_c s (n + 1) = pm_c s n + (if decide (pm_t s n = 1) then 1 else 0) := ms_cnt_s
    show (pm_s s n + _) + (if pm_t s n = 1 then 50 else 0) = (pm_b s n + _) + nI (50 * pm_c s (n + 1))
    rw [ih, ec]
    generalize ((100 + 5 * nI (ms_cnt (ms_bar s (fun _ => 0) n false) (ms_b s n + 1) (ms_l s n - 1))) * (10 + nI (min 10 (pm_t s n)))) / 10 = x
    by_cases z : pm_t s n = 1
    · rw [if_pos z, decide_eq_true z, if_pos rfl, show 50 * (pm_c s n + 1) = 50 * pm_c s n + 50 by omega, ← nI_add, show (50 : Int32) = nI 50 from rfl]
      grind
    · rw [if_neg z, decide_eq_false z, if_neg (by decide), Nat.add_zero]
      grind
theorem pq_eq {n : Nat} : ∀ f, pq_s s n f = nI (50 * pq_c s n f)
  | 0 => rfl
  | f + 1 => by
    have ih := pq_eq (n := n) f
    have ec : pq_c s n (f + 1) = pq_c s n f + (if decide (2 ≤ pf_m s f n) then 1 else 0) := ms_cnt_s
    show pq_s s n f + (if pf_m s f n < 2 then 0 else 50) = nI (50 * pq_c s n (f + 1))
    rw [ih, ec]
    by_cases z : 2 ≤ pf_m s f n
    · rw [if_neg (by omega), decide_eq_true z, if_pos rfl, show 50 * (pq_c s n f + 1) = 50 * pq_c s n f + 50 by omega, ← nI_add]
      rfl
    · rw [if_pos (by omega), decide_eq_false z, if_neg (by decide), Nat.add_zero, Int32.add_zero]
theorem pf_m_s {f n : Nat} : pf_m s f (n + 1) = pf_m s f n + (if ms_ph s n = f then 1 else 0) := by
  have : pf_m s f (n + 1) = pf_m s f n + (if decide (ms_ph s n = f) then 1 else 0) := ms_cnt_s
  rw [this]
  by_cases z : ms_ph s n = f
  · rw [if_pos z, decide_eq_true z, if_pos rfl]
  · rw [if_neg z, decide_eq_false z, if_neg (by decide)]
theorem pf_m_hi {f : Nat} : ∀ n, (∀ i, i < n → ms_ph s i < f) → pf_m s f n = 0
  | 0, _ => rfl
  | n + 1, q => by
    rw [pf_m_s, pf_m_hi n (fun i hi => q i (by omega)), if_neg (by have := q n (by omega); omega)]
theorem pq_lo {n f0 : Nat} (h : f0 ≤ ms_ph s n) : ∀ f, f ≤ f0 → pq_c s (n + 1) f = pq_c s n f := by
  intro f hf
  refine ms_cnt_congr f (fun i hi => ?_)
  rw [Nat.zero_add, pf_m_s, if_neg (by omega), Nat.add_zero]
theorem pq_pm (h1 : s 10 = 1) : ∀ n, pq_c s (n + 1) (ms_ph s n + 1) = pm_c s (n + 1) ∧ pf_m s (ms_ph s n) (n + 1) = pm_m s (n + 1) ∧ 1 ≤ pm_m s (n + 1)
  | 0 => by
    have e0 : ms_ph s 0 = 0 := ms_ph_0
    have et : pm_t s 0 = 0 := if_pos h1
    have em : pf_m s 0 1 = 1 := by rw [pf_m_s, e0, if_pos rfl]; rfl
    have ep : pm_m s 1 = 1 := by show (if s (6 + 5 * 0 + 4) = 1 then 0 else 0) + 1 = 1; split <;> rfl
    rw [e0]
    refine ⟨?_, by rw [em, ep], Nat.le_of_eq ep.symm⟩
    show ms_cnt _ 0 (0 + 1) = ms_cnt _ 0 (0 + 1)
    rw [ms_cnt_s, ms_cnt_s]
    show 0 + (if decide (2 ≤ pf_m s 0 (0 + 1)) then 1 else 0) = 0 + (if decide (pm_t s 0 = 1) then 1 else 0)
    rw [em, et]
    rfl
  | n + 1 => by
    obtain ⟨i1, i2, i3⟩ := pq_pm h1 n
    have hph := ms_ph_eq (s := s) (k := n + 1) h1 (by omega)
    rw [Nat.add_sub_cancel] at hph
    have hmo := ms_ph_mono (s := s) (show n ≤ n + 1 by omega)
    have hst := ms_ph_step (s := s) (k := n)
    have et : pm_t s (n + 1) = if s (6 + 5 * (n + 1) + 4) = 1 then 0 else pm_m s (n + 1) := rfl
    have em : pm_m s (n + 1 + 1) = (if s (6 + 5 * (n + 1) + 4) = 1 then 0 else pm_m s (n + 1)) + 1 := rfl
    have ec : pm_c s (n + 1 + 1) = pm_c s (n + 1) + (if decide (pm_t s (n + 1) = 1) then 1 else 0) := ms_cnt_s
    by_cases z : s (6 + 5 * (n + 1) + 4) = 1
    · have hp : ms_ph s (n + 1) = ms_ph s n + 1 := by
        have hne : ¬ ms_ph s n = ms_ph s (n + 1) := fun q => hph.mp q z
        omega
      have e0 : pf_m s (ms_ph s n + 1) (n + 1) = 0 := pf_m_hi (n + 1) (fun i hi => by have := ms_ph_mono (s := s) (show i ≤ n by omega); omega)
      rw [if_pos z] at et em
      rw [hp]
      have e1 : pf_m s (ms_ph s n + 1) (n + 1 + 1) = 1 := by rw [pf_m_s, e0, if_pos hp]
      refine ⟨?_, by rw [e1, em], by rw [em]; omega⟩
      rw [ec, et, if_neg (by decide), ← i1, Nat.add_zero]
      have : pq_c s (n + 1 + 1) (ms_ph s n + 1 + 1) = pq_c s (n + 1 + 1) (ms_ph s n + 1) + (if decide (2 ≤ pf_m s (ms_ph s n + 1) (n + 1 + 1)) then 1 else 0) := ms_cnt_s
      rw [this, e1, if_neg (by decide), Nat.add_zero]
      exact pq_lo (n := n + 1) (f0 := ms_ph s n + 1) (by omega) _ (Nat.le_refl _)
    · have hp : ms_ph s n = ms_ph s (n + 1) := hph.mpr z
      rw [if_neg z] at et em
      have e1 : pf_m s (ms_ph s (n + 1)) (n + 1 + 1) = pm_m s (n + 1) + 1 := by rw [pf_m_s, if_pos rfl, ← hp, i2]
      refine ⟨?_, by rw [e1, em], by rw [em]; omega⟩
      have q1 : pq_c s (n + 1 + 1) (ms_ph s (n + 1) + 1) = pq_c s (n + 1 + 1) (ms_ph s (n + 1)) + (if decide (2 ≤ pf_m s (ms_ph s (n + 1)) (n + 1 + 1)) then 1 else 0) := ms_cnt_s
      have q2 : pq_c s (n + 1) (ms_ph s n + 1) = pq_c s (n + 1) (ms_ph s n) + (if decide (2 ≤ pf_m s (ms_ph s n) (n + 1)) then 1 else 0) := ms_cnt_s
      have q3 := pq_lo (n := n + 1) (f0 := ms_ph s (n + 1)) (Nat.le_refl _) _ (Nat.le_refl _)
      rw [q1, q3, e1, ec, ← i1, q2, i2, et, hp]
      generalize pm_m s (n + 1) = x at i3
      rw [if_pos (decide_eq_true (show 2 ≤ x + 1 by omega))]
      by_cases y : x = 1
      · subst y; rfl
      · rw [if_pos (decide_eq_true (show 2 ≤ x by omega)), if_neg (by rw [decide_eq_false y]; decide)]
theorem pm_pq (hok : ms_ok s) : pm_s s (ms_n s) = pm_b s (ms_n s) + pq_s s (ms_n s) (ms_phs s) := by
  obtain ⟨h5, hn, hsy, hap, hfi, -⟩ := hok
  rw [pm_split, pq_eq]
  by_cases z : ms_n s = 0
  · rw [z]
    unfold ms_phs
    rw [if_pos z]; rfl
  · have := (pq_pm (hfi (by omega)) (ms_n s - 1)).1
    rw [show ms_n s - 1 + 1 = ms_n s by omega] at this
    unfold ms_phs
    rw [if_neg z, this]
end PM
section JQ
variable {H : xh_H} {s : Nat → Int32} {A : Nat → Nat} {mc : Int32} {cap : Nat} {rf : Nat → Option Nat} {j ro : Nat} {V : Nat → Nat → Int32} {hd : Nat → Int32} {N : Nat}
theorem pm_t_J {k : Nat} (h1 : s 10 = 1) : pm_t s k = if 0 < k ∧ ms_ph s (k - 1) = ms_ph s k then pm_t s (k - 1) + 1 else 0 := by
  by_cases hk : 0 < k
  · obtain ⟨k, rfl⟩ : ∃ m, k = m + 1 := ⟨k - 1, by omega⟩
    have hph := ms_ph_eq h1 hk
    rw [Nat.add_sub_cancel] at hph ⊢
    show (if s (6 + 5 * (k + 1) + 4) = 1 then 0 else (if s (6 + 5 * k + 4) = 1 then 0 else pm_m s k) + 1) = _
    by_cases z : s (6 + 5 * (k + 1) + 4) = 1
    · rw [if_pos z, if_neg (fun q => hph.mp q.2 z)]
    · rw [if_neg z, if_pos (show 0 < k + 1 ∧ ms_ph s k = ms_ph s (k + 1) from ⟨hk, hph.mpr z⟩)]; rfl
  · have : k = 0 := by omega
    subst this
    rw [if_neg (fun q => hk q.1)]
    exact if_pos h1
theorem j_most (hN : 3000 ≤ N) (w : WF H) (hS : XS H s A mc cap rf) (hJ : JV H j (A 0) (some ro) V) (hR : XR H ro hd) (hok : ms_ok s) : QX (f_X7_most N (some j) H) (pm_s s (ms_n s)) H 40 160 := by
  obtain ⟨h5, hn, hsy, hap, hfi, ⟨hs0, -⟩, -⟩ := id hok
  have hps : ms_phs s ≤ ms_n s := ms_phs_le
  have key2 : ∀ m c h' n, c + m = ms_phs s → m < n → XE H h' → QX (f_X7_most_l112 N n (some j) (pm_b s (ms_n s) + pq_s s (ms_n s) c) (nI c) h') (pm_s s (ms_n s)) h' m (4 * m) := by
    intro m
    induction m with
    | zero =>
      intro c h' n hc hnn xe
      obtain ⟨n, rfl⟩ : ∃ i, n = i + 1 := ⟨n - 1, by omega⟩
      have hS' := hS.ext w xe
      have hJ' := hJ.ext w xe
      show QX (f_X7_most_b112 N (f_X7_most_l112 N n) _ _ _ h') _ _ _ _
      unfold f_X7_most_b112 f_X7_most_b147
      simp only [jv_0 hJ', sg_c hS', sg_phs hS' hn, Option.bind_some, xc_0]
      rw [if_pos (by rw [nI_leI (by omega) (by omega)]; omega), show c = ms_phs s by omega, pm_pq hok]
      exact QX.ret
    | succ m ih =>
      intro c h' n hc hnn xe
      obtain ⟨n, rfl⟩ : ∃ i, n = i + 1 := ⟨n - 1, by omega⟩
      have hS' := hS.ext w xe
      have hJ' := hJ.ext w xe
      have hm := pf_m_le (s := s) (f := c) (n := ms_n s)
      show QX (f_X7_most_b112 N (f_X7_most_l112 N n) _ _ _ h') _ _ _ _
      unfold f_X7_most_b112 f_X7_most_b139
      simp only [jv_0 hJ', sg_c hS', sg_phs hS' hn, jv_c hJ', Option.bind_some, xc_0]
      rw [if_neg (by rw [nI_leI (by omega) (by omega)]; omega)]
      refine (QX.cal (j_many hN (xe.wf w) hS' hJ' hn (show c < 1000 by omega)) (fun h2 x2 => ?_)).mono (show 1 + m ≤ _ by omega) (show 4 + 4 * m ≤ _ by omega)
      have ih' := ih (c + 1) h2 n (by omega) (by omega) (xe.trans x2 (fun _ _ => id))
      have eq : pq_s s (ms_n s) (c + 1) = pq_s s (ms_n s) c + (if pf_m s c (ms_n s) < 2 then 0 else 50) := rfl
      rw [eq, ← Int32.add_assoc] at ih'
      rw [nI_1]
      by_cases z : pf_m s c (ms_n s) < 2
      · rw [if_pos (by rw [show (2 : Int32) = nI 2 from rfl, nI_ltI (by omega) (by omega)]; omega)]
        rw [if_pos z] at ih'; exact ih'
      · rw [if_neg (by rw [show (2 : Int32) = nI 2 from rfl, nI_ltI (by omega) (by omega)]; omega)]
        rw [if_neg z] at ih'; exact ih'
  unfold f_X7_most
  have key := xl_run (fun _ _ _ _ _ => none) (fun k6 => f_X7_most_b6 N k6)
    (fun c g => g (some j) (pm_b s c) (if c = 0 then 0 else nI (min 10 (pm_t s (c - 1)))) (nI c) H)
    (f_X7_most_b110 N (some j) (pm_b s (ms_n s)) H) (ms_n s) ?_ ?_ N 0 (by omega) (by omega)
  · have key' : f_X7_most_l6 N N (some j) 0 0 0 H = _ := key
    rw [key']
    unfold f_X7_most_b110
    have := key2 (ms_phs s) 0 H N (by omega) (by omega) XW.refl
    have e0 : pm_b s (ms_n s) + pq_s s (ms_n s) 0 = pm_b s (ms_n s) := Int32.add_zero _
    rw [e0] at this
    exact this.mono (by omega) (by omega)
  · intro g c hk
    obtain ⟨hb, hl, hl1, hl2, hbl, hfs⟩ := hsy c hk
    have hp := ms_ph_le (s := s) c
    have hp1 := ms_ph_le (s := s) (c - 1)
    have hba := j_bars (N := N) (sel := false) hN hS hJ hR hk hb hl hbl hl1 hs0
    have hba' : f_X7_bars N (some j) (some (xy rf c)) (0 : Int32) H = _ := hba
    rw [ms_bar_f (hd' := fun _ => 0)] at hba'
    have h80 : f_X7_most_b80 N g (some j) (pm_b s c) (nI c) (some (xy rf c)) (nI (min 10 (pm_t s c))) H = g (some j) (pm_b s (c + 1)) (if c + 1 = 0 then 0 else nI (min 10 (pm_t s (c + 1 - 1)))) (nI (c + 1)) H := by
      unfold f_X7_most_b80
      simp only [jv_c hJ, Option.bind_some, hba', xc_0, nI_1]
      rw [if_neg (by omega)]
      rfl
    have hrow := pm_t_J (s := s) (k := c) (hfi (by omega))
    show f_X7_most_b6 N g _ _ _ _ _ = _
    unfold f_X7_most_b6 f_X7_most_b79
    simp only [jv_c hJ, jv_0 hJ, jv_1 hJ, jv_2 hJ, jv_3 hJ, jv_4 hJ, jv_5 hJ, jv_6 hJ, sg_0 hS, sg_1 hS, sg_2 hS, sg_c hS, sg_l hS, sg_t0 hS, sg_t1 hS, sg_t2 hS, sg_t3 hS, sg_t4 hS, sg_many hS, Option.bind_some, xc_0, sg_get hS hk, sg_y0 hS hk, sg_y1 hS hk, sg_y2 hS hk, sg_y3 hS hk, sg_y4 hS hk, sg_yc hS hk, sg_yk hS hk, sg_yend hS hk, sg_yw hS hk]
    rw [if_neg (by rw [nI_leI (by omega) (by omega)]; omega)]
    by_cases c0 : c = 0
    · rw [if_pos (by rw [c0]; decide), ← h80]
      rw [if_neg (by omega)] at hrow
      rw [hrow]; rfl
    · rw [if_neg (by rw [xl_0, nI_leI (by omega) (by omega)]; omega), if_neg c0]
      have hk1 : c - 1 < ms_n s := by omega
      have em : nI c - 1 = nI (c - 1) := by rw [xl_1, pk_sub (by omega)]
      simp only [em, sg_get hS hk1, sg_yk hS hk1, sg_y4 hS hk1, sg_y4 hS hk, Option.bind_some, xc_0]
      by_cases z : ms_ph s (c - 1) = ms_ph s c
      · rw [if_pos (show nI (ms_ph s (c - 1)) = nI (ms_ph s c) by rw [z]), ← h80]
        rw [if_pos ⟨by omega, z⟩] at hrow
        rw [hrow, nI_1]
        unfold xh_mn
        generalize pm_t s (c - 1) = r
        by_cases x : min 10 r + 1 < 10
        · rw [if_pos (by rw [xl_10, nI_ltI (by omega) (by omega)]; exact x), show min 10 r + 1 = min 10 (r + 1) by omega]
        · rw [if_neg (by rw [xl_10, nI_ltI (by omega) (by omega)]; exact x), show min 10 (r + 1) = 10 by omega]; rfl
      · rw [if_neg (show ¬ nI (ms_ph s (c - 1)) = nI (ms_ph s c) from fun q => z ((nI_eq (by omega) (by omega)).mp q)), ← h80]
        rw [if_neg (fun q => z q.2)] at hrow
        rw [hrow]; rfl
  · intro g
    show f_X7_most_b6 N g _ _ _ _ _ = _
    unfold f_X7_most_b6
    simp only [jv_c hJ, jv_0 hJ, jv_1 hJ, jv_2 hJ, jv_3 hJ, jv_4 hJ, jv_5 hJ, jv_6 hJ, sg_0 hS, sg_1 hS, sg_2 hS, sg_c hS, sg_l hS, sg_t0 hS, sg_t1 hS, sg_t2 hS, sg_t3 hS, sg_t4 hS, sg_many hS, Option.bind_some, xc_0]
    rw [if_pos (by rw [nI_leI (by omega) (by omega)]; omega)]
end JQ
