/-! THE MODEL's METHODS: what is asked -/
set_option maxRecDepth 100000
theorem jg_tail {V : Nat → Nat → Int32} {tk by_ : Int32} : ∀ t, 600 ≤ t → jg V tk by_ 5 t = 0 := by
  intro t ht
  rw [jg_5]
  unfold ms_hdz
  exact if_neg (by omega)
theorem pf_h_congr {s wy wy' : Nat → Int32} {f n : Nat} (e : ∀ k, k < n → wy k = wy' k) : pf_h s wy f n = pf_h s wy' f n := by
  unfold pf_h
  exact ms_cnt_congr n (fun i hi => by rw [Nat.zero_add, e i hi])
theorem pf_s_congr {s pt pt' : Nat → Int32} {f : Nat} : ∀ n, (∀ k, k < n → pt k = pt' k) → pf_s s pt f n = pf_s s pt' f n
  | 0, _ => rfl
  | n + 1, e => by
    show (if ms_ph s n = f then pf_s s pt f n + pt n else pf_s s pt f n) = (if ms_ph s n = f then pf_s s pt' f n + pt' n else pf_s s pt' f n)
    rw [pf_s_congr n (fun k hk => e k (by omega)), e n (by omega)]
theorem pf_n_congr {s wy wy' : Nat → Int32} {f : Nat} : ∀ n, (∀ k, k < n → wy k = wy' k) → pf_n s wy f n = pf_n s wy' f n
  | 0, _ => rfl
  | n + 1, e => by
    show (if ms_ph s n = f then (if wy n = 0 then pf_n s wy f n + 1 else 0) else pf_n s wy f n) = (if ms_ph s n = f then (if wy' n = 0 then pf_n s wy' f n + 1 else 0) else pf_n s wy' f n)
    rw [pf_n_congr n (fun k hk => e k (by omega)), e n (by omega)]
theorem pf_l_congr {s wy wy' : Nat → Int32} {f : Nat} : ∀ n, (∀ k, k < n → wy k = wy' k) → pf_l s wy f n = pf_l s wy' f n
  | 0, _ => rfl
  | n + 1, e => by
    show (if ms_ph s n = f then max (pf_l s wy f n) (pf_n s wy f (n + 1)) else pf_l s wy f n) = (if ms_ph s n = f then max (pf_l s wy' f n) (pf_n s wy' f (n + 1)) else pf_l s wy' f n)
    rw [pf_l_congr n (fun k hk => e k (by omega)), pf_n_congr (n + 1) e]
theorem pf_p_congr {s wy wy' pt pt' : Nat → Int32} {f n : Nat} (e : ∀ k, k < n → wy k = wy' k) (e2 : ∀ k, k < n → pt k = pt' k) : pf_p s wy pt f n = pf_p s wy' pt' f n := by
  unfold pf_p
  rw [pf_h_congr e, pf_s_congr n e2]
theorem pf_r_congr {s wy wy' pt pt' : Nat → Int32} {f n : Nat} {w : Int32} (e : ∀ k, k < n → wy k = wy' k) (e2 : ∀ k, k < n → pt k = pt' k) : pf_r s wy pt f n w = pf_r s wy' pt' f n w := by
  unfold pf_r
  rw [pf_h_congr e, pf_l_congr n e, pf_p_congr e e2]
theorem pf_all_congr {s wy wy' pt pt' : Nat → Int32} {n : Nat} (e : ∀ k, k < n → wy k = wy' k) (e2 : ∀ k, k < n → pt k = pt' k) : ∀ f, pf_all s wy pt n f = pf_all s wy' pt' n f
  | 0 => rfl
  | f + 1 => by
    show pf_all s wy pt n f + pf_p s wy pt f n = pf_all s wy' pt' n f + pf_p s wy' pt' f n
    rw [pf_all_congr e e2 f, pf_p_congr e e2]
/-- the points of a song, heard so -/
def pS (s : Nat → Int32) (tk by_ : Int32) : Int32 := pf_all s (mj_why s (ms_hdz s tk by_)) (mj_pts s (ms_hdz s tk by_)) (ms_n s) (ms_phs s)
def sy_r (s : Nat → Int32) (k : Nat) (w : Int32) : Int32 :=
  if w = 0 then s (6 + 5 * k) else if w = 1 then s (6 + 5 * k + 1) else if w = 2 then s (6 + 5 * k + 2) else if w = 3 then s (6 + 5 * k + 3) else if w = 4 then nI (ms_ph s k)
  else if w = 5 then nI (ms_cnt (ms_bar s (fun _ => 0) k false) (ms_b s k + 1) (ms_l s k - 1)) else if w = 6 then mj_mt s (ms_hdz s 0 0) k else if w = 7 then mj_mt s (ms_hdz s 0 0) k * 100 / s (6 + 5 * k + 1)
  else if w = 8 then mj_on s (ms_hdz s 0 0) k else if w = 9 then mj_why s (ms_hdz s 0 0) k else if w = 10 then mj_pts s (ms_hdz s 0 0) k else if w = 11 then mj_row s (ms_hdz s 0 0) k else -2
/-- the syllable at a tick: the last of the first n that has it -/
def ms_at (s : Nat → Int32) (x : Int32) : Nat → Option Nat
  | 0 => none
  | k + 1 => if s (6 + 5 * k) ≤ x ∧ x ≤ (s (6 + 5 * k) + s (6 + 5 * k + 1)) - 1 then some k else ms_at s x k
def oI (o : Option Nat) : Int32 := match o with
  | none => -5
  | some k => nI k
theorem ms_at_lt {s : Nat → Int32} {x : Int32} {k : Nat} : ∀ n, ms_at s x n = some k → k < n
  | 0, e => by cases e
  | n + 1, e => by
    have e' : (if s (6 + 5 * n) ≤ x ∧ x ≤ (s (6 + 5 * n) + s (6 + 5 * n + 1)) - 1 then some n else ms_at s x n) = some k := e
    split at e'
    · cases e'; omega
    · have := ms_at_lt n e'; omega
def to_r (s F : Nat → Int32) (w : Int32) : Int32 :=
  if w = 6 then nI (ms_phs s) else if w = 7 then ms_end s else if w = 8 then nI (ms_cnt (fun t => decide (0 < ms_hdz s 0 0 t)) 0 600) else if w = 9 then nI (ms_cnt (fun t => decide (ms_onI (ms_hdz s 0 0) t = 1)) 0 600) else if w = 10 then ms_hits s
  else if w = 11 then pS s 0 0 else if w = 12 then pm_s s (ms_n s) else if w = 13 then F 0 else if w = 14 then F 2 else if 0 ≤ w ∧ w ≤ 5 then s w.toNatClampNeg else -2
/-- the worst of the first f phrases -/
def wo (s wy pt : Nat → Int32) (n : Nat) : Nat → Option Nat
  | 0 => none
  | f + 1 => match wo s wy pt n f with
    | none => some f
    | some g => if pf_p s wy pt g n ≤ pf_p s wy pt f n then some g else some f
theorem wo_lt {s wy pt : Nat → Int32} {n g : Nat} : ∀ f, wo s wy pt n f = some g → g < f
  | 0, e => by cases e
  | f + 1, e => by
    have e' : (match wo s wy pt n f with | none => some f | some g => if pf_p s wy pt g n ≤ pf_p s wy pt f n then some g else some f) = some g := e
    split at e'
    · cases e'; omega
    · next g' hg =>
      split at e'
      · cases e'
        have := wo_lt f hg; omega
      · cases e'; omega
theorem wo_congr {s wy wy' pt pt' : Nat → Int32} {n : Nat} (e : ∀ k, k < n → wy k = wy' k) (e2 : ∀ k, k < n → pt k = pt' k) : ∀ f, wo s wy pt n f = wo s wy' pt' n f
  | 0 => rfl
  | f + 1 => by
    show (match wo s wy pt n f with | none => some f | some g => if pf_p s wy pt g n ≤ pf_p s wy pt f n then some g else some f) = (match wo s wy' pt' n f with | none => some f | some g => if pf_p s wy' pt' g n ≤ pf_p s wy' pt' f n then some g else some f)
    rw [wo_congr e e2 f]
    split
    · rfl
    · rw [pf_p_congr e e2, pf_p_congr e e2]
def bsT (c : Nat) : Int32 := if (nI c - nI c / 2 * 2) = 0 then -(nI c / 2) else nI c / 2
/-- the best shift and its points, i of them tried -/
def bs (s : Nat → Int32) : Nat → Int32 × Int32
  | 0 => (0, pS s 0 0)
  | i + 1 => if pS s (bsT (i + 2)) 0 ≤ (bs s i).2 then bs s i else (bsT (i + 2), pS s (bsT (i + 2)) 0)
theorem ms_ok_set {s : Nat → Int32} {j : Nat} {v : Int32} (hok : ms_ok s) (h : ms_se (nI j) v = 0) : ms_ok (upd s j v) := by
  obtain ⟨j', hj', e⟩ := ms_se_ok h
  obtain ⟨h5, hn, hsy, hap, hfi, ⟨hs0, hs2, hs3⟩, hsu⟩ := hok
  have hj : j < 5 ∨ ¬ j < 4294967296 := by
    by_cases z : j < 4294967296
    · left
      have e2 : (nI j).toBitVec.toNat = (nI j').toBitVec.toNat := by rw [e]
      rw [pk_tn (by omega), pk_tn (by omega)] at e2
      omega
    · exact Or.inr z
  by_cases hbig : j < 806
  · have hj5 : j < 5 := hj.resolve_right (by omega)
    have eo : ∀ i, 5 ≤ i → upd s j v i = s i := fun i hi => upd_n (by omega)
    have en : ms_n (upd s j v) = ms_n s := by unfold ms_n; rw [eo 5 (by omega)]
    have eb : ∀ k, ms_b (upd s j v) k = ms_b s k := fun k => by unfold ms_b; rw [eo _ (by omega)]
    have el : ∀ k, ms_l (upd s j v) k = ms_l s k := fun k => by unfold ms_l; rw [eo _ (by omega)]
    refine ⟨by rw [eo 5 (by omega), en]; exact h5, by rw [en]; exact hn, fun k hk => ?_, fun k hk => ?_, fun hk => ?_, ?_, fun t ht => by rw [eo _ (by omega)]; exact hsu t ht⟩
    · rw [en] at hk
      rw [eo _ (by omega), eo _ (by omega), eo _ (by omega), eb, el]
      exact hsy k hk
    · rw [en] at hk
      rw [eb, el, eb]
      exact hap k hk
    · rw [en] at hk
      rw [eo 10 (by omega)]
      exact hfi hk
    · have d0 : j = 0 ∨ j = 1 ∨ j = 2 ∨ j = 3 ∨ j = 4 := by omega
      rcases d0 with rfl | rfl | rfl | rfl | rfl
      · refine ⟨?_, by rw [upd_n (by omega)]; exact ⟨hs2, hs3⟩⟩
        rw [upd_s]
        rintro rfl
        exact absurd h (by decide)
      · exact ⟨by rw [upd_n (by omega)]; exact hs0, by rw [upd_n (by omega)]; exact ⟨hs2, hs3⟩⟩
      · refine ⟨by rw [upd_n (by omega)]; exact hs0, ?_⟩
        rw [upd_s]
        have hv : 0 ≤ v ∧ v ≤ 8 := by
          by_cases z : 0 ≤ v ∧ v ≤ 8
          · exact z
          · unfold ms_se at h
            rw [if_neg (by decide), if_neg (by decide), if_pos (by decide), if_neg z] at h
            exact absurd h (by decide)
        obtain ⟨e1, e2⟩ := nI_btw (n := 8) (by omega) hv.1 hv.2
        exact ⟨e1, e2⟩
      · exact ⟨by rw [upd_n (by omega)]; exact hs0, by rw [upd_n (by omega)]; exact ⟨hs2, hs3⟩⟩
      · exact ⟨by rw [upd_n (by omega)]; exact hs0, by rw [upd_n (by omega)]; exact ⟨hs2, hs3⟩⟩
  · exact ms_ok_congr (s := s) (fun i hi => upd_n (by omega)) ⟨h5, hn, hsy, hap, hfi, ⟨hs0, hs2, hs3⟩, hsu⟩
section MS
variable {h : xh_H} {b : Nat} {F : Nat → Int32} {V : Nat → Nat → Int32}
theorem s_sung {N : Nat} {x : Int32} : f_X2_sung N (some b) x (xm_M h b F V) = some (if 0 ≤ x ∧ x ≤ 599 then (if V 1 (206 + x.toNatClampNeg) = 0 then -5 else V 1 (206 + x.toNatClampNeg) - 1) else -2, xm_M h b F V, 0, 0) := by
  unfold f_X2_sung
  simp only [s_isTick, xc_0]
  by_cases z : 0 ≤ x ∧ x ≤ 599
  · rw [if_neg (fun q => xin_0.mp q z), if_pos z]
    obtain ⟨e1, e2⟩ := nI_btw (n := 599) (by omega) z.1 z.2
    have e3 : (206 : Int32) + x = nI (206 + x.toNatClampNeg) := by rw [← nI_add, ← e1]; rfl
    rw [e3]
    simp (disch := omega) only [xm_chk, xm_g0, xm_g1, xm_g3, xm_g5, xm_g7, xm_g8, xm_g9, xm_g10, xm_g11, xm_g12, xm_g14, xm_i2, xm_i4, xm_i6, xm_i13, xm_i15, Option.bind_some, xc_0, xm_p2, xm_p6, xm_p13, xm_p15, xm_l1]
    split <;> rfl
  · rw [if_pos (xin_0.mpr z), if_neg z]
theorem s_lit {N : Nat} {x y : Int32} (h5 : V 1 5 = nI (ms_n (V 1))) (hn : ms_n (V 1) ≤ 40) : f_X2_lit N (some b) x y (xm_M h b F V) = some (if 0 ≤ x ∧ x ≤ V 1 5 - 1 then (if 0 ≤ y ∧ y ≤ 599 then (if 0 ≤ (y - V 1 (6 + 5 * x.toNatClampNeg)) + 1 then (if (y - V 1 (6 + 5 * x.toNatClampNeg)) + 1 ≤ V 1 (6 + 5 * x.toNatClampNeg + 1) then (y - V 1 (6 + 5 * x.toNatClampNeg)) + 1 else V 1 (6 + 5 * x.toNatClampNeg + 1)) else 0) else -2) else -1, xm_M h b F V, 0, 0) := by
  unfold f_X2_lit
  simp only [xm_chk, xm_g0, xm_g1, xm_g3, xm_g5, xm_g7, xm_g8, xm_g9, xm_g10, xm_g11, xm_g12, xm_g14, xm_i2, xm_i4, xm_i6, xm_i13, xm_i15, Option.bind_some, xc_0, xm_p2, xm_p6, xm_p13, xm_p15, s_isSyllable, s_isTick]
  by_cases z : 0 ≤ x ∧ x ≤ V 1 5 - 1
  · rw [if_neg (fun q => xin_0.mp q z), if_pos z]
    obtain ⟨k, hk, rfl⟩ := (ms_isS h5 hn).mp z
    rw [nI_clamp (by omega)]
    by_cases w : 0 ≤ y ∧ y ≤ 599
    · rw [if_neg (fun q => xin_0.mp q w), if_pos w]
      simp (disch := omega) only [xm_chk, xm_g0, xm_g1, xm_g3, xm_g5, xm_g7, xm_g8, xm_g9, xm_g10, xm_g11, xm_g12, xm_g14, xm_i2, xm_i4, xm_i6, xm_i13, xm_i15, Option.bind_some, xc_0, xm_p2, xm_p6, xm_p13, xm_p15, s_of0, s_of1, Nat.add_zero]
      split
      · split <;> rfl
      · rfl
    · rw [if_pos (xin_0.mpr w), if_neg w]
  · rw [if_pos (xin_0.mpr z), if_neg z]
theorem s_wanted {N : Nat} {x : Int32} (hN : 3000 ≤ N) (h5 : V 1 5 = nI (ms_n (V 1))) (hn : ms_n (V 1) ≤ 40) : f_X2_wanted N (some b) x (xm_M h b F V) = some (if 0 ≤ x ∧ x ≤ 599 then (match ms_at (V 1) x (ms_n (V 1)) with | none => -5 | some k => ms_w (V 1) k (x - V 1 (6 + 5 * k))) else -2, xm_M h b F V, 0, 0) := by
  have hat : f_X2_syllableAt N (some b) x (xm_M h b F V) = some (oI (ms_at (V 1) x (ms_n (V 1))), xm_M h b F V, 0, 0) := by
    have key := xl_run (fun _ _ _ _ _ => none) (fun k5 => f_X2_syllableAt_b5 N k5)
      (fun i f => f (some b) x (oI (ms_at (V 1) x i)) (nI i) (xm_M h b F V))
      (some (oI (ms_at (V 1) x (ms_n (V 1))), xm_M h b F V, 0, 0)) (ms_n (V 1)) ?_ ?_ N 0 (by omega) (by omega)
    · exact key
    · intro f i hi
      show f_X2_syllableAt_b5 N f _ _ _ _ _ = _
      unfold f_X2_syllableAt_b5 f_X2_syllableAt_b40
      simp (disch := omega) only [xm_chk, xm_g0, xm_g1, xm_g3, xm_g5, xm_g7, xm_g8, xm_g9, xm_g10, xm_g11, xm_g12, xm_g14, xm_i2, xm_i4, xm_i6, xm_i13, xm_i15, Option.bind_some, xc_0, xm_p2, xm_p6, xm_p13, xm_p15, xm_l1c0, xm_l1c1, xm_l1c2, xm_l1c3, xm_l1c4, xm_l1c5, s_of0, s_of1, s_of2, s_of3, s_of4, h5, s_behind, s_in, Nat.add_zero, nI_1]
      rw [if_neg (by rw [nI_leI (by omega) (by omega)]; omega)]
      show _ = f _ _ (oI (if V 1 (6 + 5 * i) ≤ x ∧ x ≤ (V 1 (6 + 5 * i) + V 1 (6 + 5 * i + 1)) - 1 then some i else ms_at (V 1) x i)) _ _
      by_cases z : V 1 (6 + 5 * i) ≤ x ∧ x ≤ (V 1 (6 + 5 * i) + V 1 (6 + 5 * i + 1)) - 1
      · rw [if_neg (fun q => xin_0.mp q z), if_pos z]; rfl
      · rw [if_pos (xin_0.mpr z), if_neg z]
    · intro f
      show f_X2_syllableAt_b5 N f _ _ _ _ _ = _
      unfold f_X2_syllableAt_b5 f_X2_syllableAt_b47
      simp (disch := omega) only [xm_chk, xm_g0, xm_g1, xm_g3, xm_g5, xm_g7, xm_g8, xm_g9, xm_g10, xm_g11, xm_g12, xm_g14, xm_i2, xm_i4, xm_i6, xm_i13, xm_i15, Option.bind_some, xc_0, xm_p2, xm_p6, xm_p13, xm_p15, xm_l1c0, xm_l1c1, xm_l1c2, xm_l1c3, xm_l1c4, xm_l1c5, s_of0, s_of1, s_of2, s_of3, s_of4, h5]
      rw [if_pos (by rw [nI_leI (by omega) (by omega)]; omega)]
  unfold f_X2_wanted
  simp only [xm_chk, xm_g0, xm_g1, xm_g3, xm_g5, xm_g7, xm_g8, xm_g9, xm_g10, xm_g11, xm_g12, xm_g14, xm_i2, xm_i4, xm_i6, xm_i13, xm_i15, Option.bind_some, xc_0, xm_p2, xm_p6, xm_p13, xm_p15, s_isTick, hat]
  by_cases z : 0 ≤ x ∧ x ≤ 599
  · rw [if_neg (fun q => xin_0.mp q z), if_pos z]
    cases hk : ms_at (V 1) x (ms_n (V 1)) with
    | none => rfl
    | some k =>
      have := ms_at_lt _ hk
      show (if nI k = -5 then _ else _) = _
      rw [if_neg (fun q => by
        have h1 := nI_pos' (n := k) (by omega)
        rw [q] at h1
        exact absurd h1 (by decide))]
      show xh_cal (f_X2_of N (some b) (nI k) 0 _) _ = _
      rw [s_of0 (by omega), xc_0]
      simp only [xm_chk, xm_g0, xm_g1, xm_g3, xm_g5, xm_g7, xm_g8, xm_g9, xm_g10, xm_g11, xm_g12, xm_g14, xm_i2, xm_i4, xm_i6, xm_i13, xm_i15, Option.bind_some, xc_0, xm_p2, xm_p6, xm_p13, xm_p15]
      rw [show oI (some k) = nI k from rfl, s_wantedIn (by omega), xc_0, Nat.add_zero]
  · rw [if_pos (xin_0.mpr z), if_neg z]
theorem s_allz {N : Nat} {tk by_ : Int32} (hN : 3000 ≤ N) (hok : ms_ok (V 1)) : f_X2_allPoints N (some b) (xm_M h b F (jg V tk by_)) = some (pS (V 1) tk by_, xm_M h b F (jg V tk by_), 0, 0) := by
  have e1 : jg V tk by_ 1 = V 1 := jg_o (by omega)
  rw [s_allPoints hN (by rw [e1]; exact hok), e1]
  unfold pS
  rw [pf_all_congr (fun k hk => jg_i (by omega) hk) (fun k hk => jg_i (by omega) hk)]
  rfl
theorem s_pointsShifted {N : Nat} {tk by_ : Int32} (hN : 3000 ≤ N) (hok : ms_ok (V 1)) (ht : ∀ t, 600 ≤ t → V 5 t = 0) : f_X2_pointsShifted N (some b) tk by_ (xm_M h b F V) = some (pS (V 1) tk by_, xm_M h b F (jg V tk by_), 0, 0) := by
  unfold f_X2_pointsShifted
  simp only [xm_chk, xm_g0, xm_g1, xm_g3, xm_g5, xm_g7, xm_g8, xm_g9, xm_g10, xm_g11, xm_g12, xm_g14, xm_i2, xm_i4, xm_i6, xm_i13, xm_i15, Option.bind_some, xc_0, xm_p2, xm_p6, xm_p13, xm_p15, s_hearz hN ht, s_jz hN hok, s_allz hN hok]
theorem s_ifShifted {N : Nat} {tk by_ : Int32} (hN : 3000 ≤ N) (hok : ms_ok (V 1)) (ht : ∀ t, 600 ≤ t → V 5 t = 0) : f_X2_ifShifted N (some b) tk by_ (xm_M h b F V) = some (if (-32 ≤ tk ∧ tk ≤ 32) ∧ (-60 ≤ by_ ∧ by_ ≤ 60) then (pS (V 1) tk by_, xm_M h b F (jg V tk by_), 0, 0) else (-2, xm_M h b F V, 0, 0)) := by
  unfold f_X2_ifShifted f_X2_ifShifted_b31
  simp only [xm_chk, xm_g0, xm_g1, xm_g3, xm_g5, xm_g7, xm_g8, xm_g9, xm_g10, xm_g11, xm_g12, xm_g14, xm_i2, xm_i4, xm_i6, xm_i13, xm_i15, Option.bind_some, xc_0, xm_p2, xm_p6, xm_p13, xm_p15, s_in, s_pointsShifted hN hok ht]
  by_cases h1 : -32 ≤ tk ∧ tk ≤ 32
  · rw [if_neg (fun q => xin_0.mp q h1)]
    by_cases h2 : -60 ≤ by_ ∧ by_ ≤ 60
    · rw [if_neg (fun q => xin_0.mp q h2), if_pos ⟨h1, h2⟩]
    · rw [if_pos (xin_0.mpr h2), if_neg (fun q => h2 q.2)]
  · rw [if_pos (xin_0.mpr h1), if_neg (fun q => h1 q.1)]
theorem s_ifSet {N : Nat} {a v : Int32} (hN : 3000 ≤ N) (hok : ms_ok (V 1)) (ht : ∀ t, 600 ≤ t → V 5 t = 0) : ∃ V', f_X2_ifSet N (some b) a v (xm_M h b F V) = some (if ms_se a v = 0 then pS (upd (V 1) a.toNatClampNeg v) 0 0 else ms_se a v, xm_M h b F V', 0, 0) ∧ (∀ j, j < 5 ∨ 10 < j → V' j = V j) ∧ ∀ t, 600 ≤ t → V' 5 t = 0 := by
  unfold f_X2_ifSet
  simp only [xm_chk, xm_g0, xm_g1, xm_g3, xm_g5, xm_g7, xm_g8, xm_g9, xm_g10, xm_g11, xm_g12, xm_g14, xm_i2, xm_i4, xm_i6, xm_i13, xm_i15, Option.bind_some, xc_0, xm_p2, xm_p6, xm_p13, xm_p15, s_settingError]
  by_cases z : ms_se a v = 0
  · obtain ⟨j, hj, rfl⟩ := ms_se_ok z
    rw [z, if_pos (by decide), if_pos rfl, nI_clamp (by omega)]
    have hok' := ms_ok_set hok z
    simp (disch := omega) only [xm_chk, xm_g0, xm_g1, xm_g3, xm_g5, xm_g7, xm_g8, xm_g9, xm_g10, xm_g11, xm_g12, xm_g14, xm_i2, xm_i4, xm_i6, xm_i13, xm_i15, Option.bind_some, xc_0, xm_p2, xm_p6, xm_p13, xm_p15, xm_l1, xm_s1]
    rw [s_pointsShifted hN (by rw [xm_sVs]; exact hok') (by rw [xm_sVn (by omega)]; exact ht), xc_0]
    simp (disch := omega) only [xm_chk, xm_g0, xm_g1, xm_g3, xm_g5, xm_g7, xm_g8, xm_g9, xm_g10, xm_g11, xm_g12, xm_g14, xm_i2, xm_i4, xm_i6, xm_i13, xm_i15, Option.bind_some, xc_0, xm_p2, xm_p6, xm_p13, xm_p15, xm_s1, xm_sVs]
    refine ⟨_, rfl, fun i hi => ?_, fun t htt => ?_⟩
    · by_cases i1 : i = 1
      · subst i1
        rw [xm_sVs, jg_o (by omega), xm_sVs, upd_u]
        funext i
        by_cases q : i = j
        · subst q; rw [upd_s]
        · rw [upd_n q]
      · rw [xm_sVn i1, jg_o hi, xm_sVn i1]
    · rw [xm_sVn (by omega)]
      exact jg_tail t htt
  · rw [if_neg z, if_neg (fun q => by
      rcases (ms_se_c a v).resolve_left z with y | y
      · rw [y] at q; exact absurd q (by decide)
      · rw [y] at q; exact absurd q (by decide))]
    exact ⟨V, rfl, fun _ _ => rfl, ht⟩
theorem s_syllable {N : Nat} {x w : Int32} (hN : 3000 ≤ N) (hok : ms_ok (V 1)) (ht : ∀ t, 600 ≤ t → V 5 t = 0) : f_X2_syllable N (some b) x w (xm_M h b F V) = some (if 0 ≤ x ∧ x ≤ V 1 5 - 1 then (sy_r (V 1) x.toNatClampNeg w, xm_M h b F (jg V 0 0), 0, 0) else (-1, xm_M h b F V, 0, 0)) := by
  obtain ⟨h5, hn, hsy, hap, hfi, ⟨hs0, -⟩, -⟩ := id hok
  unfold f_X2_syllable f_X2_syllable_b76
  simp only [xm_chk, xm_g0, xm_g1, xm_g3, xm_g5, xm_g7, xm_g8, xm_g9, xm_g10, xm_g11, xm_g12, xm_g14, xm_i2, xm_i4, xm_i6, xm_i13, xm_i15, Option.bind_some, xc_0, xm_p2, xm_p6, xm_p13, xm_p15, s_isSyllable, s_jsz hN hok ht]
  by_cases z : 0 ≤ x ∧ x ≤ V 1 5 - 1
  · rw [if_neg (fun q => xin_0.mp q z), if_pos z]
    obtain ⟨k, hk, rfl⟩ := (ms_isS h5 hn).mp z
    obtain ⟨hb, hl, hl1, hl2, hbl, -⟩ := hsy k hk
    rw [nI_clamp (by omega)]
    have e1 : jg V 0 0 1 = V 1 := jg_o (by omega)
    have e6 : jg V 0 0 6 k = mj_mt (V 1) (ms_hdz (V 1) 0 0) k := jg_i (by omega) hk
    have e7 : jg V 0 0 7 k = mj_on (V 1) (ms_hdz (V 1) 0 0) k := jg_i (by omega) hk
    have e8 : jg V 0 0 8 k = mj_why (V 1) (ms_hdz (V 1) 0 0) k := jg_i (by omega) hk
    have e9 : jg V 0 0 9 k = mj_row (V 1) (ms_hdz (V 1) 0 0) k := jg_i (by omega) hk
    have e10 : jg V 0 0 10 k = mj_pts (V 1) (ms_hdz (V 1) 0 0) k := jg_i (by omega) hk
    have hsh := s_share (h := h) (b := b) (F := F) (V := jg V 0 0) (N := N) (show k < 40 by omega) (by rw [e1, hl]; exact nI_ne0 (by omega) (by omega))
    have hph := s_phraseOf (h := h) (b := b) (F := F) (V := jg V 0 0) (N := N) (k := k) hN (by rw [e1]; exact hk) (by rw [e1]; exact hok)
    have hbr := s_bars (h := h) (b := b) (F := F) (V := jg V 0 0) (sel := false) hN (show k < 155 by omega) (by rw [e1]; exact hb) (by rw [e1]; exact hl) hbl hl1 (by rw [e1]; exact hs0)
    rw [show xb01 false = (0 : Int32) from rfl, e1] at hbr
    rw [e1] at hsh hph
    unfold sy_r
    rw [ms_bar_f (hd := fun _ => 0) (hd' := jg V 0 0 5)]
    by_cases w0 : w = 0
    · subst w0; rw [if_pos rfl, if_pos rfl, s_of0 (by omega), xc_0, e1]; rfl
    rw [if_neg w0, if_neg w0]
    by_cases w1 : w = 1
    · subst w1; rw [if_pos rfl, if_pos rfl, s_of1 (by omega), xc_0, e1]
    rw [if_neg w1, if_neg w1]
    by_cases w2 : w = 2
    · subst w2; rw [if_pos rfl, if_pos rfl, s_of2 (by omega), xc_0, e1]
    rw [if_neg w2, if_neg w2]
    by_cases w3 : w = 3
    · subst w3; rw [if_pos rfl, if_pos rfl, s_of3 (by omega), xc_0, e1]
    rw [if_neg w3, if_neg w3]
    by_cases w4 : w = 4
    · rw [if_pos w4, if_pos w4]
      simp (disch := omega) only [xm_chk, xm_g0, xm_g1, xm_g3, xm_g5, xm_g7, xm_g8, xm_g9, xm_g10, xm_g11, xm_g12, xm_g14, xm_i2, xm_i4, xm_i6, xm_i13, xm_i15, Option.bind_some, xc_0, xm_p2, xm_p6, xm_p13, xm_p15, hsh, hph, hbr, xm_l6, xm_l7, xm_l8, xm_l9, xm_l10, e6, e7, e8, e9, e10]
    rw [if_neg w4, if_neg w4]
    by_cases w5 : w = 5
    · rw [if_pos w5, if_pos w5]
      simp (disch := omega) only [xm_chk, xm_g0, xm_g1, xm_g3, xm_g5, xm_g7, xm_g8, xm_g9, xm_g10, xm_g11, xm_g12, xm_g14, xm_i2, xm_i4, xm_i6, xm_i13, xm_i15, Option.bind_some, xc_0, xm_p2, xm_p6, xm_p13, xm_p15, hsh, hph, hbr, xm_l6, xm_l7, xm_l8, xm_l9, xm_l10, e6, e7, e8, e9, e10]
    rw [if_neg w5, if_neg w5]
    by_cases w6 : w = 6
    · rw [if_pos w6, if_pos w6]
      simp (disch := omega) only [xm_chk, xm_g0, xm_g1, xm_g3, xm_g5, xm_g7, xm_g8, xm_g9, xm_g10, xm_g11, xm_g12, xm_g14, xm_i2, xm_i4, xm_i6, xm_i13, xm_i15, Option.bind_some, xc_0, xm_p2, xm_p6, xm_p13, xm_p15, hsh, hph, hbr, xm_l6, xm_l7, xm_l8, xm_l9, xm_l10, e6, e7, e8, e9, e10]
    rw [if_neg w6, if_neg w6]
    by_cases w7 : w = 7
    · rw [if_pos w7, if_pos w7]
      simp (disch := omega) only [xm_chk, xm_g0, xm_g1, xm_g3, xm_g5, xm_g7, xm_g8, xm_g9, xm_g10, xm_g11, xm_g12, xm_g14, xm_i2, xm_i4, xm_i6, xm_i13, xm_i15, Option.bind_some, xc_0, xm_p2, xm_p6, xm_p13, xm_p15, hsh, hph, hbr, xm_l6, xm_l7, xm_l8, xm_l9, xm_l10, e6, e7, e8, e9, e10]
    rw [if_neg w7, if_neg w7]
    by_cases w8 : w = 8
    · rw [if_pos w8, if_pos w8]
      simp (disch := omega) only [xm_chk, xm_g0, xm_g1, xm_g3, xm_g5, xm_g7, xm_g8, xm_g9, xm_g10, xm_g11, xm_g12, xm_g14, xm_i2, xm_i4, xm_i6, xm_i13, xm_i15, Option.bind_some, xc_0, xm_p2, xm_p6, xm_p13, xm_p15, hsh, hph, hbr, xm_l6, xm_l7, xm_l8, xm_l9, xm_l10, e6, e7, e8, e9, e10]
    rw [if_neg w8, if_neg w8]
    by_cases w9 : w = 9
    · rw [if_pos w9, if_pos w9]
      simp (disch := omega) only [xm_chk, xm_g0, xm_g1, xm_g3, xm_g5, xm_g7, xm_g8, xm_g9, xm_g10, xm_g11, xm_g12, xm_g14, xm_i2, xm_i4, xm_i6, xm_i13, xm_i15, Option.bind_some, xc_0, xm_p2, xm_p6, xm_p13, xm_p15, hsh, hph, hbr, xm_l6, xm_l7, xm_l8, xm_l9, xm_l10, e6, e7, e8, e9, e10]
    rw [if_neg w9, if_neg w9]
    by_cases w10 : w = 10
    · rw [if_pos w10, if_pos w10]
      simp (disch := omega) only [xm_chk, xm_g0, xm_g1, xm_g3, xm_g5, xm_g7, xm_g8, xm_g9, xm_g10, xm_g11, xm_g12, xm_g14, xm_i2, xm_i4, xm_i6, xm_i13, xm_i15, Option.bind_some, xc_0, xm_p2, xm_p6, xm_p13, xm_p15, hsh, hph, hbr, xm_l6, xm_l7, xm_l8, xm_l9, xm_l10, e6, e7, e8, e9, e10]
    rw [if_neg w10, if_neg w10]
    by_cases w11 : w = 11
    · rw [if_pos w11, if_pos w11]
      simp (disch := omega) only [xm_chk, xm_g0, xm_g1, xm_g3, xm_g5, xm_g7, xm_g8, xm_g9, xm_g10, xm_g11, xm_g12, xm_g14, xm_i2, xm_i4, xm_i6, xm_i13, xm_i15, Option.bind_some, xc_0, xm_p2, xm_p6, xm_p13, xm_p15, xm_l9, e9]
    · rw [if_neg w11, if_neg w11]
  · rw [if_pos (xin_0.mpr z), if_neg z]
/-- a phrase of the song -/
theorem ms_isP {s : Nat → Int32} {x : Int32} (hn : ms_n s ≤ 40) : (0 ≤ x ∧ x ≤ nI (ms_phs s) - 1) ↔ ∃ f, f < ms_phs s ∧ x = nI f := by
  have hp := ms_phs_le (s := s)
  constructor
  · intro ⟨h1, h2⟩
    by_cases z : ms_phs s = 0
    · rw [z] at h2
      exact absurd (Int32.le_trans h1 h2) (by decide)
    · rw [xl_1, pk_sub (by omega)] at h2
      obtain ⟨e1, e2⟩ := nI_btw (by omega) h1 h2
      exact ⟨_, by omega, e1⟩
  · rintro ⟨k, hk, rfl⟩
    rw [xl_1, pk_sub (by omega), nI_leI (by omega) (by omega)]
    exact ⟨nI_pos' (by omega), by omega⟩
def ph_r (s : Nat → Int32) (f : Nat) (w : Int32) : Int32 := pf_r s (mj_why s (ms_hdz s 0 0)) (mj_pts s (ms_hdz s 0 0)) f (ms_n s) w
theorem s_phrase {N : Nat} {x w : Int32} (hN : 3000 ≤ N) (hok : ms_ok (V 1)) (ht : ∀ t, 600 ≤ t → V 5 t = 0) : f_X2_phrase N (some b) x w (xm_M h b F V) = some (if 0 ≤ x ∧ x ≤ nI (ms_phs (V 1)) - 1 then (if 0 ≤ w ∧ w ≤ 4 then (ph_r (V 1) x.toNatClampNeg w, xm_M h b F (jg V 0 0), 0, 0) else (-2, xm_M h b F V, 0, 0)) else (-1, xm_M h b F V, 0, 0)) := by
  obtain ⟨h5, hn, -⟩ := id hok
  unfold f_X2_phrase
  simp only [xm_chk, xm_g0, xm_g1, xm_g3, xm_g5, xm_g7, xm_g8, xm_g9, xm_g10, xm_g11, xm_g12, xm_g14, xm_i2, xm_i4, xm_i6, xm_i13, xm_i15, Option.bind_some, xc_0, xm_p2, xm_p6, xm_p13, xm_p15, s_phrases hN hok, s_in, s_jsz hN hok ht]
  by_cases z : 0 ≤ x ∧ x ≤ nI (ms_phs (V 1)) - 1
  · rw [if_neg (fun q => xin_0.mp q z), if_pos z]
    obtain ⟨f, hf, rfl⟩ := (ms_isP hn).mp z
    have hp := ms_phs_le (s := V 1)
    rw [nI_clamp (by omega)]
    by_cases y : 0 ≤ w ∧ w ≤ 4
    · rw [if_neg (fun q => xin_0.mp q y), if_pos y]
      have e1 : jg V 0 0 1 = V 1 := jg_o (by omega)
      rw [s_ofPhrase hN (by omega) (by rw [e1]; exact hok), xc_0, e1]
      unfold ph_r
      rw [pf_r_congr (fun k hk => jg_i (by omega) hk) (fun k hk => jg_i (by omega) hk)]
      rfl
    · rw [if_pos (xin_0.mpr y), if_neg y]
  · rw [if_pos (xin_0.mpr z), if_neg z]
theorem s_total {N : Nat} {w : Int32} (hN : 3000 ≤ N) (hok : ms_ok (V 1)) (ht : ∀ t, 600 ≤ t → V 5 t = 0) : f_X2_total N (some b) w (xm_M h b F V) = some (to_r (V 1) F w, xm_M h b F (jg V 0 0), 0, 0) := by
  obtain ⟨h5, hn, -⟩ := id hok
  have e1 : jg V 0 0 1 = V 1 := jg_o (by omega)
  have hph := s_phrases (h := h) (b := b) (F := F) (V := jg V 0 0) hN (by rw [e1]; exact hok)
  have hen := s_endOfSong (h := h) (b := b) (F := F) (V := jg V 0 0) (N := N) (by rw [e1]; exact h5) (by rw [e1]; omega)
  have hmo := s_mostPoints (h := h) (b := b) (F := F) (V := jg V 0 0) hN (by rw [e1]; exact hok)
  rw [e1] at hph hen hmo
  have hst := s_sungTicks (h := h) (b := b) (F := F) (V := jg V 0 0) hN
  have hon := s_onsets (h := h) (b := b) (F := F) (V := jg V 0 0) hN
  rw [jg_5] at hst hon
  unfold f_X2_total to_r
  simp only [xm_chk, xm_g0, xm_g1, xm_g3, xm_g5, xm_g7, xm_g8, xm_g9, xm_g10, xm_g11, xm_g12, xm_g14, xm_i2, xm_i4, xm_i6, xm_i13, xm_i15, Option.bind_some, xc_0, xm_p2, xm_p6, xm_p13, xm_p15, s_jsz hN hok ht, hph, hen, hst, hon, s_hitsz hN hok, s_allz hN hok, hmo, s_in]
  by_cases w6 : w = 6
  · rw [if_pos w6, if_pos w6]
  rw [if_neg w6, if_neg w6]
  by_cases w7 : w = 7
  · rw [if_pos w7, if_pos w7]
  rw [if_neg w7, if_neg w7]
  by_cases w8 : w = 8
  · rw [if_pos w8, if_pos w8]
  rw [if_neg w8, if_neg w8]
  by_cases w9 : w = 9
  · rw [if_pos w9, if_pos w9]
  rw [if_neg w9, if_neg w9]
  by_cases w10 : w = 10
  · rw [if_pos w10, if_pos w10]
  rw [if_neg w10, if_neg w10]
  by_cases w11 : w = 11
  · rw [if_pos w11, if_pos w11]
  rw [if_neg w11, if_neg w11]
  by_cases w12 : w = 12
  · rw [if_pos w12, if_pos w12]
  rw [if_neg w12, if_neg w12]
  by_cases w13 : w = 13
  · rw [if_pos w13, if_pos w13]
  rw [if_neg w13, if_neg w13]
  by_cases w14 : w = 14
  · rw [if_pos w14, if_pos w14]
  rw [if_neg w14, if_neg w14]
  by_cases z : 0 ≤ w ∧ w ≤ 5
  · rw [if_neg (fun q => xin_0.mp q z), if_pos z]
    obtain ⟨e2, e3⟩ := nI_btw (n := 5) (by omega) z.1 z.2
    have e4 := xm_l1 (h := h) (b := b) (F := F) (V := jg V 0 0) (i := w.toNatClampNeg) (by omega)
    rw [← e2, e1] at e4
    rw [e4, Option.bind_some]
  · rw [if_pos (xin_0.mpr z), if_neg z]
theorem s_worst {N : Nat} (hN : 3000 ≤ N) (hok : ms_ok (V 1)) (ht : ∀ t, 600 ≤ t → V 5 t = 0) : f_X2_worst N (some b) (xm_M h b F V) = some (oI (wo (V 1) (mj_why (V 1) (ms_hdz (V 1) 0 0)) (mj_pts (V 1) (ms_hdz (V 1) 0 0)) (ms_n (V 1)) (ms_phs (V 1))), xm_M h b F (jg V 0 0), 0, 0) := by
  obtain ⟨h5, hn, -⟩ := id hok
  have e1 : jg V 0 0 1 = V 1 := jg_o (by omega)
  have hph := s_phrases (h := h) (b := b) (F := F) (V := jg V 0 0) hN (by rw [e1]; exact hok)
  rw [e1] at hph
  have hp := ms_phs_le (s := V 1)
  have hof : ∀ f, f < 100 → f_X2_ofPhrase N (some b) (nI f) 3 (xm_M h b F (jg V 0 0)) = some (pf_p (V 1) (jg V 0 0 8) (jg V 0 0 10) f (ms_n (V 1)), xm_M h b F (jg V 0 0), 0, 0) := fun f hf => by
    rw [s_ofPhrase hN (by omega) (by rw [e1]; exact hok), e1]
    rfl
  have hwo : wo (V 1) (mj_why (V 1) (ms_hdz (V 1) 0 0)) (mj_pts (V 1) (ms_hdz (V 1) 0 0)) (ms_n (V 1)) (ms_phs (V 1)) = wo (V 1) (jg V 0 0 8) (jg V 0 0 10) (ms_n (V 1)) (ms_phs (V 1)) :=
    wo_congr (fun k hk => (jg_i (V := V) (tk := 0) (by_ := 0) (j := 8) (by omega) hk).symm) (fun k hk => (jg_i (V := V) (tk := 0) (by_ := 0) (j := 10) (by omega) hk).symm) _
  unfold f_X2_worst
  simp only [xm_chk, xm_g0, xm_g1, xm_g3, xm_g5, xm_g7, xm_g8, xm_g9, xm_g10, xm_g11, xm_g12, xm_g14, xm_i2, xm_i4, xm_i6, xm_i13, xm_i15, Option.bind_some, xc_0, xm_p2, xm_p6, xm_p13, xm_p15, s_jsz hN hok ht]
  rw [hwo]
  have key := xl_run (fun _ _ _ _ => none) (fun k9 => f_X2_worst_b9 N k9)
    (fun i f => f (some b) (oI (wo (V 1) (jg V 0 0 8) (jg V 0 0 10) (ms_n (V 1)) i)) (nI i) (xm_M h b F (jg V 0 0)))
    (some (oI (wo (V 1) (jg V 0 0 8) (jg V 0 0 10) (ms_n (V 1)) (ms_phs (V 1))), xm_M h b F (jg V 0 0), 0, 0)) (ms_phs (V 1)) ?_ ?_ N 0 (by omega) (by omega)
  · exact key
  · intro f i hi
    show f_X2_worst_b9 N f _ _ _ _ = _
    unfold f_X2_worst_b9 f_X2_worst_b38 f_X2_worst_b43
    simp (disch := omega) only [xm_chk, xm_g0, xm_g1, xm_g3, xm_g5, xm_g7, xm_g8, xm_g9, xm_g10, xm_g11, xm_g12, xm_g14, xm_i2, xm_i4, xm_i6, xm_i13, xm_i15, Option.bind_some, xc_0, xm_p2, xm_p6, xm_p13, xm_p15, hph, hof, nI_1]
    rw [if_neg (by rw [nI_leI (by omega) (by omega)]; omega)]
    show _ = f _ (oI (match wo (V 1) (jg V 0 0 8) (jg V 0 0 10) (ms_n (V 1)) i with | none => some i | some g => if pf_p (V 1) (jg V 0 0 8) (jg V 0 0 10) g (ms_n (V 1)) ≤ pf_p (V 1) (jg V 0 0 8) (jg V 0 0 10) i (ms_n (V 1)) then some g else some i)) _ _
    cases hw : wo (V 1) (jg V 0 0 8) (jg V 0 0 10) (ms_n (V 1)) i with
    | none => rfl
    | some g =>
      have hg := wo_lt _ hw
      show (if nI g = -5 then _ else _) = _
      rw [if_neg (fun q => by
        have h1 := nI_pos' (n := g) (by omega)
        rw [q] at h1
        exact absurd h1 (by decide))]
      show xh_cal (f_X2_ofPhrase N (some b) (nI g) 3 _) _ = _
      rw [hof g (by omega), xc_0]
      by_cases z : pf_p (V 1) (jg V 0 0 8) (jg V 0 0 10) g (ms_n (V 1)) ≤ pf_p (V 1) (jg V 0 0 8) (jg V 0 0 10) i (ms_n (V 1))
      · rw [if_pos z]
        simp only [if_pos z]
      · rw [if_neg z]
        simp only [if_neg z]
        rfl
  · intro f
    show f_X2_worst_b9 N f _ _ _ _ = _
    unfold f_X2_worst_b9 f_X2_worst_b50
    simp (disch := omega) only [xm_chk, xm_g0, xm_g1, xm_g3, xm_g5, xm_g7, xm_g8, xm_g9, xm_g10, xm_g11, xm_g12, xm_g14, xm_i2, xm_i4, xm_i6, xm_i13, xm_i15, Option.bind_some, xc_0, xm_p2, xm_p6, xm_p13, xm_p15, hph]
    rw [if_pos (by rw [nI_leI (by omega) (by omega)]; omega)]
theorem s_bestShift {N : Nat} (hN : 3000 ≤ N) (hok : ms_ok (V 1)) (ht : ∀ t, 600 ≤ t → V 5 t = 0) : ∃ V', f_X2_bestShift N (some b) (xm_M h b F V) = some ((bs (V 1) 64).1 + 32, xm_M h b F V', 0, 0) ∧ (∀ j, j < 5 ∨ 10 < j → V' j = V j) ∧ ∀ t, 600 ≤ t → V' 5 t = 0 := by
  have key : ∀ m i n (W : Nat → Nat → Int32), i + m = 64 → m < n → (∀ j, j < 5 ∨ 10 < j → W j = V j) → (∀ t, 600 ≤ t → W 5 t = 0) → ∃ V', xh_loop (fun _ _ _ _ _ => none) (fun k11 => f_X2_bestShift_b11 N k11) n (some b) (bs (V 1) i).1 (bs (V 1) i).2 (nI (i + 2)) (xm_M h b F W) = some ((bs (V 1) 64).1 + 32, xm_M h b F V', 0, 0) ∧ (∀ j, j < 5 ∨ 10 < j → V' j = V j) ∧ ∀ t, 600 ≤ t → V' 5 t = 0 := by
    intro m
    induction m with
    | zero =>
      intro i n W h1 h2 h3 h4
      obtain ⟨n, rfl⟩ : ∃ j, n = j + 1 := ⟨n - 1, by omega⟩
      have hi : i = 64 := by omega
      subst hi
      refine ⟨W, ?_, h3, h4⟩
      show f_X2_bestShift_b11 N _ _ _ _ _ _ = _
      unfold f_X2_bestShift_b11 f_X2_bestShift_b76
      rw [if_pos (by decide)]
    | succ m ih =>
      intro i n W h1 h2 h3 h4
      obtain ⟨n, rfl⟩ : ∃ j, n = j + 1 := ⟨n - 1, by omega⟩
      have w1 : W 1 = V 1 := h3 1 (by omega)
      have hps : ∀ tk, f_X2_pointsShifted N (some b) tk 0 (xm_M h b F W) = some (pS (V 1) tk 0, xm_M h b F (jg W tk 0), 0, 0) := fun tk => by
        rw [s_pointsShifted hN (by rw [w1]; exact hok) h4, w1]
      have ih2 := ih (i + 1) n (jg W (bsT (i + 2)) 0) (by omega) (by omega) (fun j hj => by rw [jg_o hj]; exact h3 j hj) jg_tail
      show ∃ V', f_X2_bestShift_b11 N (xh_loop (fun _ _ _ _ _ => none) (fun k11 => f_X2_bestShift_b11 N k11) n) _ _ _ _ _ = _ ∧ _
      generalize xh_loop (fun _ _ _ _ _ => none) (fun k11 => f_X2_bestShift_b11 N k11) n = kk at ih2 ⊢
      have h33 : f_X2_bestShift_b33 N kk (some b) (bs (V 1) i).1 (bs (V 1) i).2 (nI (i + 2)) (bsT (i + 2)) (xm_M h b F W) = kk (some b) (bs (V 1) (i + 1)).1 (bs (V 1) (i + 1)).2 (nI (i + 1 + 2)) (xm_M h b F (jg W (bsT (i + 2)) 0)) := by
        unfold f_X2_bestShift_b33 f_X2_bestShift_b56 f_X2_bestShift_b69
        simp only [xm_chk, xm_g0, xm_g1, xm_g3, xm_g5, xm_g7, xm_g8, xm_g9, xm_g10, xm_g11, xm_g12, xm_g14, xm_i2, xm_i4, xm_i6, xm_i13, xm_i15, Option.bind_some, xc_0, xm_p2, xm_p6, xm_p13, xm_p15, hps, nI_1]
        have e : bs (V 1) (i + 1) = if pS (V 1) (bsT (i + 2)) 0 ≤ (bs (V 1) i).2 then bs (V 1) i else (bsT (i + 2), pS (V 1) (bsT (i + 2)) 0) := rfl
        rw [e]
        by_cases z : pS (V 1) (bsT (i + 2)) 0 ≤ (bs (V 1) i).2
        · rw [if_pos z, if_pos z, if_pos z]
        · rw [if_neg z, if_neg z, if_neg z]
      obtain ⟨V', e1, e2, e3⟩ := ih2
      refine ⟨V', ?_, e2, e3⟩
      unfold f_X2_bestShift_b11
      rw [if_neg (by rw [xl_66, nI_leI (by omega) (by omega)]; omega)]
      by_cases z : (nI (i + 2) - nI (i + 2) / 2 * 2) = 0
      · have eT : bsT (i + 2) = -(nI (i + 2) / 2) := if_pos z
        rw [if_pos z, ← eT, h33]
        exact e1
      · have eT : bsT (i + 2) = nI (i + 2) / 2 := if_neg z
        rw [if_neg z, ← eT, h33]
        exact e1
  obtain ⟨V', e1, e2, e3⟩ := key 64 0 N (jg V 0 0) (by omega) (by omega) (fun j hj => jg_o hj) jg_tail
  refine ⟨V', ?_, e2, e3⟩
  unfold f_X2_bestShift
  simp only [xm_chk, xm_g0, xm_g1, xm_g3, xm_g5, xm_g7, xm_g8, xm_g9, xm_g10, xm_g11, xm_g12, xm_g14, xm_i2, xm_i4, xm_i6, xm_i13, xm_i15, Option.bind_some, xc_0, xm_p2, xm_p6, xm_p13, xm_p15, s_pointsShifted hN hok ht]
  exact e1
end MS
