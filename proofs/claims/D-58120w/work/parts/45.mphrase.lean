/-! THE MODEL's METHODS: hits, phrases, sums -/
set_option maxRecDepth 100000
def ms_fst (s : Nat → Int32) (i : Nat) : Bool := decide (s (6 + 5 * i + 4) = 1)
/-- the phrase of a syllable -/
def ms_ph (s : Nat → Int32) (k : Nat) : Nat := ms_cnt (ms_fst s) 0 (k + 1) - 1
def ms_phs (s : Nat → Int32) : Nat := if ms_n s = 0 then 0 else ms_ph s (ms_n s - 1) + 1
theorem ms_cnt_mono (p : Nat → Bool) (a : Nat) : ∀ n m, n ≤ m → ms_cnt p a n ≤ ms_cnt p a m
  | n, 0, h => by rw [Nat.le_zero.mp h]; exact Nat.le_refl _
  | n, m + 1, h => by
    by_cases e : n = m + 1
    · rw [e]; exact Nat.le_refl _
    · have := ms_cnt_mono p a n m (by omega)
      show _ ≤ ms_cnt p a m + _
      omega
theorem ms_fst_pos {s : Nat → Int32} (h : s 10 = 1) (k : Nat) : 1 ≤ ms_cnt (ms_fst s) 0 (k + 1) := by
  have h1 : ms_cnt (ms_fst s) 0 1 = 1 := by
    show 0 + (if ms_fst s (0 + 0) then 1 else 0) = 1
    rw [show ms_fst s (0 + 0) = true from decide_eq_true h]
    rfl
  rw [← h1]
  exact ms_cnt_mono _ _ _ _ (by omega)
theorem ms_ph_le {s : Nat → Int32} (k : Nat) : ms_ph s k ≤ k := by
  have := ms_cnt_le (ms_fst s) 0 (k + 1)
  unfold ms_ph
  omega
theorem ms_phs_le {s : Nat → Int32} : ms_phs s ≤ ms_n s := by
  unfold ms_phs
  split
  · omega
  · have := ms_ph_le (s := s) (ms_n s - 1)
    omega
def pf_f (s : Nat → Int32) (f : Nat) : Nat → Int32
  | 0 => -5
  | k + 1 => if ms_ph s k = f then (if pf_f s f k = -5 then nI k else pf_f s f k) else pf_f s f k
def pf_m (s : Nat → Int32) (f n : Nat) : Nat := ms_cnt (fun k => decide (ms_ph s k = f)) 0 n
def pf_h (s wy : Nat → Int32) (f n : Nat) : Nat := ms_cnt (fun k => decide (ms_ph s k = f) && decide (wy k = 0)) 0 n
def pf_s (s pt : Nat → Int32) (f : Nat) : Nat → Int32
  | 0 => 0
  | k + 1 => if ms_ph s k = f then pf_s s pt f k + pt k else pf_s s pt f k
def pf_n (s wy : Nat → Int32) (f : Nat) : Nat → Nat
  | 0 => 0
  | k + 1 => if ms_ph s k = f then (if wy k = 0 then pf_n s wy f k + 1 else 0) else pf_n s wy f k
def pf_l (s wy : Nat → Int32) (f : Nat) : Nat → Nat
  | 0 => 0
  | k + 1 => if ms_ph s k = f then max (pf_l s wy f k) (pf_n s wy f (k + 1)) else pf_l s wy f k
def pf_p (s wy pt : Nat → Int32) (f n : Nat) : Int32 := pf_s s pt f n + (if pf_m s f n ≤ 1 then 0 else if pf_h s wy f n = pf_m s f n then 50 else 0)
def pf_r (s wy pt : Nat → Int32) (f n : Nat) (w : Int32) : Int32 := if w = 0 then pf_f s f n else if w = 1 then nI (pf_m s f n) else if w = 2 then nI (pf_h s wy f n) else if w = 3 then pf_p s wy pt f n else nI (pf_l s wy f n)
def pf_all (s wy pt : Nat → Int32) (n : Nat) : Nat → Int32
  | 0 => 0
  | f + 1 => pf_all s wy pt n f + pf_p s wy pt f n
theorem pf_n_le {s wy : Nat → Int32} {f : Nat} : ∀ k, pf_n s wy f k ≤ k
  | 0 => Nat.le_refl 0
  | k + 1 => by
    have := pf_n_le (s := s) (wy := wy) (f := f) k
    show (if ms_ph s k = f then (if wy k = 0 then pf_n s wy f k + 1 else 0) else pf_n s wy f k) ≤ k + 1
    split
    · split <;> omega
    · omega
theorem pf_l_le {s wy : Nat → Int32} {f : Nat} : ∀ k, pf_l s wy f k ≤ k
  | 0 => Nat.le_refl 0
  | k + 1 => by
    have := pf_l_le (s := s) (wy := wy) (f := f) k
    have := pf_n_le (s := s) (wy := wy) (f := f) (k + 1)
    show (if ms_ph s k = f then max (pf_l s wy f k) (pf_n s wy f (k + 1)) else pf_l s wy f k) ≤ k + 1
    split <;> omega
section MS
variable {h : xh_H} {b : Nat} {F : Nat → Int32} {V : Nat → Nat → Int32}
theorem s_hits {N : Nat} (hN : 3000 ≤ N) (h5 : V 1 5 = nI (ms_n (V 1))) (hn : ms_n (V 1) ≤ 40) : f_X2_hits N (some b) (xm_M h b F V) = some (nI (ms_cnt (fun k => decide (V 8 k = 0)) 0 (ms_n (V 1))), xm_M h b F V, 0, 0) := by
  have key := xl_run (fun _ _ _ _ => none) (fun k4 => f_X2_hits_b4 N k4)
    (fun c f => f (some b) (nI (ms_cnt (fun k => decide (V 8 k = 0)) 0 c)) (nI c) (xm_M h b F V))
    (some (nI (ms_cnt (fun k => decide (V 8 k = 0)) 0 (ms_n (V 1))), xm_M h b F V, 0, 0)) (ms_n (V 1)) ?_ ?_ N 0 (by omega) (by omega)
  · exact key
  · intro f c hc
    show f_X2_hits_b4 N f _ _ _ _ = _
    unfold f_X2_hits_b4 f_X2_hits_b29
    simp (disch := omega) only [xm_chk, xm_g0, xm_g1, xm_g3, xm_g5, xm_g7, xm_g8, xm_g9, xm_g10, xm_g11, xm_g12, xm_g14, xm_i2, xm_i4, xm_i6, xm_i13, xm_i15, Option.bind_some, xc_0, xm_p2, xm_p6, xm_p13, xm_p15, xm_l1c0, xm_l1c1, xm_l1c2, xm_l1c3, xm_l1c4, xm_l1c5, s_of0, s_of1, s_of2, s_of3, s_of4, h5, xm_l8, nI_1, nI_p0]
    rw [if_neg (by rw [nI_leI (by omega) (by omega)]; omega)]
    show _ = f _ (nI (ms_cnt _ _ c + (if decide (V 8 (0 + c) = 0) then 1 else 0))) _ _
    rw [Nat.zero_add]
    by_cases h2 : V 8 c = 0
    · rw [if_pos h2, decide_eq_true h2]; rfl
    · rw [if_neg h2, decide_eq_false h2]; rfl
  · intro f
    show f_X2_hits_b4 N f _ _ _ _ = _
    unfold f_X2_hits_b4 f_X2_hits_b37
    simp (disch := omega) only [xm_chk, xm_g0, xm_g1, xm_g3, xm_g5, xm_g7, xm_g8, xm_g9, xm_g10, xm_g11, xm_g12, xm_g14, xm_i2, xm_i4, xm_i6, xm_i13, xm_i15, Option.bind_some, xc_0, xm_p2, xm_p6, xm_p13, xm_p15, xm_l1c0, xm_l1c1, xm_l1c2, xm_l1c3, xm_l1c4, xm_l1c5, s_of0, s_of1, s_of2, s_of3, s_of4, h5]
    rw [if_pos (by rw [nI_leI (by omega) (by omega)]; omega)]
theorem s_phraseOf {N k : Nat} (hN : 3000 ≤ N) (hk : k < ms_n (V 1)) (hok : ms_ok (V 1)) : f_X2_phraseOf N (some b) (nI k) (xm_M h b F V) = some (nI (ms_ph (V 1) k), xm_M h b F V, 0, 0) := by
  obtain ⟨h5, hn, hsy, hap, hfi, -⟩ := hok
  have hp := ms_fst_pos (hfi (by omega)) k
  have key := xl_run (fun _ _ _ _ _ => none) (fun k4 => f_X2_phraseOf_b4 N k4)
    (fun c f => f (some b) (nI k) (nI (ms_cnt (ms_fst (V 1)) 0 c) - 1) (nI c) (xm_M h b F V))
    (some (nI (ms_ph (V 1) k), xm_M h b F V, 0, 0)) (k + 1) ?_ ?_ N 0 (by omega) (by omega)
  · exact key
  · intro f c hc
    obtain ⟨-, -, -, -, -, hfs⟩ := hsy c (by omega)
    show f_X2_phraseOf_b4 N f _ _ _ _ _ = _
    unfold f_X2_phraseOf_b4
    simp (disch := omega) only [xm_chk, xm_g0, xm_g1, xm_g3, xm_g5, xm_g7, xm_g8, xm_g9, xm_g10, xm_g11, xm_g12, xm_g14, xm_i2, xm_i4, xm_i6, xm_i13, xm_i15, Option.bind_some, xc_0, xm_p2, xm_p6, xm_p13, xm_p15, s_of4, nI_1]
    rw [if_neg (by rw [nI_ltI (by omega) (by omega)]; omega)]
    show _ = f _ _ (nI (ms_cnt _ _ c + (if ms_fst (V 1) (0 + c) then 1 else 0)) - 1) _ _
    rw [Nat.zero_add]
    unfold ms_fst
    generalize ms_cnt (fun i => decide (V 1 (6 + 5 * i + 4) = 1)) 0 c = x
    rcases hfs with e | e
    · rw [e, decide_eq_false (by decide)]
      congr 1
      show nI x - 1 + 0 = nI (x + 0) - 1
      rw [Nat.add_zero]; grind
    · rw [e, decide_eq_true rfl]
      congr 1
      show nI x - 1 + 1 = nI (x + 1) - 1
      rw [← nI_1]; grind
  · intro f
    show f_X2_phraseOf_b4 N f _ _ _ _ _ = _
    unfold f_X2_phraseOf_b4 f_X2_phraseOf_b24 ms_ph
    rw [if_pos (by rw [nI_ltI (by omega) (by omega)]; omega), xl_1, pk_sub hp]
theorem s_phrases {N : Nat} (hN : 3000 ≤ N) (hok : ms_ok (V 1)) : f_X2_phrases N (some b) (xm_M h b F V) = some (nI (ms_phs (V 1)), xm_M h b F V, 0, 0) := by
  obtain ⟨h5, hn, -⟩ := id hok
  unfold f_X2_phrases ms_phs
  simp (disch := omega) only [xm_chk, xm_g0, xm_g1, xm_g3, xm_g5, xm_g7, xm_g8, xm_g9, xm_g10, xm_g11, xm_g12, xm_g14, xm_i2, xm_i4, xm_i6, xm_i13, xm_i15, Option.bind_some, xc_0, xm_p2, xm_p6, xm_p13, xm_p15, xm_l1c0, xm_l1c1, xm_l1c2, xm_l1c3, xm_l1c4, xm_l1c5, s_of0, s_of1, s_of2, s_of3, s_of4, h5]
  by_cases h0 : ms_n (V 1) = 0
  · rw [h0, if_pos (show nI 0 = 0 from rfl), if_pos rfl]; rfl
  · rw [if_neg (nI_ne0 (by omega) (by omega)), if_neg h0, xl_1, pk_sub (by omega), s_phraseOf hN (by omega) hok, xc_0, nI_add]
theorem s_ofPhrase {N f : Nat} {w : Int32} (hN : 3000 ≤ N) (hf : f < 1000) (hok : ms_ok (V 1)) : f_X2_ofPhrase N (some b) (nI f) w (xm_M h b F V) = some (pf_r (V 1) (V 8) (V 10) f (ms_n (V 1)) w, xm_M h b F V, 0, 0) := by
  obtain ⟨h5, hn, hsy, hap, hfi, -⟩ := id hok
  have key := xl_run (fun _ _ _ _ _ _ _ _ _ _ _ => none) (fun k4 => f_X2_ofPhrase_b21 N k4)
    (fun c g => g (some b) (nI f) w (pf_f (V 1) f c) (nI (pf_m (V 1) f c)) (nI (pf_h (V 1) (V 8) f c)) (pf_s (V 1) (V 10) f c) (nI (pf_l (V 1) (V 8) f c)) (nI (pf_n (V 1) (V 8) f c)) (nI c) (xm_M h b F V))
    (some (pf_r (V 1) (V 8) (V 10) f (ms_n (V 1)) w, xm_M h b F V, 0, 0)) (ms_n (V 1)) ?_ ?_ N 0 (by omega) (by omega)
  · exact key
  · intro g c hc
    show f_X2_ofPhrase_b21 N g _ _ _ _ _ _ _ _ _ _ _ = _
    have e1 : pf_f (V 1) f (c + 1) = if ms_ph (V 1) c = f then (if pf_f (V 1) f c = -5 then nI c else pf_f (V 1) f c) else pf_f (V 1) f c := rfl
    have e2 : pf_m (V 1) f (c + 1) = pf_m (V 1) f c + (if ms_ph (V 1) c = f then 1 else 0) := by
      show ms_cnt _ _ c + (if decide (ms_ph (V 1) (0 + c) = f) then 1 else 0) = _
      rw [Nat.zero_add]
      by_cases q : ms_ph (V 1) c = f
      · rw [decide_eq_true q, if_pos q]; rfl
      · rw [decide_eq_false q, if_neg q]; rfl
    have e3 : pf_h (V 1) (V 8) f (c + 1) = pf_h (V 1) (V 8) f c + (if ms_ph (V 1) c = f then (if V 8 c = 0 then 1 else 0) else 0) := by
      show ms_cnt _ _ c + (if decide (ms_ph (V 1) (0 + c) = f) && decide (V 8 (0 + c) = 0) then 1 else 0) = _
      rw [Nat.zero_add]
      by_cases q : ms_ph (V 1) c = f
      · rw [decide_eq_true q, if_pos q]
        by_cases q2 : V 8 c = 0
        · rw [decide_eq_true q2, if_pos q2]; rfl
        · rw [decide_eq_false q2, if_neg q2]; rfl
      · rw [decide_eq_false q, if_neg q]; rfl
    have e4 : pf_s (V 1) (V 10) f (c + 1) = if ms_ph (V 1) c = f then pf_s (V 1) (V 10) f c + V 10 c else pf_s (V 1) (V 10) f c := rfl
    have e5 : pf_n (V 1) (V 8) f (c + 1) = if ms_ph (V 1) c = f then (if V 8 c = 0 then pf_n (V 1) (V 8) f c + 1 else 0) else pf_n (V 1) (V 8) f c := rfl
    have e6 : pf_l (V 1) (V 8) f (c + 1) = if ms_ph (V 1) c = f then max (pf_l (V 1) (V 8) f c) (pf_n (V 1) (V 8) f (c + 1)) else pf_l (V 1) (V 8) f c := rfl
    have b1 := pf_n_le (s := V 1) (wy := V 8) (f := f) c
    have b2 := pf_l_le (s := V 1) (wy := V 8) (f := f) c
    have b3 := ms_ph_le (s := V 1) c
    unfold f_X2_ofPhrase_b21 f_X2_ofPhrase_b126
    simp (disch := omega) only [xm_chk, xm_g0, xm_g1, xm_g3, xm_g5, xm_g7, xm_g8, xm_g9, xm_g10, xm_g11, xm_g12, xm_g14, xm_i2, xm_i4, xm_i6, xm_i13, xm_i15, Option.bind_some, xc_0, xm_p2, xm_p6, xm_p13, xm_p15, xm_l1c0, xm_l1c1, xm_l1c2, xm_l1c3, xm_l1c4, xm_l1c5, s_of0, s_of1, s_of2, s_of3, s_of4, h5, s_phraseOf hN hc hok, nI_1]
    rw [if_neg (by rw [nI_leI (by omega) (by omega)]; omega)]
    by_cases q : ms_ph (V 1) c = f
    · rw [if_pos (show nI (ms_ph (V 1) c) = nI f by rw [q])]
      rw [e6, e5, e4, e3, e2, e1, if_pos q, if_pos q, if_pos q, if_pos q, if_pos q, if_pos q]
      have h108 : ∀ (x3 x4 x5 x6 : Int32) (nw : Nat), nw ≤ c + 1 → f_X2_ofPhrase_b108 N g (some b) (nI f) w x3 x4 x5 x6 (nI (pf_l (V 1) (V 8) f c)) (nI c) (nI nw) (xm_M h b F V) = g (some b) (nI f) w x3 x4 x5 x6 (nI (max (pf_l (V 1) (V 8) f c) nw)) (nI nw) (nI (c + 1)) (xm_M h b F V) := by
        intro x3 x4 x5 x6 nw hnw
        unfold f_X2_ofPhrase_b108 f_X2_ofPhrase_b124 f_X2_ofPhrase_b126
        rw [nI_1]
        by_cases z : nw ≤ pf_l (V 1) (V 8) f c
        · rw [if_pos (by rw [nI_leI (by omega) (by omega)]; exact z), Nat.max_eq_left z]
        · rw [if_neg (by rw [nI_leI (by omega) (by omega)]; exact z), Nat.max_eq_right (by omega)]
      have h54 : ∀ x3 : Int32, f_X2_ofPhrase_b54 N g (some b) (nI f) w (nI (pf_m (V 1) f c)) (nI (pf_h (V 1) (V 8) f c)) (pf_s (V 1) (V 10) f c) (nI (pf_l (V 1) (V 8) f c)) (nI (pf_n (V 1) (V 8) f c)) (nI c) x3 (xm_M h b F V) = g (some b) (nI f) w x3 (nI (pf_m (V 1) f c + 1)) (nI (pf_h (V 1) (V 8) f c + (if V 8 c = 0 then 1 else 0))) (pf_s (V 1) (V 10) f c + V 10 c) (nI (max (pf_l (V 1) (V 8) f c) (if V 8 c = 0 then pf_n (V 1) (V 8) f c + 1 else 0))) (nI (if V 8 c = 0 then pf_n (V 1) (V 8) f c + 1 else 0)) (nI (c + 1)) (xm_M h b F V) := by
        intro x3
        unfold f_X2_ofPhrase_b54 f_X2_ofPhrase_b75
        simp (disch := omega) only [xm_chk, xm_g0, xm_g1, xm_g3, xm_g5, xm_g7, xm_g8, xm_g9, xm_g10, xm_g11, xm_g12, xm_g14, xm_i2, xm_i4, xm_i6, xm_i13, xm_i15, Option.bind_some, xc_0, xm_p2, xm_p6, xm_p13, xm_p15, xm_l8, xm_l10, nI_1, nI_p0]
        by_cases z : V 8 c = 0
        · rw [if_pos z, if_pos z, if_pos z, if_pos z, h108 _ _ _ _ _ (by omega)]
        · rw [if_neg z, if_neg z, if_neg z, if_neg z]
          exact h108 _ _ _ _ 0 (by omega)
      split <;> exact h54 _
    · rw [if_neg (show ¬ nI (ms_ph (V 1) c) = nI f from fun z => q ((nI_eq (by omega) (by omega)).mp z))]
      rw [e6, e5, e4, e3, e2, e1, if_neg q, if_neg q, if_neg q, if_neg q, if_neg q, if_neg q]
      simp only [Nat.add_zero]
  · intro g
    have b1 : pf_m (V 1) f (ms_n (V 1)) ≤ ms_n (V 1) := ms_cnt_le _ _ _
    have b2 : pf_h (V 1) (V 8) f (ms_n (V 1)) ≤ ms_n (V 1) := ms_cnt_le _ _ _
    show f_X2_ofPhrase_b21 N g _ _ _ _ _ _ _ _ _ _ _ = _
    unfold f_X2_ofPhrase_b21 f_X2_ofPhrase_b132
    simp (disch := omega) only [xm_chk, xm_g0, xm_g1, xm_g3, xm_g5, xm_g7, xm_g8, xm_g9, xm_g10, xm_g11, xm_g12, xm_g14, xm_i2, xm_i4, xm_i6, xm_i13, xm_i15, Option.bind_some, xc_0, xm_p2, xm_p6, xm_p13, xm_p15, xm_l1c0, xm_l1c1, xm_l1c2, xm_l1c3, xm_l1c4, xm_l1c5, s_of0, s_of1, s_of2, s_of3, s_of4, h5]
    rw [if_pos (by rw [nI_leI (by omega) (by omega)]; omega)]
    have h153 : ∀ t x : Int32, t + x = pf_p (V 1) (V 8) (V 10) f (ms_n (V 1)) → f_X2_ofPhrase_b153 N w (pf_f (V 1) f (ms_n (V 1))) (nI (pf_m (V 1) f (ms_n (V 1)))) (nI (pf_h (V 1) (V 8) f (ms_n (V 1)))) (nI (pf_l (V 1) (V 8) f (ms_n (V 1)))) t x (xm_M h b F V) = some (pf_r (V 1) (V 8) (V 10) f (ms_n (V 1)) w, xm_M h b F V, 0, 0) := by
      intro t x htx
      unfold f_X2_ofPhrase_b153 pf_r
      rw [htx]
      by_cases w0 : w = 0
      · rw [if_pos w0, if_pos w0]
      · rw [if_neg w0, if_neg w0]
        by_cases w1 : w = 1
        · rw [if_pos w1, if_pos w1]
        · rw [if_neg w1, if_neg w1]
          by_cases w2 : w = 2
          · rw [if_pos w2, if_pos w2]
          · rw [if_neg w2, if_neg w2]
            split <;> rfl
    by_cases m1 : pf_m (V 1) f (ms_n (V 1)) ≤ 1
    · rw [if_pos (by rw [xl_1, nI_leI (by omega) (by omega)]; exact m1)]
      exact h153 _ _ (by unfold pf_p; rw [if_pos m1])
    · rw [if_neg (by rw [xl_1, nI_leI (by omega) (by omega)]; exact m1)]
      by_cases m2 : pf_h (V 1) (V 8) f (ms_n (V 1)) = pf_m (V 1) f (ms_n (V 1))
      · rw [if_pos (by rw [m2])]
        exact h153 _ _ (by unfold pf_p; rw [if_neg m1, if_pos m2])
      · rw [if_neg (fun z => m2 ((nI_eq (by omega) (by omega)).mp z))]
        exact h153 _ _ (by unfold pf_p; rw [if_neg m1, if_neg m2])
theorem s_allPoints {N : Nat} (hN : 3000 ≤ N) (hok : ms_ok (V 1)) : f_X2_allPoints N (some b) (xm_M h b F V) = some (pf_all (V 1) (V 8) (V 10) (ms_n (V 1)) (ms_phs (V 1)), xm_M h b F V, 0, 0) := by
  obtain ⟨h5, hn, -⟩ := id hok
  have hps := ms_phs_le (s := V 1)
  have key := xl_run (fun _ _ _ _ => none) (fun k4 => f_X2_allPoints_b4 N k4)
    (fun c f => f (some b) (pf_all (V 1) (V 8) (V 10) (ms_n (V 1)) c) (nI c) (xm_M h b F V))
    (some (pf_all (V 1) (V 8) (V 10) (ms_n (V 1)) (ms_phs (V 1)), xm_M h b F V, 0, 0)) (ms_phs (V 1)) ?_ ?_ N 0 (by omega) (by omega)
  · exact key
  · intro f c hc
    show f_X2_allPoints_b4 N f _ _ _ _ = _
    unfold f_X2_allPoints_b4
    simp (disch := omega) only [xm_chk, xm_g0, xm_g1, xm_g3, xm_g5, xm_g7, xm_g8, xm_g9, xm_g10, xm_g11, xm_g12, xm_g14, xm_i2, xm_i4, xm_i6, xm_i13, xm_i15, Option.bind_some, xc_0, xm_p2, xm_p6, xm_p13, xm_p15, s_phrases hN hok, nI_1]
    rw [if_neg (by rw [nI_leI (by omega) (by omega)]; omega), s_ofPhrase hN (by omega) hok, xc_0]
    rfl
  · intro f
    show f_X2_allPoints_b4 N f _ _ _ _ = _
    unfold f_X2_allPoints_b4 f_X2_allPoints_b27
    simp (disch := omega) only [xm_chk, xm_g0, xm_g1, xm_g3, xm_g5, xm_g7, xm_g8, xm_g9, xm_g10, xm_g11, xm_g12, xm_g14, xm_i2, xm_i4, xm_i6, xm_i13, xm_i15, Option.bind_some, xc_0, xm_p2, xm_p6, xm_p13, xm_p15, s_phrases hN hok]
    rw [if_pos (by rw [nI_leI (by omega) (by omega)]; omega)]
theorem s_onsets {N : Nat} (hN : 3000 ≤ N) : f_X2_onsets N (some b) (xm_M h b F V) = some (nI (ms_cnt (fun t => decide (ms_onI (V 5) t = 1)) 0 600), xm_M h b F V, 0, 0) := by
  have key := xl_run (fun _ _ _ _ => none) (fun k4 => f_X2_onsets_b4 N k4)
    (fun c f => f (some b) (nI (ms_cnt (fun t => decide (ms_onI (V 5) t = 1)) 0 c)) (nI c) (xm_M h b F V))
    (some (nI (ms_cnt (fun t => decide (ms_onI (V 5) t = 1)) 0 600), xm_M h b F V, 0, 0)) 600 ?_ ?_ N 0 (by omega) (by omega)
  · exact key
  · intro f c hc
    show f_X2_onsets_b4 N f _ _ _ _ = _
    unfold f_X2_onsets_b4 f_X2_onsets_b25
    simp (disch := omega) only [xm_chk, xm_g0, xm_g1, xm_g3, xm_g5, xm_g7, xm_g8, xm_g9, xm_g10, xm_g11, xm_g12, xm_g14, xm_i2, xm_i4, xm_i6, xm_i13, xm_i15, Option.bind_some, xc_0, xm_p2, xm_p6, xm_p13, xm_p15, s_isOnset, nI_1, nI_p0]
    rw [xl_600, if_neg (by rw [nI_leI (by omega) (by omega)]; omega)]
    show _ = f _ (nI (ms_cnt _ _ c + (if decide (ms_onI (V 5) (0 + c) = 1) then 1 else 0))) _ _
    rw [Nat.zero_add]
    by_cases h2 : ms_onI (V 5) c = 1
    · rw [if_neg (fun q => ms_onI_b.mp q h2), decide_eq_true h2]; rfl
    · rw [if_pos (ms_onI_b.mpr h2), decide_eq_false h2]; rfl
  · intro f
    show f_X2_onsets_b4 N f _ _ _ _ = _
    unfold f_X2_onsets_b4 f_X2_onsets_b33
    rw [if_pos (by decide)]
theorem s_sungTicks {N : Nat} (hN : 3000 ≤ N) : f_X2_sungTicks N (some b) (xm_M h b F V) = some (nI (ms_cnt (fun t => decide (0 < V 5 t)) 0 600), xm_M h b F V, 0, 0) := by
  have key := xl_run (fun _ _ _ _ => none) (fun k4 => f_X2_sungTicks_b4 N k4)
    (fun c f => f (some b) (nI (ms_cnt (fun t => decide (0 < V 5 t)) 0 c)) (nI c) (xm_M h b F V))
    (some (nI (ms_cnt (fun t => decide (0 < V 5 t)) 0 600), xm_M h b F V, 0, 0)) 600 ?_ ?_ N 0 (by omega) (by omega)
  · exact key
  · intro f c hc
    show f_X2_sungTicks_b4 N f _ _ _ _ = _
    unfold f_X2_sungTicks_b4 f_X2_sungTicks_b26
    simp (disch := omega) only [xm_chk, xm_g0, xm_g1, xm_g3, xm_g5, xm_g7, xm_g8, xm_g9, xm_g10, xm_g11, xm_g12, xm_g14, xm_i2, xm_i4, xm_i6, xm_i13, xm_i15, Option.bind_some, xc_0, xm_p2, xm_p6, xm_p13, xm_p15, xm_l5, nI_1, nI_p0]
    rw [xl_600, if_neg (by rw [nI_leI (by omega) (by omega)]; omega)]
    show _ = f _ (nI (ms_cnt _ _ c + (if decide (0 < V 5 (0 + c)) then 1 else 0))) _ _
    rw [Nat.zero_add]
    by_cases h2 : V 5 c ≤ 0
    · rw [if_pos h2, decide_eq_false (Int32.not_lt.mpr h2)]; rfl
    · rw [if_neg h2, decide_eq_true (Int32.not_le.mp h2)]; rfl
  · intro f
    show f_X2_sungTicks_b4 N f _ _ _ _ = _
    unfold f_X2_sungTicks_b4 f_X2_sungTicks_b34
    rw [if_pos (by decide)]
/-- the syllables since the phrase's begin, ahead of k -/
def pm_m (s : Nat → Int32) : Nat → Nat
  | 0 => 0
  | k + 1 => (if s (6 + 5 * k + 4) = 1 then 0 else pm_m s k) + 1
def pm_t (s : Nat → Int32) (k : Nat) : Nat := if s (6 + 5 * k + 4) = 1 then 0 else pm_m s k
def pm_s (s : Nat → Int32) : Nat → Int32
  | 0 => 0
  | k + 1 => (pm_s s k + ((100 + 5 * nI (ms_cnt (ms_bar s (fun _ => 0) k false) (ms_b s k + 1) (ms_l s k - 1))) * (10 + nI (min 10 (pm_t s k)))) / 10) + (if pm_t s k = 1 then 50 else 0)
theorem pm_m_le {s : Nat → Int32} : ∀ k, pm_m s k ≤ k
  | 0 => Nat.le_refl 0
  | k + 1 => by
    have := pm_m_le (s := s) k
    show (if s (6 + 5 * k + 4) = 1 then 0 else pm_m s k) + 1 ≤ k + 1
    split <;> omega
theorem ms_bar_f {s hd hd' : Nat → Int32} {k : Nat} : ms_bar s hd k false = ms_bar s hd' k false := by
  funext t
  unfold ms_bar
  simp only [Bool.not_false, Bool.true_or]
theorem s_mostPoints {N : Nat} (hN : 3000 ≤ N) (hok : ms_ok (V 1)) : f_X2_mostPoints N (some b) (xm_M h b F V) = some (pm_s (V 1) (ms_n (V 1)), xm_M h b F V, 0, 0) := by
  obtain ⟨h5, hn, hsy, hap, hfi, ⟨hs0, -⟩, -⟩ := id hok
  have key := xl_run (fun _ _ _ _ _ => none) (fun k4 => f_X2_mostPoints_b6 N k4)
    (fun c f => f (some b) (pm_s (V 1) c) (nI (pm_m (V 1) c)) (nI c) (xm_M h b F V))
    (some (pm_s (V 1) (ms_n (V 1)), xm_M h b F V, 0, 0)) (ms_n (V 1)) ?_ ?_ N 0 (by omega) (by omega)
  · exact key
  · intro f k hk
    obtain ⟨hb, hl, hl1, hl2, hbl, hfs⟩ := hsy k hk
    have hm := pm_m_le (s := V 1) k
    show f_X2_mostPoints_b6 N f _ _ _ _ _ = _
    have h31 : ∀ t : Nat, t = pm_t (V 1) k → f_X2_mostPoints_b31 N f (some b) (pm_s (V 1) k) (nI k) (nI t) (xm_M h b F V) = f (some b) (pm_s (V 1) (k + 1)) (nI (t + 1)) (nI (k + 1)) (xm_M h b F V) := by
      intro t ht
      have htk : t ≤ k := by rw [ht]; unfold pm_t; split <;> omega
      have hbr := s_bars (h := h) (b := b) (F := F) (V := V) (sel := false) hN (show k < 155 by omega) hb hl hbl hl1 hs0
      rw [show xb01 false = (0 : Int32) from rfl] at hbr
      have h58 : ∀ y : Int32, y = nI (min 10 t) → f_X2_mostPoints_b58 N f (some b) (nI t) (nI k) (pm_s (V 1) k) ((100 : Int32) + ((5 : Int32) * nI (ms_cnt (ms_bar (V 1) (V 5) k false) (ms_b (V 1) k + 1) (ms_l (V 1) k - 1)))) (10 : Int32) y (xm_M h b F V) = f (some b) (pm_s (V 1) (k + 1)) (nI (t + 1)) (nI (k + 1)) (xm_M h b F V) := by
        intro y hy
        unfold f_X2_mostPoints_b58 f_X2_mostPoints_b80
        rw [nI_1, nI_1, hy]
        show _ = f _ ((pm_s (V 1) k + ((100 + 5 * nI (ms_cnt (ms_bar (V 1) (fun _ => 0) k false) (ms_b (V 1) k + 1) (ms_l (V 1) k - 1))) * (10 + nI (min 10 (pm_t (V 1) k)))) / 10) + (if pm_t (V 1) k = 1 then 50 else 0)) _ _ _
        rw [ms_bar_f (hd := fun _ => 0) (hd' := V 5), ← ht]
        by_cases z : t = 1
        · rw [if_pos (by rw [z]; rfl), if_pos z]
        · rw [if_neg (by rw [xl_2, nI_eq (by omega) (by omega)]; omega), if_neg z]
      unfold f_X2_mostPoints_b31
      simp only [xm_chk, xm_g0, xm_g1, xm_g3, xm_g5, xm_g7, xm_g8, xm_g9, xm_g10, xm_g11, xm_g12, xm_g14, xm_i2, xm_i4, xm_i6, xm_i13, xm_i15, Option.bind_some, xc_0, xm_p2, xm_p6, xm_p13, xm_p15, hbr]
      by_cases z : 10 ≤ t
      · rw [if_pos (by rw [xl_10, nI_leI (by omega) (by omega)]; exact z), h58 _ (by rw [Nat.min_eq_left z]; rfl)]
      · rw [if_neg (by rw [xl_10, nI_leI (by omega) (by omega)]; exact z), h58 _ (by rw [Nat.min_eq_right (by omega)])]
    unfold f_X2_mostPoints_b6
    simp (disch := omega) only [xm_chk, xm_g0, xm_g1, xm_g3, xm_g5, xm_g7, xm_g8, xm_g9, xm_g10, xm_g11, xm_g12, xm_g14, xm_i2, xm_i4, xm_i6, xm_i13, xm_i15, Option.bind_some, xc_0, xm_p2, xm_p6, xm_p13, xm_p15, xm_l1c0, xm_l1c1, xm_l1c2, xm_l1c3, xm_l1c4, xm_l1c5, s_of0, s_of1, s_of2, s_of3, s_of4, h5]
    rw [if_neg (by rw [nI_leI (by omega) (by omega)]; omega)]
    show _ = f _ _ (nI ((if V 1 (6 + 5 * k + 4) = 1 then 0 else pm_m (V 1) k) + 1)) _ _
    by_cases z : V 1 (6 + 5 * k + 4) = 1
    · rw [if_pos z, if_pos z]
      exact h31 0 (by unfold pm_t; rw [if_pos z])
    · rw [if_neg z, if_neg z]
      exact h31 _ (by unfold pm_t; rw [if_neg z])
  · intro f
    show f_X2_mostPoints_b6 N f _ _ _ _ _ = _
    unfold f_X2_mostPoints_b6 f_X2_mostPoints_b88
    simp (disch := omega) only [xm_chk, xm_g0, xm_g1, xm_g3, xm_g5, xm_g7, xm_g8, xm_g9, xm_g10, xm_g11, xm_g12, xm_g14, xm_i2, xm_i4, xm_i6, xm_i13, xm_i15, Option.bind_some, xc_0, xm_p2, xm_p6, xm_p13, xm_p15, xm_l1c0, xm_l1c1, xm_l1c2, xm_l1c3, xm_l1c4, xm_l1c5, s_of0, s_of1, s_of2, s_of3, s_of4, h5]
    rw [if_pos (by rw [nI_leI (by omega) (by omega)]; omega)]
end MS
