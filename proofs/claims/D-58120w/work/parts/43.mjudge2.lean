/-! THE MODEL's METHODS: hear, onsets, bars, reasons, points, judge -/
set_option maxRecDepth 100000
/-- what is heard at t, tk ticks later and by higher -/
def ms_u (s : Nat → Int32) (tk : Int32) (t : Nat) : Int32 := if 0 ≤ nI t - tk ∧ nI t - tk ≤ 599 then s (206 + (nI t - tk).toNatClampNeg) else 0
def ms_hd (s : Nat → Int32) (tk by_ : Int32) (t : Nat) : Int32 := if 0 < ms_u s tk t ∧ (0 ≤ (ms_u s tk t - 1) + by_ ∧ (ms_u s tk t - 1) + by_ ≤ 60) then ms_u s tk t + by_ else 0
/-- the first n of f, then of g -/
def ms_pre (f g : Nat → Int32) (n : Nat) : Nat → Int32 := fun k => if k < n then f k else g k
theorem ms_pre_0 {f g : Nat → Int32} : ms_pre f g 0 = g := by
  funext k
  exact if_neg (by omega)
theorem ms_pre_s {f g : Nat → Int32} {n : Nat} : upd (ms_pre f g n) n (f n) = ms_pre f g (n + 1) := by
  funext k
  unfold upd ms_pre
  by_cases h : k = n
  · subst h
    rw [if_pos rfl, if_pos (by omega)]
  · rw [if_neg h]
    by_cases h2 : k < n
    · rw [if_pos h2, if_pos (by omega)]
    · rw [if_neg h2, if_neg (by omega)]
theorem ms_pre_at {f g : Nat → Int32} {n k : Nat} (h : k < n) : ms_pre f g n k = f k := if_pos h
theorem ms_pre_ge {f g : Nat → Int32} {n k : Nat} (h : n ≤ k) : ms_pre f g n k = g k := if_neg (by omega)
theorem upd_s {f : Nat → Int32} {k : Nat} {x : Int32} : upd f k x k = x := if_pos rfl
theorem upd_n {f : Nat → Int32} {k j : Nat} {x : Int32} (h : j ≠ k) : upd f k x j = f j := if_neg h
theorem upd_u {f : Nat → Int32} {k : Nat} {x y : Int32} : upd (upd f k x) k y = upd f k y := by
  funext j
  unfold upd
  by_cases h : j = k
  · rw [if_pos h, if_pos h]
  · rw [if_neg h, if_neg h, if_neg h]
theorem nI_p0 {a : Nat} : nI a + 0 = nI a := by
  show nI a + nI 0 = nI a
  rw [nI_add, Nat.add_zero]
theorem nI_btw {x : Int32} {n : Nat} (hn : n < 2147483648) (h0 : 0 ≤ x) (h1 : x ≤ nI n) : x = nI x.toNatClampNeg ∧ x.toNatClampNeg ≤ n := by
  obtain ⟨j, h2, h3⟩ := nI_of2 (n := n) (nI_toInt hn) (Int32.not_lt.mpr h0) h1
  subst h3
  rw [nI_clamp (by omega)]
  exact ⟨rfl, h2⟩
section MS
variable {h : xh_H} {b : Nat} {F : Nat → Int32} {V : Nat → Nat → Int32}
theorem s_hear66 {N t : Nat} {k : Option Nat → Int32 → Int32 → Int32 → xh_H → xh_R Unit} {tk by_ x : Int32} (ht : t < 600) : f_X2_hear_b66 N k (some b) tk by_ (nI t) (some (b + 5)) (nI t) x (xm_M h b F V) = k (some b) tk by_ (nI (t + 1)) (xm_M h b F (xm_sV V 5 (upd (V 5) t x))) := by
  unfold f_X2_hear_b66
  simp (disch := omega) only [xm_chk, xm_g0, xm_g1, xm_g3, xm_g5, xm_g7, xm_g8, xm_g9, xm_g10, xm_g11, xm_g12, xm_g14, xm_i2, xm_i4, xm_i6, xm_i13, xm_i15, Option.bind_some, xc_0, xm_p2, xm_p6, xm_p13, xm_p15, xm_s5, nI_1]
theorem s_hear {N : Nat} {tk by_ : Int32} (hN : 3000 ≤ N) : f_X2_hear N (some b) tk by_ (xm_M h b F V) = some ((), xm_M h b F (xm_sV V 5 (ms_pre (ms_hd (V 1) tk by_) (V 5) 600)), 0, 0) := by
  have key := xl_run (fun _ _ _ _ _ => none) (fun k3 => f_X2_hear_b2 N k3)
    (fun c k => k (some b) tk by_ (nI c) (xm_M h b F (xm_sV V 5 (ms_pre (ms_hd (V 1) tk by_) (V 5) c))))
    (some ((), xm_M h b F (xm_sV V 5 (ms_pre (ms_hd (V 1) tk by_) (V 5) 600)), 0, 0)) 600 ?_ ?_ N 0 (by omega) (by omega)
  · have e : xm_sV V 5 (ms_pre (ms_hd (V 1) tk by_) (V 5) 0) = V := by rw [ms_pre_0, xm_sVc]
    simp only [e] at key
    exact key
  · intro k t ht
    show f_X2_hear_b2 N k (some b) tk by_ (nI t) _ = _
    have h34 : ∀ x, x = ms_u (V 1) tk t → f_X2_hear_b34 N k (some b) tk by_ (nI t) x (xm_M h b F (xm_sV V 5 (ms_pre (ms_hd (V 1) tk by_) (V 5) t))) = k (some b) tk by_ (nI (t + 1)) (xm_M h b F (xm_sV V 5 (ms_pre (ms_hd (V 1) tk by_) (V 5) (t + 1)))) := by
      intro x hx
      unfold f_X2_hear_b34 f_X2_hear_b65
      simp (disch := omega) only [xm_chk, xm_g0, xm_g1, xm_g3, xm_g5, xm_g7, xm_g8, xm_g9, xm_g10, xm_g11, xm_g12, xm_g14, xm_i2, xm_i4, xm_i6, xm_i13, xm_i15, Option.bind_some, xc_0, xm_p2, xm_p6, xm_p13, xm_p15, s_isPitch, s_hear66, xm_sVs, xm_sVV]
      rw [← ms_pre_s]
      unfold ms_hd
      rw [← hx]
      by_cases h1 : x ≤ 0
      · rw [if_pos h1, if_neg (fun q => absurd q.1 (Int32.not_lt.mpr h1))]
      · rw [if_neg h1]
        by_cases h2 : 0 ≤ (x - 1) + by_ ∧ (x - 1) + by_ ≤ 60
        · rw [if_neg (fun q => absurd h2 (xin_0.mp q)), if_pos ⟨Int32.not_le.mp h1, h2⟩]
        · rw [if_pos (xin_0.mpr h2), if_neg (fun q => absurd q.2 h2)]
    unfold f_X2_hear_b2
    rw [xl_600, if_neg (by rw [nI_leI (by omega) (by omega)]; omega), s_isTick, xc_0]
    by_cases h1 : 0 ≤ nI t - tk ∧ nI t - tk ≤ 599
    · rw [if_neg (fun q => absurd h1 (xin_0.mp q))]
      obtain ⟨e1, e2⟩ := nI_btw (n := 599) (by omega) h1.1 h1.2
      have e3 : (206 : Int32) + nI t - tk = nI (206 + (nI t - tk).toNatClampNeg) := by
        rw [← nI_add, ← e1]
        show nI 206 + nI t - tk = nI 206 + (nI t - tk)
        grind
      rw [e3]
      simp (disch := omega) only [xm_chk, xm_g0, xm_g1, xm_g3, xm_g5, xm_g7, xm_g8, xm_g9, xm_g10, xm_g11, xm_g12, xm_g14, xm_i2, xm_i4, xm_i6, xm_i13, xm_i15, Option.bind_some, xc_0, xm_p2, xm_p6, xm_p13, xm_p15, xm_l1]
      exact h34 _ (by unfold ms_u; rw [if_pos h1]; rfl)
    · rw [if_pos (xin_0.mpr h1)]
      exact h34 _ (by unfold ms_u; rw [if_neg h1])
  · intro k
    show f_X2_hear_b2 N k (some b) tk by_ (nI 600) _ = _
    unfold f_X2_hear_b2
    exact if_pos (by decide)
/-- the nearest onset: far turns done, so many left -/
def ms_nr (hd : Nat → Int32) (bg : Nat) : Nat → Nat → Int32
  | _, 0 => -5
  | far, m + 1 => if far ≤ bg ∧ ms_onI hd (bg - far) = 1 then nI (bg - far) else if bg + far < 600 ∧ ms_onI hd (bg + far) = 1 then nI (bg + far) else ms_nr hd bg (far + 1) m
theorem ms_onI_b {hd : Nat → Int32} {t : Nat} : ms_onI hd t = 0 ↔ ¬ ms_onI hd t = 1 := by
  unfold ms_onI
  split
  · exact ⟨fun q => absurd q (by decide), fun q => absurd rfl q⟩
  · exact ⟨fun _ => by decide, fun _ => rfl⟩
theorem nI_sub_neg {a c : Nat} (hc : c < 1000) (h : a < c) : ¬ 0 ≤ nI a - nI c := by
  have h1 := pk_sneg (a := a) (b := c) (by omega) h
  exact Int32.not_le.mpr h1
theorem s_nr42 {N bg far : Nat} {k : Option Nat → Int32 → Int32 → xh_H → xh_R Int32} (hb : bg < 600) (hf : far < 100) : f_X2_nearestOnset_b42 N k (some b) (nI bg) (nI far) (xm_M h b F V) = if bg + far < 600 ∧ ms_onI (V 5) (bg + far) = 1 then some (nI (bg + far), xm_M h b F V, 0, 0) else k (some b) (nI bg) (nI (far + 1)) (xm_M h b F V) := by
  unfold f_X2_nearestOnset_b42 f_X2_nearestOnset_b65 f_X2_nearestOnset_b61
  rw [nI_add, nI_1]
  simp only [s_isTick, xc_0, xm_chk, Option.bind_some]
  by_cases h1 : bg + far < 600
  · rw [if_neg (fun q => xin_0.mp q ⟨nI_pos' (by omega), by rw [xl_599, nI_leI (by omega) (by omega)]; omega⟩), s_isOnset h1, xc_0]
    by_cases h2 : ms_onI (V 5) (bg + far) = 1
    · rw [if_neg (fun q => ms_onI_b.mp q h2), if_pos ⟨h1, h2⟩]
    · rw [if_pos (ms_onI_b.mpr h2), if_neg (fun q => h2 q.2)]
  · rw [if_pos (xin_0.mpr (fun q => h1 (by have q2 := q.2; rw [xl_599, nI_leI (by omega) (by omega)] at q2; omega))), if_neg (fun q => h1 q.1)]
theorem s_nearestOnset {N k bg w : Nat} (hN : 3000 ≤ N) (hk : k < 155) (hb : V 1 (6 + 5 * k) = nI bg) (hb6 : bg < 600) (hw : V 1 2 = nI w) (hw8 : w < 50) : f_X2_nearestOnset N (some b) (nI k) (xm_M h b F V) = some (ms_nr (V 5) bg 0 (w + 1), xm_M h b F V, 0, 0) := by
  unfold f_X2_nearestOnset
  simp (disch := omega) only [xm_chk, xm_g0, xm_g1, xm_g3, xm_g5, xm_g7, xm_g8, xm_g9, xm_g10, xm_g11, xm_g12, xm_g14, xm_i2, xm_i4, xm_i6, xm_i13, xm_i15, Option.bind_some, xc_0, xm_p2, xm_p6, xm_p13, xm_p15, s_of0, Nat.add_zero, hb]
  have key : ∀ m far n : Nat, far + m = w + 1 → m < n → xh_loop (fun _ _ _ _ => none) (fun k9 => f_X2_nearestOnset_b9 N k9) n (some b) (nI bg) (nI far) (xm_M h b F V) = some (ms_nr (V 5) bg far m, xm_M h b F V, 0, 0) := by
    intro m
    induction m with
    | zero =>
      intro far n h1 h2
      obtain ⟨n, rfl⟩ : ∃ j, n = j + 1 := ⟨n - 1, by omega⟩
      show f_X2_nearestOnset_b9 N _ _ _ _ _ = _
      unfold f_X2_nearestOnset_b9 f_X2_nearestOnset_b71
      simp only [xm_chk, xm_g0, xm_g1, xm_g3, xm_g5, xm_g7, xm_g8, xm_g9, xm_g10, xm_g11, xm_g12, xm_g14, xm_i2, xm_i4, xm_i6, xm_i13, xm_i15, Option.bind_some, xc_0, xm_p2, xm_p6, xm_p13, xm_p15, xm_l1c0, xm_l1c1, xm_l1c2, xm_l1c3, xm_l1c4, xm_l1c5, s_of0, s_of1, s_of2, s_of3, s_of4, hw]
      rw [if_pos (by rw [nI_ltI (by omega) (by omega)]; omega)]
      rfl
    | succ m ih =>
      intro far n h1 h2
      obtain ⟨n, rfl⟩ : ∃ j, n = j + 1 := ⟨n - 1, by omega⟩
      have ih := ih (far + 1) n (by omega) (by omega)
      show f_X2_nearestOnset_b9 N (xh_loop (fun _ _ _ _ => none) (fun k9 => f_X2_nearestOnset_b9 N k9) n) _ _ _ _ = _
      generalize xh_loop (fun _ _ _ _ => none) (fun k9 => f_X2_nearestOnset_b9 N k9) n = kk at ih ⊢
      unfold f_X2_nearestOnset_b9 f_X2_nearestOnset_b38
      show _ = some ((if far ≤ bg ∧ ms_onI (V 5) (bg - far) = 1 then nI (bg - far) else if bg + far < 600 ∧ ms_onI (V 5) (bg + far) = 1 then nI (bg + far) else ms_nr (V 5) bg (far + 1) m), _, _, _)
      have h42 : f_X2_nearestOnset_b42 N kk (some b) (nI bg) (nI far) (xm_M h b F V) = some ((if bg + far < 600 ∧ ms_onI (V 5) (bg + far) = 1 then nI (bg + far) else ms_nr (V 5) bg (far + 1) m), xm_M h b F V, 0, 0) := by
        rw [s_nr42 hb6 (by omega), ih]
        split <;> rfl
      simp only [xm_chk, xm_g0, xm_g1, xm_g3, xm_g5, xm_g7, xm_g8, xm_g9, xm_g10, xm_g11, xm_g12, xm_g14, xm_i2, xm_i4, xm_i6, xm_i13, xm_i15, Option.bind_some, xc_0, xm_p2, xm_p6, xm_p13, xm_p15, xm_l1c0, xm_l1c1, xm_l1c2, xm_l1c3, xm_l1c4, xm_l1c5, s_of0, s_of1, s_of2, s_of3, s_of4, hw, s_isTick]
      rw [if_neg (by rw [nI_ltI (by omega) (by omega)]; omega), h42]
      by_cases h3 : far ≤ bg
      · rw [pk_sub h3, if_neg (fun q => xin_0.mp q ⟨nI_pos' (by omega), by rw [xl_599, nI_leI (by omega) (by omega)]; omega⟩), s_isOnset (by omega), xc_0]
        by_cases h4 : ms_onI (V 5) (bg - far) = 1
        · rw [if_neg (fun q => ms_onI_b.mp q h4), if_pos (show far ≤ bg ∧ ms_onI (V 5) (bg - far) = 1 from ⟨h3, h4⟩)]
        · rw [if_pos (ms_onI_b.mpr h4), if_neg (show ¬ (far ≤ bg ∧ ms_onI (V 5) (bg - far) = 1) from fun q => h4 q.2), h42]
      · rw [if_pos (xin_0.mpr (fun q => nI_sub_neg (by omega) (by omega) q.1)), if_neg (show ¬ (far ≤ bg ∧ ms_onI (V 5) (bg - far) = 1) from fun q => h3 q.1)]
  exact key (w + 1) 0 N (by omega) (by omega)
/-- a bar line at t, or (sel) one that both ticks match -/
def ms_bar (s hd : Nat → Int32) (k : Nat) (sel : Bool) (t : Nat) : Bool := decide (nI t - nI t / s 0 * s 0 = 0) && (!sel || (ms_m s hd k t && ms_m s hd k (t - 1)))
theorem s_bars {N k bg ln : Nat} {sel : Bool} (hN : 3000 ≤ N) (hk : k < 155) (hb : V 1 (6 + 5 * k) = nI bg) (hl : V 1 (6 + 5 * k + 1) = nI ln) (hbl : bg + ln ≤ 600) (h1 : 1 ≤ ln) (h0 : V 1 0 ≠ 0) : f_X2_bars N (some b) (nI k) (xb01 sel) (xm_M h b F V) = some (nI (ms_cnt (ms_bar (V 1) (V 5) k sel) (bg + 1) (ln - 1)), xm_M h b F V, 0, 0) := by
  unfold f_X2_bars
  simp (disch := omega) only [xm_chk, xm_g0, xm_g1, xm_g3, xm_g5, xm_g7, xm_g8, xm_g9, xm_g10, xm_g11, xm_g12, xm_g14, xm_i2, xm_i4, xm_i6, xm_i13, xm_i15, Option.bind_some, xc_0, xm_p2, xm_p6, xm_p13, xm_p15, s_of0, Nat.add_zero, hb, nI_1]
  have key := xl_run (fun _ _ _ _ _ _ => none) (fun k3 => f_X2_bars_b12 N k3)
    (fun c f => f (some b) (nI k) (xb01 sel) (nI (ms_cnt (ms_bar (V 1) (V 5) k sel) (bg + 1) c)) (nI (bg + 1 + c)) (xm_M h b F V))
    (some (nI (ms_cnt (ms_bar (V 1) (V 5) k sel) (bg + 1) (ln - 1)), xm_M h b F V, 0, 0)) (ln - 1) ?_ ?_ N 0 (by omega) (by omega)
  · exact key
  · intro f c hc
    show f_X2_bars_b12 N f _ _ _ _ _ _ = _
    unfold f_X2_bars_b12 f_X2_bars_b65 f_X2_bars_b61 f_X2_bars_b66
    simp (disch := omega) only [xm_chk, xm_g0, xm_g1, xm_g3, xm_g5, xm_g7, xm_g8, xm_g9, xm_g10, xm_g11, xm_g12, xm_g14, xm_i2, xm_i4, xm_i6, xm_i13, xm_i15, Option.bind_some, xc_0, xm_p2, xm_p6, xm_p13, xm_p15, s_behind, hb, hl, nI_add, xm_l1c0, xm_l1c1, xm_l1c2, xm_l1c3, xm_l1c4, xm_l1c5, s_of0, s_of1, s_of2, s_of3, s_of4, s_matches]
    rw [if_neg (by rw [nI_leI (by omega) (by omega)]; omega), if_neg h0]
    have e1 : nI (bg + 1 + c) - 1 = nI (bg + 1 + c - 1) := by rw [xl_1, pk_sub (by omega)]
    rw [e1, s_matches hk (by omega), xc_0, nI_1]
    show _ = f _ _ _ (nI (ms_cnt _ _ c + (if ms_bar (V 1) (V 5) k sel (bg + 1 + c) then 1 else 0))) _ _
    generalize ms_cnt (ms_bar (V 1) (V 5) k sel) (bg + 1) c = x
    rw [nI_1, nI_p0]
    unfold ms_bar
    by_cases h2 : nI (bg + 1 + c) - nI (bg + 1 + c) / V 1 0 * V 1 0 = 0
    · rw [if_pos h2, decide_eq_true h2]
      cases sel with
      | false => rfl
      | true =>
        rw [if_neg (by decide)]
        cases ms_m (V 1) (V 5) k (bg + 1 + c) with
        | false => rfl
        | true =>
          rw [if_neg (by decide)]
          cases ms_m (V 1) (V 5) k (bg + 1 + c - 1) <;> rfl
    · rw [if_neg h2, decide_eq_false h2]; rfl
  · intro f
    show f_X2_bars_b12 N f _ _ _ _ _ _ = _
    unfold f_X2_bars_b12 f_X2_bars_b74
    simp (disch := omega) only [xm_chk, xm_g0, xm_g1, xm_g3, xm_g5, xm_g7, xm_g8, xm_g9, xm_g10, xm_g11, xm_g12, xm_g14, xm_i2, xm_i4, xm_i6, xm_i13, xm_i15, Option.bind_some, xc_0, xm_p2, xm_p6, xm_p13, xm_p15, s_behind, hb, hl, nI_add]
    rw [if_pos (by rw [nI_leI (by omega) (by omega)]; omega)]
/-- why a syllable isn't hit: mt ticks match, on is its onset -/
def ms_why (s hd : Nat → Int32) (k bg ln : Nat) (mt on : Int32) : Int32 :=
  if ms_cnt (fun t => decide (0 < hd t)) bg ln = 0 then 1 else if mt = 0 then 2 else if on = -5 then 3 else if s 4 ≤ mt * 100 / s (6 + 5 * k + 1) then 0 else 4
theorem s_reasonOf {N k bg ln : Nat} (hN : 3000 ≤ N) (hk : k < 40) (hb : V 1 (6 + 5 * k) = nI bg) (hl : V 1 (6 + 5 * k + 1) = nI ln) (hbl : bg + ln ≤ 600) (h1 : 1 ≤ ln) : f_X2_reasonOf N (some b) (nI k) (xm_M h b F V) = some (ms_why (V 1) (V 5) k bg ln (V 6 k) (V 7 k), xm_M h b F V, 0, 0) := by
  unfold f_X2_reasonOf
  simp (disch := omega) only [xm_chk, xm_g0, xm_g1, xm_g3, xm_g5, xm_g7, xm_g8, xm_g9, xm_g10, xm_g11, xm_g12, xm_g14, xm_i2, xm_i4, xm_i6, xm_i13, xm_i15, Option.bind_some, xc_0, xm_p2, xm_p6, xm_p13, xm_p15, s_of0, Nat.add_zero, hb]
  have key := xl_run (fun _ _ _ _ _ => none) (fun k3 => f_X2_reasonOf_b9 N k3)
    (fun c f => f (some b) (nI k) (nI (ms_cnt (fun t => decide (0 < V 5 t)) bg c)) (nI (bg + c)) (xm_M h b F V))
    (some (ms_why (V 1) (V 5) k bg ln (V 6 k) (V 7 k), xm_M h b F V, 0, 0)) ln ?_ ?_ N 0 (by omega) (by omega)
  · exact key
  · intro f c hc
    show f_X2_reasonOf_b9 N f _ _ _ _ _ = _
    unfold f_X2_reasonOf_b9 f_X2_reasonOf_b33
    simp (disch := omega) only [xm_chk, xm_g0, xm_g1, xm_g3, xm_g5, xm_g7, xm_g8, xm_g9, xm_g10, xm_g11, xm_g12, xm_g14, xm_i2, xm_i4, xm_i6, xm_i13, xm_i15, Option.bind_some, xc_0, xm_p2, xm_p6, xm_p13, xm_p15, s_behind, hb, hl, nI_add, xm_l5, nI_1, nI_p0]
    rw [if_neg (by rw [nI_leI (by omega) (by omega)]; omega)]
    show _ = f _ _ (nI (ms_cnt _ _ c + (if decide (0 < V 5 (bg + c)) then 1 else 0))) _ _
    generalize ms_cnt (fun t => decide (0 < V 5 t)) bg c = x
    by_cases h2 : V 5 (bg + c) ≤ 0
    · rw [if_pos h2, decide_eq_false (Int32.not_lt.mpr h2)]; rfl
    · rw [if_neg h2, decide_eq_true (Int32.not_le.mp h2)]; rfl
  · intro f
    show f_X2_reasonOf_b9 N f _ _ _ _ _ = _
    unfold f_X2_reasonOf_b9 f_X2_reasonOf_b41 ms_why
    have hsh := s_share (h := h) (b := b) (F := F) (V := V) (N := N) hk (by rw [hl]; exact nI_ne0 (by omega) (by omega))
    simp (disch := omega) only [xm_chk, xm_g0, xm_g1, xm_g3, xm_g5, xm_g7, xm_g8, xm_g9, xm_g10, xm_g11, xm_g12, xm_g14, xm_i2, xm_i4, xm_i6, xm_i13, xm_i15, Option.bind_some, xc_0, xm_p2, xm_p6, xm_p13, xm_p15, hsh, s_behind, hb, hl, nI_add, xm_l6, xm_l7, xm_l1c0, xm_l1c1, xm_l1c2, xm_l1c3, xm_l1c4, xm_l1c5, s_of0, s_of1, s_of2, s_of3, s_of4]
    rw [if_pos (by rw [nI_leI (by omega) (by omega)]; omega)]
    have hc := ms_cnt_le (fun t => decide (0 < V 5 t)) bg ln
    by_cases h2 : ms_cnt (fun t => decide (0 < V 5 t)) bg ln = 0
    · rw [if_pos h2, h2, if_pos (show nI 0 = 0 from rfl)]
    · rw [if_neg h2, if_neg (nI_ne0 (by omega) (by omega))]
      by_cases h3 : V 6 k = 0
      · rw [if_pos h3, if_pos h3]
      · rw [if_neg h3, if_neg h3]
        by_cases h4 : V 7 k = -5
        · rw [if_pos h4, if_pos h4]
        · rw [if_neg h4, if_neg h4]
          split <;> rfl
def ms_pts (s hd : Nat → Int32) (k bg ln : Nat) (mt on why row : Int32) : Int32 :=
  if why = 0 then
    (if 0 ≤ ((mt * 100 / s (6 + 5 * k + 1) + 5 * nI (ms_cnt (ms_bar s hd k true) (bg + 1) (ln - 1))) - 2 * ms_abs (on - s (6 + 5 * k))) then
      (((mt * 100 / s (6 + 5 * k + 1) + 5 * nI (ms_cnt (ms_bar s hd k true) (bg + 1) (ln - 1))) - 2 * ms_abs (on - s (6 + 5 * k))) * (10 + row)) / 10 else 0) else 0
theorem s_pointsOf {N k bg ln : Nat} (hN : 3000 ≤ N) (hk : k < 40) (hb : V 1 (6 + 5 * k) = nI bg) (hl : V 1 (6 + 5 * k + 1) = nI ln) (hbl : bg + ln ≤ 600) (h1 : 1 ≤ ln) (h0 : V 1 0 ≠ 0) : f_X2_pointsOf N (some b) (nI k) (xm_M h b F V) = some (ms_pts (V 1) (V 5) k bg ln (V 6 k) (V 7 k) (V 8 k) (V 9 k), xm_M h b F V, 0, 0) := by
  unfold f_X2_pointsOf ms_pts
  have hsh := s_share (h := h) (b := b) (F := F) (V := V) (N := N) hk (by rw [hl]; exact nI_ne0 (by omega) (by omega))
  have hbr := s_bars (h := h) (b := b) (F := F) (V := V) (sel := true) hN (show k < 155 by omega) hb hl hbl h1 h0
  rw [show xb01 true = (1 : Int32) from rfl] at hbr
  simp (disch := omega) only [xm_chk, xm_g0, xm_g1, xm_g3, xm_g5, xm_g7, xm_g8, xm_g9, xm_g10, xm_g11, xm_g12, xm_g14, xm_i2, xm_i4, xm_i6, xm_i13, xm_i15, Option.bind_some, xc_0, xm_p2, xm_p6, xm_p13, xm_p15, xm_l8, xm_l7, xm_l9, s_of0, Nat.add_zero, s_size, hsh, hbr]
  by_cases h2 : V 8 k = 0
  · rw [if_pos h2, if_pos h2]
    split <;> rfl
  · rw [if_neg h2, if_neg h2]
end MS
