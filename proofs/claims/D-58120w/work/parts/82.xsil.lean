/-! THE CLASS's CALLS: silence, singAlong -/
set_option maxRecDepth 100000
section XT
variable {h : xh_H} {a b q : Nat} {L : Nat → Prop} {sn : Option Nat} {sv : Nat → Nat → Int32} {tv : Nat → Int32} {len : Int32} {ow : Nat → Nat} {Bk : Nat → xs_B} {hl : Nat} {hm : Int32} {he hc : Nat} {hr : Nat → Option Nat} {tx N : Nat}
theorem x_jhits {h3 : xh_H} {s' : Nat → Int32} {A : Nat → Nat} {mc : Int32} {cap : Nat} {rf : Nat → Option Nat} {sn' : Option Nat} (hN : 3000 ≤ N) (w : WF h3) (o : XO h3 a (A 0) hl sn' tx len) (hS : XS h3 s' A mc cap rf) (ok : ms_ok s') :
    ∃ h4 j, f_X0_judged N (some a) h3 = some (some j, h4, 6, 207) ∧ xh_chk h4 (some j) 7 = some () ∧ f_X7_hits N (some j) (-5) h4 = some (ms_hits s', h4, 0, 0) ∧ XE h3 h4 := by
  obtain ⟨h4, j1, j2, j3⟩ := x_judged hN w o hS ok
  have hS4 := hS.ext w j2
  refine ⟨h4, _, j1, jv_c j3, ?_, j2⟩
  rw [j_hits hN hS4 j3 ok.2.1]
  have w8 : ∀ k, k < ms_n s' → jzV s' (ms_hdz s' 0 0) 8 k = mj_why s' (ms_hdz s' 0 0) k := fun k hk => jzV_i (by omega) hk
  unfold ms_hits
  rw [ms_cnt_congr (p := fun k => decide (jzV s' (ms_hdz s' 0 0) 8 k = 0)) (p' := fun k => decide (mj_why s' (ms_hdz s' 0 0) k = 0)) _ (fun i hi => by rw [Nat.zero_add, w8 i hi])]
theorem x_silence0 {x c : Int32} (hx : XT h a b (lv q sn) q sn sv tv len ow Bk hl hm he hc hr tx) (z : ¬ ms_okT x c 600) : XOP (f_X0_silence N (some a) x c h) (-2) h a b q sn sv tv len := by
  refine xt_noop hx (K := 0) (S := 0) (QX.eq ?_) (by omega) (by omega)
  unfold f_X0_silence
  simp only [x_areTicks, xc_0]
  rw [if_neg (show ¬ ((0 ≤ x ∧ x ≤ 599) ∧ (1 ≤ c ∧ c ≤ 600) ∧ x + c ≤ 600) from z), if_pos rfl]
theorem x_silence1 {t c : Nat} (hN : 3000 ≤ N) (hx : XT h a b (lv q sn) q sn sv tv len ow Bk hl hm he hc hr tx) (hq : q ≤ 4) (hs : sn = none ∨ sn = some 5) (z : ms_okT (nI t) (nI c) 600) (ht : t < 600) (htc : t + c ≤ 600) : XOP (f_X0_silence N (some a) (nI t) (nI c) h) (nI (ms_cnt (fun i => decide (0 < sv 0 (206 + i))) t c)) h a b (min q 3 + 1) sn (nsv q sv (ms_run (sv 0) t c (fun _ => 0))) tv len := by
  have hx' := hx
  obtain ⟨⟨wf, o, s⟩, -⟩ := hx'
  obtain ⟨hS, hok, -⟩ := s.1 0 (Or.inl rfl)
  have ok' := ms_run_ok (a := t) (c := c) (x := fun _ => 0) hok (fun _ => by decide)
  refine xt_op (K := 0) (S := 0) hN hx hq hs _ ok' (fun h1 ow1 Bk1 cc kc ks e1 eB0 eB6 xe x1 => ?_) (by omega) (by omega)
  obtain ⟨⟨wf1, o1, s1⟩, -⟩ := x1
  obtain ⟨hS1, -, own1⟩ := s1.1 0 (Or.inl (Or.inl rfl))
  dsimp only at hS1
  rw [if_neg (show ¬ (0 : Nat) = 6 by omega)] at hS1
  have hS1' : XS h1 (sv 0) (Bk1 0).1 (Bk1 0).2.1 (Bk1 0).2.2.1 (Bk1 0).2.2.2 := hS1
  have loop : ∀ m i (h2 : xh_H) n, i + m = c → m < n → XW (fun q => q = (Bk1 0).1 2) h1 h2 → XS h2 (ms_run (sv 0) t i (fun _ => 0)) (Bk1 0).1 (Bk1 0).2.1 (Bk1 0).2.2.1 (Bk1 0).2.2.2 →
      ∃ h3, f_X0_silence_l28 N n (some a) (nI t) (nI c) (some cc) (nI (ms_cnt (fun i => decide (0 < sv 0 (206 + i))) t i)) (nI (t + i)) h2 = f_X0_silence_b77 N (some a) (some cc) (nI (ms_cnt (fun i => decide (0 < sv 0 (206 + i))) t c)) h3 ∧ XW (fun q => q = (Bk1 0).1 2) h1 h3 ∧ XS h3 (ms_run (sv 0) t c (fun _ => 0)) (Bk1 0).1 (Bk1 0).2.1 (Bk1 0).2.2.1 (Bk1 0).2.2.2 := by
    intro m
    induction m with
    | zero =>
      intro i h2 n hi hnn xw hS2
      obtain ⟨n, rfl⟩ : ∃ j, n = j + 1 := ⟨n - 1, by omega⟩
      have hic : i = c := by omega
      subst hic
      rw [show f_X0_silence_l28 N (n + 1) = f_X0_silence_b28 N (f_X0_silence_l28 N n) from rfl]
      unfold f_X0_silence_b28
      rw [nI_add, if_pos (Int32.le_refl _)]
      exact ⟨h2, rfl, xw, hS2⟩
    | succ m ih =>
      intro i h2 n hi hnn xw hS2
      obtain ⟨n, rfl⟩ : ∃ j, n = j + 1 := ⟨n - 1, by omega⟩
      obtain ⟨h3, f1, f2, f3⟩ := xs_run (v := fun _ => 0) wf1 hS1' hok.2.1 h2 i t xw hS2 (by omega) (-1) rfl
      have o2 := xo_n2 wf1 o1 hS1' xw
      have hnx := ih (i + 1) h3 n (by omega) (by omega) f3 f2
      have hld : ms_run (sv 0) t i (fun _ => 0) (206 + (t + i)) = sv 0 (206 + (t + i)) := ms_run_hi (by omega)
      have ec : ms_cnt (fun i => decide (0 < sv 0 (206 + i))) t (i + 1) = ms_cnt (fun i => decide (0 < sv 0 (206 + i))) t i + (if decide (0 < sv 0 (206 + (t + i))) then 1 else 0) := rfl
      rw [ec] at hnx
      rw [show f_X0_silence_l28 N (n + 1) = f_X0_silence_b28 N (f_X0_silence_l28 N n) from rfl]
      unfold f_X0_silence_b28 f_X0_silence_b57
      rw [nI_add, if_neg (by rw [nI_leI (by omega) (by omega)]; omega)]
      simp only [xo_0 (A := (Bk1 0).1) o2, sg_1 hS2, sg_u hS2 (show t + i < 600 by omega), f1, Option.bind_some, nI_1, nI_p0, hld, xm1]
      have hz := hok.2.2.2.2.2.2 (t + i) (by omega)
      by_cases y : sv 0 (206 + (t + i)) = 0
      · rw [if_pos y]
        rw [y] at hnx
        exact hnx
      · have hp : 0 < sv 0 (206 + (t + i)) := by
          rcases Int32.le_iff_lt_or_eq.mp hz.1 with w | w
          · exact w
          · exact absurd w.symm y
        rw [if_neg y]
        rw [if_pos (decide_eq_true hp)] at hnx
        exact hnx
  obtain ⟨h3, g1, g2, g3⟩ := loop c 0 h1 N (by omega) (by omega) XW.refl (by rw [ms_run_0]; exact hS1')
  have o3 := xo_n2 wf1 o1 hS1' g2
  refine ⟨h3, Bk1 0, _, 0, 0, fun rr err => ?_, by omega, by omega, g2, fun y y1 w => own1 y (Or.inr (Or.inr (Or.inl w))), xs_im2 hS1', g3, rfl, fun y f => Or.inl ⟨hS1.lt wf1 f, own1 y f⟩⟩
  unfold f_X0_silence
  simp only [x_areTicks, xc_0]
  rw [if_pos (show (0 ≤ nI t ∧ nI t ≤ 599) ∧ (1 ≤ nI c ∧ nI c ≤ 600) ∧ nI t + nI c ≤ 600 from z), if_neg (by decide)]
  simp only [xo_0 o, sg_c hS, Option.bind_some, e1, xc_k]
  have g1' : f_X0_silence_l28 N N (some a) (nI t) (nI c) (some cc) 0 (nI t) h1 = _ := g1
  rw [g1']
  unfold f_X0_silence_b77
  simp only [xo_c (A := (Bk1 0).1) o3, Option.bind_some, xc_id, xa_0]
  rw [err]
theorem x_singAlong0 {x y by_ : Int32} (hx : XT h a b (lv q sn) q sn sv tv len ow Bk hl hm he hc hr tx) (z : ¬ (0 ≤ x ∧ x ≤ sv 0 5 - 1) ∨ ¬ (0 ≤ y ∧ y ≤ sv 0 5 - 1)) : XOP (f_X0_singAlong N (some a) x y by_ h) (-1) h a b q sn sv tv len := by
  refine xt_noop hx (K := 0) (S := 0) (QX.eq ?_) (by omega) (by omega)
  obtain ⟨⟨wf, o, s⟩, -⟩ := hx
  obtain ⟨hS, hok, -⟩ := s.1 0 (Or.inl rfl)
  unfold f_X0_singAlong f_X0_singAlong_b16
  simp only [xo_c o, x_isS o hS hok, Option.bind_some, xc_0]
  by_cases z1 : 0 ≤ x ∧ x ≤ sv 0 5 - 1
  · rw [if_neg (fun w => xin_0.mp w z1), if_pos (xin_0.mpr (z.resolve_left (fun w => w z1)))]
  · rw [if_pos (xin_0.mpr z1)]
theorem x_singAlong1 {x y by_ : Int32} (hx : XT h a b (lv q sn) q sn sv tv len ow Bk hl hm he hc hr tx) (z1 : 0 ≤ x ∧ x ≤ sv 0 5 - 1) (z2 : 0 ≤ y ∧ y ≤ sv 0 5 - 1) (z : y < x ∨ ¬ (-60 ≤ by_ ∧ by_ ≤ 60)) : XOP (f_X0_singAlong N (some a) x y by_ h) (-2) h a b q sn sv tv len := by
  refine xt_noop hx (K := 0) (S := 0) (QX.eq ?_) (by omega) (by omega)
  obtain ⟨⟨wf, o, s⟩, -⟩ := hx
  obtain ⟨hS, hok, -⟩ := s.1 0 (Or.inl rfl)
  unfold f_X0_singAlong f_X0_singAlong_b16 f_X0_singAlong_b34
  simp only [xo_c o, x_isS o hS hok, x_isB, Option.bind_some, xc_0]
  rw [if_neg (fun w => xin_0.mp w z1), if_neg (fun w => xin_0.mp w z2)]
  by_cases z3 : y < x
  · rw [if_pos z3]
  · rw [if_neg z3, if_pos (xin_0.mpr (z.resolve_left z3))]
end XT
