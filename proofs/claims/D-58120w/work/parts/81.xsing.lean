/-! THE CLASS's CALLS: sing, silence, singAlong -/
set_option maxRecDepth 100000
theorem xc_id {ρ : Type} {r : xh_R ρ} : xh_cal r (fun x h => some (x, h, 0, 0)) = r := by
  rcases r with _ | ⟨y1, y2, y3, y4⟩
  · rfl
  · simp only [xh_cal, xh_ad, Nat.add_zero]
section XT
variable {h : xh_H} {a b q : Nat} {L : Nat → Prop} {sn : Option Nat} {sv : Nat → Nat → Int32} {tv : Nat → Int32} {len : Int32} {ow : Nat → Nat} {Bk : Nat → xs_B} {hl : Nat} {hm : Int32} {he hc : Nat} {hr : Nat → Option Nat} {tx N : Nat}
theorem x_areTicks {x c m : Int32} : f_X0_areTicks N x c m h = some (if (0 ≤ x ∧ x ≤ 599) ∧ (1 ≤ c ∧ c ≤ m) ∧ x + c ≤ 600 then 1 else 0, h, 0, 0) := by
  unfold f_X0_areTicks f_X0_areTicks_b29
  simp only [x_isTick, x_isB, xc_0]
  by_cases h1 : 0 ≤ x ∧ x ≤ 599
  · rw [if_neg (fun q => xin_0.mp q h1)]
    by_cases h2 : 1 ≤ c ∧ c ≤ m
    · rw [if_neg (fun q => xin_0.mp q h2)]
      by_cases h3 : x + c ≤ 600
      · rw [if_neg (Int32.not_lt.mpr h3), if_pos ⟨h1, h2, h3⟩]
      · rw [if_pos (Int32.not_le.mp h3), if_neg (fun q => h3 q.2.2)]
    · rw [if_pos (xin_0.mpr h2), if_neg (fun q => h2 q.2.1)]
  · rw [if_pos (xin_0.mpr h1), if_neg (fun q => h1 q.1)]
theorem x_sing0 {x c p : Int32} (hx : XT h a b (lv q sn) q sn sv tv len ow Bk hl hm he hc hr tx) (z : ¬ (ms_okT x c 64 ∧ (0 ≤ p ∧ p ≤ 60))) : XOP (f_X0_sing N (some a) x c p h) (-2) h a b q sn sv tv len := by
  refine xt_noop hx (K := 0) (S := 0) (QX.eq ?_) (by omega) (by omega)
  unfold f_X0_sing f_X0_sing_b17
  simp only [x_areTicks, x_isPitch, xc_0]
  by_cases h1 : (0 ≤ x ∧ x ≤ 599) ∧ (1 ≤ c ∧ c ≤ 64) ∧ x + c ≤ 600
  · rw [if_pos h1, if_neg (by decide), if_pos (xin_0.mpr (fun w => z ⟨h1, w⟩))]
  · rw [if_neg h1, if_pos rfl]
/-- the object behind a write of the song's row -/
theorem xo_n2 {h h' : xh_H} {s : Nat → Int32} {A : Nat → Nat} {mc : Int32} {cap : Nat} {rf : Nat → Option Nat} {sg hl : Nat} {sn' : Option Nat} {tx : Nat} {len : Int32} (w : WF h) (o : XO h a sg hl sn' tx len) (hS : XS h s A mc cap rf) (x : XW (fun q => q = A 2) h h') : XO h' a sg hl sn' tx len := x.get w o (fun z => by
  obtain ⟨f, u1, -⟩ := hS.2.2.1
  unfold XO at o
  rw [z, u1] at o; cases o)
/-- the song's row is sung from t on, c ticks; what is sung at i is x i, and 1 more -/
theorem xs_run {h : xh_H} {s : Nat → Int32} {A : Nat → Nat} {mc : Int32} {cap : Nat} {rf : Nat → Option Nat} {v : Nat → Int32} (w : WF h) (hS : XS h s A mc cap rf) (hn : ms_n s ≤ 40) (h1 : xh_H) (c t : Nat) (xw : XW (fun q => q = A 2) h h1) (hS1 : XS h1 (ms_run s t c v) A mc cap rf) (ht : t + c < 600) (p : Int32) (hp : p + 1 = v (t + c)) : ∃ h', xh_sv h1 (some (A 2)) 0 (nI (t + c)) p = some h' ∧ XS h' (ms_run s t (c + 1) v) A mc cap rf ∧ XW (fun q => q = A 2) h h' := by
  have en : ms_n (ms_run s t c v) = ms_n s := ms_n_e (ms_run_lo (by omega))
  obtain ⟨h', e1, e2, e3⟩ := xs_sv (xw.wf w) hS1 (by rw [en]; exact hn) ht (v := p)
  rw [hp, ms_run_s] at e2
  exact ⟨h', e1, e2, xw.trans e3 (fun _ _ => id)⟩
theorem x_sing1 {t c : Nat} {p : Int32} (hN : 3000 ≤ N) (hx : XT h a b (lv q sn) q sn sv tv len ow Bk hl hm he hc hr tx) (hq : q ≤ 4) (hs : sn = none ∨ sn = some 5) (z : ms_okT (nI t) (nI c) 64 ∧ (0 ≤ p ∧ p ≤ 60)) (ht : t < 600) (hcc : c ≤ 64) (htc : t + c ≤ 600) : XOP (f_X0_sing N (some a) (nI t) (nI c) p h) (ms_hits (ms_run (sv 0) t c (fun _ => p + 1))) h a b (min q 3 + 1) sn (nsv q sv (ms_run (sv 0) t c (fun _ => p + 1))) tv len := by
  have hx' := hx
  obtain ⟨⟨wf, o, s⟩, -⟩ := hx'
  obtain ⟨hS, hok, -⟩ := s.1 0 (Or.inl rfl)
  have ok' := ms_run_ok (a := t) (c := c) (x := fun _ => p + 1) hok (fun _ => pitch1 z.2)
  refine xt_op (K := 10) (S := 300) hN hx hq hs _ ok' (fun h1 ow1 Bk1 cc kc ks e1 eB0 eB6 xe x1 => ?_) (by omega) (by omega)
  obtain ⟨⟨wf1, o1, s1⟩, -⟩ := x1
  obtain ⟨hS1, -, own1⟩ := s1.1 0 (Or.inl (Or.inl rfl))
  dsimp only at hS1
  rw [if_neg (show ¬ (0 : Nat) = 6 by omega)] at hS1
  have hS1' : XS h1 (sv 0) (Bk1 0).1 (Bk1 0).2.1 (Bk1 0).2.2.1 (Bk1 0).2.2.2 := hS1
  have loop : ∀ m i (h2 : xh_H) n, i + m = c → m < n → XW (fun q => q = (Bk1 0).1 2) h1 h2 → XS h2 (ms_run (sv 0) t i (fun _ => p + 1)) (Bk1 0).1 (Bk1 0).2.1 (Bk1 0).2.2.1 (Bk1 0).2.2.2 →
      ∃ h3, f_X0_sing_l32 N n (some a) (nI t) (nI c) p (some cc) (nI (t + i)) h2 = f_X0_sing_b57 N (some a) (some cc) h3 ∧ XW (fun q => q = (Bk1 0).1 2) h1 h3 ∧ XS h3 (ms_run (sv 0) t c (fun _ => p + 1)) (Bk1 0).1 (Bk1 0).2.1 (Bk1 0).2.2.1 (Bk1 0).2.2.2 := by
    intro m
    induction m with
    | zero =>
      intro i h2 n hi hnn xw hS2
      obtain ⟨n, rfl⟩ : ∃ j, n = j + 1 := ⟨n - 1, by omega⟩
      have hic : i = c := by omega
      subst hic
      rw [show f_X0_sing_l32 N (n + 1) = f_X0_sing_b32 N (f_X0_sing_l32 N n) from rfl]
      unfold f_X0_sing_b32
      rw [nI_add, if_pos (Int32.le_refl _)]
      exact ⟨h2, rfl, xw, hS2⟩
    | succ m ih =>
      intro i h2 n hi hnn xw hS2
      obtain ⟨n, rfl⟩ : ∃ j, n = j + 1 := ⟨n - 1, by omega⟩
      obtain ⟨h3, f1, f2, f3⟩ := xs_run (v := fun _ => p + 1) wf1 hS1' hok.2.1 h2 i t xw hS2 (by omega) p rfl
      have o2 := xo_n2 wf1 o1 hS1' xw
      rw [show f_X0_sing_l32 N (n + 1) = f_X0_sing_b32 N (f_X0_sing_l32 N n) from rfl]
      unfold f_X0_sing_b32
      rw [nI_add, if_neg (by rw [nI_leI (by omega) (by omega)]; omega)]
      simp only [xo_0 (A := (Bk1 0).1) o2, sg_1 hS2, f1, Option.bind_some, nI_1]
      exact ih (i + 1) h3 n (by omega) (by omega) f3 f2
  obtain ⟨h3, g1, g2, g3⟩ := loop c 0 h1 N (by omega) (by omega) XW.refl (by rw [ms_run_0]; exact hS1')
  have o3 := xo_n2 wf1 o1 hS1' g2
  have wf3 := g2.wf wf1
  obtain ⟨h4, j1, j2, j3⟩ := x_judged (A := (Bk1 0).1) hN wf3 o3 g3 ok'
  have hS4 := g3.ext wf3 j2
  have wf4 := j2.wf wf3
  have o4 : XO h4 a ((Bk1 0).1 0) _ _ _ _ := j2.getE wf3 o3
  refine ⟨h4, Bk1 0, _, 6, 207, fun rr err => ?_, by omega, by omega, g2.trans j2 (fun _ _ f => f.elim), fun y y1 w => own1 y (Or.inr (Or.inr (Or.inl w))), xs_im2 hS1', hS4, rfl, fun y f => Or.inl ⟨hS1.lt wf1 f, own1 y f⟩⟩
  unfold f_X0_sing
  simp only [x_areTicks, x_isPitch, xc_0]
  rw [if_pos (show (0 ≤ nI t ∧ nI t ≤ 599) ∧ (1 ≤ nI c ∧ nI c ≤ 64) ∧ nI t + nI c ≤ 600 from z.1), if_neg (by decide), if_neg (fun w => xin_0.mp w z.2)]
  simp only [xo_0 o, sg_c hS, Option.bind_some, e1, xc_k]
  have g1' : f_X0_sing_l32 N N (some a) (nI t) (nI c) p (some cc) (nI t) h1 = _ := g1
  rw [g1']
  unfold f_X0_sing_b57
  have w8 : ∀ k, k < ms_n (ms_run (sv 0) t c (fun _ => p + 1)) → jzV (ms_run (sv 0) t c (fun _ => p + 1)) (ms_hdz (ms_run (sv 0) t c (fun _ => p + 1)) 0 0) 8 k = mj_why (ms_run (sv 0) t c (fun _ => p + 1)) (ms_hdz (ms_run (sv 0) t c (fun _ => p + 1)) 0 0) k := fun k hk => jzV_i (by omega) hk
  have eh : ms_hits (ms_run (sv 0) t c (fun _ => p + 1)) = nI (ms_cnt (fun k => decide (jzV (ms_run (sv 0) t c (fun _ => p + 1)) (ms_hdz (ms_run (sv 0) t c (fun _ => p + 1)) 0 0) 8 k = 0)) 0 (ms_n (ms_run (sv 0) t c (fun _ => p + 1)))) := by
    unfold ms_hits
    rw [ms_cnt_congr (p := fun k => decide (mj_why (ms_run (sv 0) t c (fun _ => p + 1)) (ms_hdz (ms_run (sv 0) t c (fun _ => p + 1)) 0 0) k = 0)) (p' := fun k => decide (jzV (ms_run (sv 0) t c (fun _ => p + 1)) (ms_hdz (ms_run (sv 0) t c (fun _ => p + 1)) 0 0) 8 k = 0)) _ (fun i hi => by rw [Nat.zero_add, w8 i hi])]
  simp only [xo_c (A := (Bk1 0).1) o3, j1, xc_k, jv_c j3, j_hits hN hS4 j3 ok'.2.1, xo_c (A := (Bk1 0).1) o4, Option.bind_some, xc_0, xc_id, xa_0, ← eh]
  rw [err]
end XT
