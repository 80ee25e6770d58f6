/-! THE CLASS's CALLS: singAlong -/
set_option maxRecDepth 100000
section XT
variable {h : xh_H} {a b q : Nat} {L : Nat → Prop} {sn : Option Nat} {sv : Nat → Nat → Int32} {tv : Nat → Int32} {len : Int32} {ow : Nat → Nat} {Bk : Nat → xs_B} {hl : Nat} {hm : Int32} {he hc : Nat} {hr : Nat → Option Nat} {tx N : Nat}
theorem x_singAlong2 {f g : Nat} {by_ : Int32} (hN : 3000 ≤ N) (hx : XT h a b (lv q sn) q sn sv tv len ow Bk hl hm he hc hr tx) (hq : q ≤ 4) (hs : sn = none ∨ sn = some 5) (hfg : f ≤ g) (hg : g < ms_n (sv 0)) (hby : -60 ≤ by_ ∧ by_ ≤ 60) : XOP (f_X0_singAlong N (some a) (nI f) (nI g) by_ h) (ms_hits (ms_sa (sv 0) by_ f (g + 1 - f))) h a b (min q 3 + 1) sn (nsv q sv (ms_sa (sv 0) by_ f (g + 1 - f))) tv len := by
  have hx' := hx
  obtain ⟨⟨wf, o, s⟩, -⟩ := hx'
  obtain ⟨hS, hok, -⟩ := s.1 0 (Or.inl rfl)
  have hok' := hok
  obtain ⟨h5, hn, hsy, -⟩ := hok'
  have ok' := ms_sa_ok (by_ := by_) (first := f) hok (g + 1 - f)
  refine xt_op (K := 10) (S := 300) hN hx hq hs _ ok' (fun h1 ow1 Bk1 cc kc ks e1 eB0 eB6 xe x1 => ?_) (by omega) (by omega)
  obtain ⟨⟨wf1, o1, s1⟩, -⟩ := x1
  obtain ⟨hS1, -, own1⟩ := s1.1 0 (Or.inl (Or.inl rfl))
  dsimp only at hS1
  rw [if_neg (show ¬ (0 : Nat) = 6 by omega)] at hS1
  have hS1' : XS h1 (sv 0) (Bk1 0).1 (Bk1 0).2.1 (Bk1 0).2.2.1 (Bk1 0).2.2.2 := hS1
  have lo : ∀ i j, j < 206 → ms_sa (sv 0) by_ f i j = sv 0 j := fun i j hj => ms_sa_lo hj i
  -- one syllable
  have inner : ∀ (k49 : Option Nat → Int32 → Int32 → Option Nat → Int32 → xh_H → xh_R Int32) k (h2 : xh_H) (s2 : Nat → Int32), k < ms_n (sv 0) → XW (fun q => q = (Bk1 0).1 2) h1 h2 → XS h2 s2 (Bk1 0).1 (Bk1 0).2.1 (Bk1 0).2.2.1 (Bk1 0).2.2.2 → (∀ j, j < 206 → s2 j = sv 0 j) →
      ∀ m i (h3 : xh_H) n, i + m = ms_l (sv 0) k → m < n → XW (fun q => q = (Bk1 0).1 2) h2 h3 → XS h3 (ms_run s2 (ms_b (sv 0) k) i (ms_sak (sv 0) by_ k)) (Bk1 0).1 (Bk1 0).2.1 (Bk1 0).2.2.1 (Bk1 0).2.2.2 →
      ∃ h4, f_X0_singAlong_l81 N k49 n (some a) (nI g) by_ (some cc) (nI k) (some (xy (Bk1 0).2.2.2 k)) (nI (ms_b (sv 0) k + i)) h3 = k49 (some a) (nI g) by_ (some cc) (nI (k + 1)) h4 ∧ XW (fun q => q = (Bk1 0).1 2) h1 h4 ∧ XS h4 (ms_run s2 (ms_b (sv 0) k) (ms_l (sv 0) k) (ms_sak (sv 0) by_ k)) (Bk1 0).1 (Bk1 0).2.1 (Bk1 0).2.2.1 (Bk1 0).2.2.2 := by
    intro k49 k h2 s2 hk xw2 hS2 e2 m
    obtain ⟨hb, hl1, hl2, hl3, hbl, hfs⟩ := hsy k hk
    have en2 : ms_n s2 = ms_n (sv 0) := ms_n_e (e2 5 (by omega))
    induction m with
    | zero =>
      intro i h3 n hi hnn xw hS3
      obtain ⟨n, rfl⟩ : ∃ j, n = j + 1 := ⟨n - 1, by omega⟩
      have hic : i = ms_l (sv 0) k := by omega
      subst hic
      have hk3 : k < ms_n (ms_run s2 (ms_b (sv 0) k) (ms_l (sv 0) k) (ms_sak (sv 0) by_ k)) := by rw [ms_n_e (ms_run_lo (by omega)), en2]; exact hk
      rw [show f_X0_singAlong_l81 N k49 (n + 1) = f_X0_singAlong_b81 N k49 (f_X0_singAlong_l81 N k49 n) from rfl]
      unfold f_X0_singAlong_b81 f_X0_singAlong_b132
      simp only [sg_yc hS3 hk3, sg_yend hS3 hk3, ms_run_lo (show 6 + 5 * k < 206 by omega), ms_run_lo (show 6 + 5 * k + 1 < 206 by omega), e2 _ (show 6 + 5 * k < 206 by omega), e2 _ (show 6 + 5 * k + 1 < 206 by omega), hb, hl1, nI_add, Option.bind_some, xc_0]
      rw [if_pos (Int32.le_refl _), nI_1]
      exact ⟨h3, rfl, xw2.trans xw (fun _ _ => id), hS3⟩
    | succ m ih =>
      intro i h3 n hi hnn xw hS3
      obtain ⟨n, rfl⟩ : ∃ j, n = j + 1 := ⟨n - 1, by omega⟩
      have hk3 : k < ms_n (ms_run s2 (ms_b (sv 0) k) i (ms_sak (sv 0) by_ k)) := by rw [ms_n_e (ms_run_lo (by omega)), en2]; exact hk
      have ew : ms_w (ms_run s2 (ms_b (sv 0) k) i (ms_sak (sv 0) by_ k)) k (nI (ms_b (sv 0) k + i) - nI (ms_b (sv 0) k)) = ms_w (sv 0) k (nI (ms_b (sv 0) k + i) - nI (ms_b (sv 0) k)) := by
        exact ms_w_congr (by omega) (fun j hj => by rw [ms_run_lo hj, e2 j hj])
      have o3 := xo_n2 wf1 o1 hS1' (xw2.trans xw (fun _ _ => id))
      rw [show f_X0_singAlong_l81 N k49 (n + 1) = f_X0_singAlong_b81 N k49 (f_X0_singAlong_l81 N k49 n) from rfl]
      unfold f_X0_singAlong_b81 f_X0_singAlong_b125
      simp only [sg_yc hS3 hk3, sg_yend hS3 hk3, sg_yw hS3 hk3, ms_run_lo (show 6 + 5 * k < 206 by omega), ms_run_lo (show 6 + 5 * k + 1 < 206 by omega), e2 _ (show 6 + 5 * k < 206 by omega), e2 _ (show 6 + 5 * k + 1 < 206 by omega), hb, hl1, nI_add, Option.bind_some, xc_0, xo_0 (A := (Bk1 0).1) o3, sg_1 hS3, x_isPitch, nI_1, ew]
      rw [if_neg (by rw [nI_leI (by omega) (by omega)]; omega)]
      by_cases z : 0 ≤ ms_w (sv 0) k (nI (ms_b (sv 0) k + i) - nI (ms_b (sv 0) k)) + by_ ∧ ms_w (sv 0) k (nI (ms_b (sv 0) k + i) - nI (ms_b (sv 0) k)) + by_ ≤ 60
      · rw [if_neg (fun w => xin_0.mp w z)]
        obtain ⟨h4, f1, f2, f3⟩ := xs_run (v := ms_sak (sv 0) by_ k) (xw2.wf wf1) hS2 (by rw [en2]; exact hn) h3 i (ms_b (sv 0) k) xw hS3 (by omega) (ms_w (sv 0) k (nI (ms_b (sv 0) k + i) - nI (ms_b (sv 0) k)) + by_) (by unfold ms_sak; rw [hb, if_pos z])
        rw [f1, Option.bind_some]
        exact ih (i + 1) h4 n (by omega) (by omega) f3 f2
      · rw [if_pos (xin_0.mpr z)]
        obtain ⟨h4, f1, f2, f3⟩ := xs_run (v := ms_sak (sv 0) by_ k) (xw2.wf wf1) hS2 (by rw [en2]; exact hn) h3 i (ms_b (sv 0) k) xw hS3 (by omega) (-1) (by unfold ms_sak; rw [hb, if_neg z]; rfl)
        rw [f1, Option.bind_some]
        exact ih (i + 1) h4 n (by omega) (by omega) f3 f2
  have loop : ∀ m i (h2 : xh_H) n, i + m = g + 1 - f → m < n → XW (fun q => q = (Bk1 0).1 2) h1 h2 → XS h2 (ms_sa (sv 0) by_ f i) (Bk1 0).1 (Bk1 0).2.1 (Bk1 0).2.2.1 (Bk1 0).2.2.2 →
      ∃ h3, f_X0_singAlong_l49 N n (some a) (nI g) by_ (some cc) (nI (f + i)) h2 = f_X0_singAlong_b138 N (some a) (some cc) h3 ∧ XW (fun q => q = (Bk1 0).1 2) h1 h3 ∧ XS h3 (ms_sa (sv 0) by_ f (g + 1 - f)) (Bk1 0).1 (Bk1 0).2.1 (Bk1 0).2.2.1 (Bk1 0).2.2.2 := by
    intro m
    induction m with
    | zero =>
      intro i h2 n hi hnn xw hS2
      obtain ⟨n, rfl⟩ : ∃ j, n = j + 1 := ⟨n - 1, by omega⟩
      have hic : i = g + 1 - f := by omega
      rw [show f_X0_singAlong_l49 N (n + 1) = f_X0_singAlong_b49 N (f_X0_singAlong_l49 N n) from rfl]
      unfold f_X0_singAlong_b49
      rw [if_pos (by rw [nI_ltI (by omega) (by omega)]; omega)]
      rw [hic] at hS2
      exact ⟨h2, rfl, xw, hS2⟩
    | succ m ih =>
      intro i h2 n hi hnn xw hS2
      obtain ⟨n, rfl⟩ : ∃ j, n = j + 1 := ⟨n - 1, by omega⟩
      have hk : f + i < ms_n (sv 0) := by omega
      obtain ⟨hb, hl1, hl2, hl3, hbl, hfs⟩ := hsy (f + i) hk
      have hk2 : f + i < ms_n (ms_sa (sv 0) by_ f i) := by rw [ms_n_e (lo i 5 (by omega))]; exact hk
      have o2 := xo_n2 wf1 o1 hS1' xw
      rw [show f_X0_singAlong_l49 N (n + 1) = f_X0_singAlong_b49 N (f_X0_singAlong_l49 N n) from rfl]
      unfold f_X0_singAlong_b49
      rw [if_neg (by rw [nI_ltI (by omega) (by omega)]; omega)]
      simp only [xo_0 (A := (Bk1 0).1) o2, sg_0 hS2, sg_l hS2, sg_get hS2 hk2, sg_yk hS2 hk2, sg_y0 hS2 hk2, lo i _ (show 6 + 5 * (f + i) < 206 by omega), hb, Option.bind_some, xc_0]
      obtain ⟨h4, f1, f2, f3⟩ := inner (f_X0_singAlong_l49 N n) (f + i) h2 _ hk xw hS2 (lo i) (ms_l (sv 0) (f + i)) 0 h2 N (by omega) (by omega) XW.refl (by rw [ms_run_0]; exact hS2)
      rw [Nat.add_zero] at f1
      rw [f1]
      exact ih (i + 1) h4 n (by omega) (by omega) f2 f3
  obtain ⟨h3, g1, g2, g3⟩ := loop (g + 1 - f) 0 h1 N (by omega) (by omega) XW.refl hS1'
  have o3 := xo_n2 wf1 o1 hS1' g2
  have wf3 := g2.wf wf1
  obtain ⟨h4, j, j1, j2, j3, j4⟩ := x_jhits (A := (Bk1 0).1) hN wf3 o3 g3 ok'
  have hS4 := g3.ext wf3 j4
  have o4 : XO h4 a ((Bk1 0).1 0) _ _ _ _ := j4.getE wf3 o3
  refine ⟨h4, Bk1 0, _, 6, 207, fun rr err => ?_, by omega, by omega, g2.trans j4 (fun _ _ f => f.elim), fun y y1 w => own1 y (Or.inr (Or.inr (Or.inl w))), xs_im2 hS1', hS4, rfl, fun y f => Or.inl ⟨hS1.lt wf1 f, own1 y f⟩⟩
  have z1 := (ms_isS h5 hn).mpr ⟨f, by omega, rfl⟩
  have z2 := (ms_isS h5 hn).mpr ⟨g, hg, rfl⟩
  unfold f_X0_singAlong
  simp only [xo_c o, x_isS o hS hok, x_isB, Option.bind_some, xc_0]
  rw [if_neg (fun w => xin_0.mp w z1), if_neg (fun w => xin_0.mp w z2), if_neg (by rw [nI_ltI (by omega) (by omega)]; omega), if_neg (fun w => xin_0.mp w hby)]
  simp only [xo_0 o, sg_c hS, Option.bind_some, e1, xc_k]
  rw [Nat.add_zero] at g1
  rw [g1]
  unfold f_X0_singAlong_b138
  simp only [xo_c (A := (Bk1 0).1) o3, j1, xc_k, j2, j3, xo_c (A := (Bk1 0).1) o4, Option.bind_some, xc_0, xc_id, xa_0]
  rw [err]
end XT
