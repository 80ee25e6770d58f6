/-! THE CLASS's CALLS: set, drop -/
set_option maxRecDepth 100000
section XT
variable {h : xh_H} {a b q : Nat} {L : Nat → Prop} {sn : Option Nat} {sv : Nat → Nat → Int32} {tv : Nat → Int32} {len : Int32} {ow : Nat → Nat} {Bk : Nat → xs_B} {hl : Nat} {hm : Int32} {he hc : Nat} {hr : Nat → Option Nat} {tx N : Nat}
theorem x_ls {j : Nat} {f : Nat → Int32} (hj : j < 5) : xh_ls (nI j) f = some (f j) := by
  unfold xh_ls
  rw [nI_clamp (by omega), if_pos ⟨nI_pos' (by omega), hj⟩]
theorem x_isRight {j : Nat} {v : Int32} (hj : j < 5) : f_X0_isRight N (nI j) v h = some (xin v (xh_least j) (xh_great j), h, 0, 0) := by
  unfold f_X0_isRight
  rw [x_ls hj, x_ls hj]
  simp only [Option.bind_some, x_isB, xc_0]
  rw [xbool xin_b]
theorem ms_se_lg {j : Nat} {v : Int32} (hj : j < 5) : ms_se (nI j) v = if xh_least j ≤ v ∧ v ≤ xh_great j then 0 else -2 := by
  have : j = 0 ∨ j = 1 ∨ j = 2 ∨ j = 3 ∨ j = 4 := by omega
  rcases this with rfl | rfl | rfl | rfl | rfl <;> rfl
theorem x_isSet {v : Int32} : f_X0_isSetting N v h = some (xin v 0 4, h, 0, 0) := by
  unfold f_X0_isSetting
  rw [x_isB, xc_0, xbool xin_b]
theorem ms_se_no {x v : Int32} (z : ¬ (0 ≤ x ∧ x ≤ 4)) : ms_se x v = -1 := by
  unfold ms_se
  have n0 : ¬ x = 0 := fun q => z (by rw [q]; decide)
  have n1 : ¬ x = 1 := fun q => z (by rw [q]; decide)
  have n2 : ¬ x = 2 := fun q => z (by rw [q]; decide)
  have n3 : ¬ x = 3 := fun q => z (by rw [q]; decide)
  have n4 : ¬ x = 4 := fun q => z (by rw [q]; decide)
  rw [if_neg n0, if_neg n1, if_neg n2, if_neg n3, if_neg n4]
theorem x_set0 {x v : Int32} (hx : XT h a b (lv q sn) q sn sv tv len ow Bk hl hm he hc hr tx) (z : ¬ ms_se x v = 0) : XOP (f_X0_set N (some a) x v h) (ms_se x v) h a b q sn sv tv len := by
  refine xt_noop hx (K := 0) (S := 0) (QX.eq ?_) (by omega) (by omega)
  unfold f_X0_set
  simp only [x_isSet, xc_0]
  by_cases y : 0 ≤ x ∧ x ≤ 4
  · rw [if_neg (fun w => xin_0.mp w y)]
    obtain ⟨q1, q2⟩ := nI_btw (n := 4) (by omega) y.1 y.2
    generalize x.toNatClampNeg = j at q1 q2
    subst q1
    rw [ms_se_lg (by omega)] at z ⊢
    have z' : ¬ (xh_least j ≤ v ∧ v ≤ xh_great j) := fun w => z (if_pos w)
    rw [x_isRight (by omega), xc_0, if_pos (xin_0.mpr z'), if_neg z']
  · rw [if_pos (xin_0.mpr y), ms_se_no y]
theorem x_set1 {j : Nat} {v : Int32} (hx : XT h a b (lv q sn) q sn sv tv len ow Bk hl hm he hc hr tx) (hj : j < 5) (z : ms_se (nI j) v = 0) (hv : sv 0 j = v) : XOP (f_X0_set N (some a) (nI j) v h) (-5) h a b q sn sv tv len := by
  refine xt_noop hx (K := 0) (S := 0) (QX.eq ?_) (by omega) (by omega)
  obtain ⟨⟨wf, o, s⟩, -⟩ := hx
  have hS := (s.1 0 (Or.inl rfl)).1
  rw [ms_se_lg (by omega)] at z
  have z' : xh_least j ≤ v ∧ v ≤ xh_great j := by
    by_cases w : xh_least j ≤ v ∧ v ≤ xh_great j
    · exact w
    · rw [if_neg w] at z; cases z
  unfold f_X0_set
  simp only [x_isSet, xc_0]
  rw [if_neg (fun w => xin_0.mp w ⟨nI_pos' (by omega), by rw [show (4 : Int32) = nI 4 from rfl, nI_leI (by omega) (by omega)]; omega⟩), x_isRight (by omega), xc_0, if_neg (fun w => xin_0.mp w z')]
  simp only [xo_0 o, sg_2 hS, sg_t hS hj, Option.bind_some]
  rw [if_pos hv]
theorem x_set2 {j : Nat} {v : Int32} (hN : 3000 ≤ N) (hx : XT h a b (lv q sn) q sn sv tv len ow Bk hl hm he hc hr tx) (hq : q ≤ 4) (hs : sn = none ∨ sn = some 5) (hj : j < 5) (z : ms_se (nI j) v = 0) (hv : ¬ sv 0 j = v) : XOP (f_X0_set N (some a) (nI j) v h) (sv 0 j) h a b (min q 3 + 1) sn (nsv q sv (upd (sv 0) j v)) tv len := by
  have hx' := hx
  obtain ⟨⟨wf, o, s⟩, -⟩ := hx'
  obtain ⟨hS, hok, -⟩ := s.1 0 (Or.inl rfl)
  refine xt_op (K := 0) (S := 0) hN hx hq hs (upd (sv 0) j v) (ms_ok_set hok z) (fun h1 ow1 Bk1 c kc ks e1 eB0 eB6 xe x1 => ?_) (by omega) (by omega)
  obtain ⟨⟨wf1, o1, s1⟩, -⟩ := x1
  obtain ⟨hS1, -, own1⟩ := s1.1 0 (Or.inl (Or.inl rfl))
  dsimp only at hS1
  rw [if_neg (show ¬ (0 : Nat) = 6 by omega)] at hS1
  obtain ⟨h2, f1, f2, f3⟩ := xs_tv wf1 hS1 hok.2.1 hj (v := v)
  have o2 := f3.get wf1 o1 (fun w => by
    obtain ⟨g, t1, -⟩ := hS1.2.2.2.1
    unfold XO at o1
    rw [w, t1] at o1; cases o1)
  refine ⟨h2, Bk1 0, _, 0, 0, fun rr err => ?_, by omega, by omega, f3, fun y y1 w => own1 y (Or.inr (Or.inr (Or.inr (Or.inl w)))), xs_im3 hS1, f2, rfl, fun y f => Or.inl ⟨hS1.lt wf1 f, own1 y f⟩⟩
  rw [ms_se_lg (by omega)] at z
  have z' : xh_least j ≤ v ∧ v ≤ xh_great j := by
    by_cases w : xh_least j ≤ v ∧ v ≤ xh_great j
    · exact w
    · rw [if_neg w] at z; cases z
  unfold f_X0_set
  simp only [x_isSet, xc_0]
  rw [if_neg (fun w => xin_0.mp w ⟨nI_pos' (by omega), by rw [show (4 : Int32) = nI 4 from rfl, nI_leI (by omega) (by omega)]; omega⟩), x_isRight (by omega), xc_0, if_neg (fun w => xin_0.mp w z')]
  simp only [xo_0 o, sg_2 hS, sg_t hS hj, sg_c hS, Option.bind_some]
  rw [if_neg hv, e1]
  simp only [xc_k, xo_0 o1, sg_2 hS1, f1, xo_c (A := (Bk1 0).1) o2, Option.bind_some, xa_0]
  rw [err]
  rcases rr with _ | ⟨y1, y2, y3, y4⟩
  · rfl
  · simp only [xh_cal, xh_ad, Nat.add_zero]
theorem ms_ok_drop {s : Nat → Int32} (h : ms_ok s) : ms_ok (upd s 5 (nI (ms_n s - 1))) ∧ ms_n (upd s 5 (nI (ms_n s - 1))) = ms_n s - 1 := by
  obtain ⟨h5, hn, hsy, hap, hfi, hst, hsu⟩ := h
  have ee : ∀ i, i ≠ 5 → upd s 5 (nI (ms_n s - 1)) i = s i := fun i hi => if_neg hi
  have e5 : upd s 5 (nI (ms_n s - 1)) 5 = nI (ms_n s - 1) := if_pos rfl
  have en : ms_n (upd s 5 (nI (ms_n s - 1))) = ms_n s - 1 := by
    show (upd s 5 (nI (ms_n s - 1)) 5).toNatClampNeg = _
    rw [e5, nI_clamp (by omega)]
  have eb : ∀ k, ms_b (upd s 5 (nI (ms_n s - 1))) k = ms_b s k := fun k => by unfold ms_b; rw [ee _ (by omega)]
  have el : ∀ k, ms_l (upd s 5 (nI (ms_n s - 1))) k = ms_l s k := fun k => by unfold ms_l; rw [ee _ (by omega)]
  refine ⟨⟨by rw [e5, en], by omega, fun k hk => ?_, fun k hk => ?_, fun hk => ?_, ?_, fun t ht => ?_⟩, en⟩
  · rw [ee _ (by omega), ee _ (by omega), ee _ (by omega), eb, el]
    exact hsy k (by omega)
  · rw [eb, eb, el]; exact hap k (by omega)
  · rw [ee _ (by omega)]; exact hfi (by omega)
  · rw [ee _ (by omega), ee _ (by omega)]; exact hst
  · rw [ee _ (by omega)]; exact hsu t ht
theorem x_drop0 (hx : XT h a b (lv q sn) q sn sv tv len ow Bk hl hm he hc hr tx) (z : ms_n (sv 0) = 0) : XOP (f_X0_drop N (some a) h) (-5) h a b q sn sv tv len := by
  refine xt_noop hx (K := 0) (S := 0) (QX.eq ?_) (by omega) (by omega)
  obtain ⟨⟨wf, o, s⟩, -⟩ := hx
  have hS := (s.1 0 (Or.inl rfl)).1
  unfold f_X0_drop
  simp only [xo_0 o, sg_0 hS, sg_l hS, jl_isEmpty hS.2.1, Option.bind_some, xc_0]
  rw [if_pos z, if_neg (by decide)]
theorem x_drop1 (hN : 3000 ≤ N) (hx : XT h a b (lv q sn) q sn sv tv len ow Bk hl hm he hc hr tx) (hq : q ≤ 4) (hs : sn = none ∨ sn = some 5) (z : ¬ ms_n (sv 0) = 0) : XOP (f_X0_drop N (some a) h) (nI (ms_n (sv 0) - 1)) h a b (min q 3 + 1) sn (nsv q sv (upd (sv 0) 5 (nI (ms_n (sv 0) - 1)))) tv len := by
  have hx' := hx
  obtain ⟨⟨wf, o, s⟩, -⟩ := hx'
  obtain ⟨hS, hok, -⟩ := s.1 0 (Or.inl rfl)
  have hn := hok.2.1
  obtain ⟨ok', en⟩ := ms_ok_drop hok
  refine xt_op (K := 0) (S := 0) hN hx hq hs _ ok' (fun h1 ow1 Bk1 c kc ks e1 eB0 eB6 xe x1 => ?_) (by omega) (by omega)
  obtain ⟨⟨wf1, o1, s1⟩, -⟩ := x1
  obtain ⟨hS1, -, own1⟩ := s1.1 0 (Or.inl (Or.inl rfl))
  dsimp only at hS1
  rw [if_neg (show ¬ (0 : Nat) = 6 by omega)] at hS1
  have hS1' : XS h1 (sv 0) (Bk1 0).1 (Bk1 0).2.1 (Bk1 0).2.2.1 (Bk1 0).2.2.2 := hS1
  obtain ⟨h2, rf2, f1, f2, f3, f4⟩ := jl_remove (N := N) (i := ms_n (sv 0) - 1) wf1 hS1'.2.1 (by omega) (fun k hk => sg_st hS1' hk)
  have cap0 : (Bk1 0).2.2.1 ≠ 0 := by have := hS1'.2.1.2.1; omega
  have hW : ∀ y, (y = (Bk1 0).1 1 ∨ y = (Bk1 0).1 4) → XFB (Bk1 0) y := by
    rintro y (w | w)
    · exact Or.inr (Or.inl w)
    · exact Or.inr (Or.inr (Or.inr (Or.inr ⟨w, cap0⟩)))
  have ec : ∀ (y : Nat) (e : xh_E), h1.1 y = some e → (∀ fs, e ≠ .inr (.inr (8, fs))) → (∀ n f, e ≠ .inr (.inl (n, f))) → ¬ (y = (Bk1 0).1 1 ∨ y = (Bk1 0).1 4) := by
    rintro y e ey n8 na (w | w)
    · rw [w, hS1'.2.1.1] at ey; cases ey; exact n8 _ rfl
    · rw [w, (jl_arr hS1'.2.1 (by omega)).2] at ey; cases ey; exact na _ _ rfl
  have o2 := f4.get wf1 o1 (ec _ _ o1 (fun _ w => by cases w) (fun _ _ w => by cases w))
  obtain ⟨fu, u1, u2⟩ := id hS1'.2.2.1
  obtain ⟨ft, t1, t2⟩ := id hS1'.2.2.2.1
  have ee : ∀ i, i ≠ 5 → upd (sv 0) 5 (nI (ms_n (sv 0) - 1)) i = sv 0 i := fun i hi => if_neg hi
  have hS2 : XS h2 (upd (sv 0) 5 (nI (ms_n (sv 0) - 1))) (Bk1 0).1 ((Bk1 0).2.1 + 1) (Bk1 0).2.2.1 rf2 := by
    refine ⟨f4.get wf1 hS1'.1 (ec _ _ hS1'.1 (fun _ w => by cases w) (fun _ _ w => by cases w)), by rw [en]; exact f2, ⟨fu, f4.get wf1 u1 (ec _ _ u1 (fun _ w => by cases w) (fun _ _ w => by cases w)), fun t ht => by rw [u2 t ht, ee _ (by omega)]⟩, ⟨ft, f4.get wf1 t1 (ec _ _ t1 (fun _ w => by cases w) (fun _ _ w => by cases w)), fun i hi => by rw [t2 i hi, ee _ (by omega)]⟩, fun k hk => ?_⟩
    rw [en] at hk
    obtain ⟨y, y1, y2⟩ := hS1'.2.2.2.2 k (by omega)
    refine ⟨y, by rw [f3 k (by omega), if_pos (by omega)]; exact y1, ?_⟩
    have ph : ms_ph (upd (sv 0) 5 (nI (ms_n (sv 0) - 1))) k = ms_ph (sv 0) k := by
      unfold ms_ph
      rw [ms_cnt_congr (p := ms_fst (upd (sv 0) 5 (nI (ms_n (sv 0) - 1)))) (p' := ms_fst (sv 0)) (k + 1) (fun i hi => by unfold ms_fst; rw [Nat.zero_add, ee _ (by omega)])]
    rw [ee _ (by omega), ee _ (by omega), ee _ (by omega), ee _ (by omega), ph]
    exact f4.get wf1 y2 (ec _ _ y2 (fun _ w => by cases w) (fun _ _ w => by cases w))
  refine ⟨h2, ((Bk1 0).1, (Bk1 0).2.1 + 1, (Bk1 0).2.2.1, rf2), _, 0, 0, fun rr err => ?_, by omega, by omega, f4, fun y y1 w => own1 y (hW y w), fun y fs ey w => ec y _ ey (fun _ w => by cases w) (fun _ _ w => by cases w) w, hS2, rfl, fun y f => Or.inl ⟨hS1.lt wf1 f, own1 y f⟩⟩
  unfold f_X0_drop
  simp only [xo_0 o, sg_0 hS, sg_l hS, sg_c hS, jl_isEmpty hS.2.1, Option.bind_some, xc_0]
  rw [if_neg z, if_pos rfl, e1]
  have em : nI (ms_n (sv 0)) - 1 = nI (ms_n (sv 0) - 1) := by rw [xl_1, pk_sub (by omega)]
  have hm2 := sg_many (N := N) hS2
  rw [en] at hm2
  have o2' : XO h2 a ((Bk1 0).1 0) _ _ _ _ := o2
  simp only [xc_k, xo_0 o1, sg_0 hS1', sg_l hS1', sg_c hS1', sg_many hS1', em, f1, Option.bind_some, xc_0, xo_0 (A := (Bk1 0).1) o2', sg_c hS2, hm2, xo_c (A := (Bk1 0).1) o2', xa_0]
  rw [err]
  rcases rr with _ | ⟨y1, y2, y3, y4⟩
  · rfl
  · simp only [xh_cal, xh_ad, Nat.add_zero]
end XT
