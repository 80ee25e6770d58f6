/-! THE CLASS's CALLS: ifSet -/
set_option maxRecDepth 100000
section XT
variable {h : xh_H} {a b q : Nat} {L : Nat → Prop} {sn : Option Nat} {sv : Nat → Nat → Int32} {tv : Nat → Int32} {len : Int32} {ow : Nat → Nat} {Bk : Nat → xs_B} {hl : Nat} {hm : Int32} {he hc : Nat} {hr : Nat → Option Nat} {tx N : Nat}
theorem x_ifSet0 {x v : Int32} (hx : XT h a b (lv q sn) q sn sv tv len ow Bk hl hm he hc hr tx) (z : ¬ ms_se x v = 0) : XOP (f_X0_ifSet N (some a) x v h) (ms_se x v) h a b q sn sv tv len := by
  refine xt_noop hx (K := 0) (S := 0) (QX.eq ?_) (by omega) (by omega)
  unfold f_X0_ifSet
  simp only [x_isSet, xc_0]
  by_cases y : 0 ≤ x ∧ x ≤ 4
  · rw [if_neg (fun w => xin_0.mp w y)]
    obtain ⟨q1, q2⟩ := nI_btw (n := 4) (by omega) y.1 y.2
    generalize x.toNatClampNeg = j at q1 q2
    subst q1
    rw [ms_se_lg (by omega)] at z ⊢
    have z' : ¬ (xh_least j ≤ v ∧ v ≤ xh_great j) := fun w => z (if_pos w)
    rw [x_isRight (by omega), xc_0, if_pos (xin_0.mpr z'), if_neg z']
  · rw [if_pos (xin_0.mpr y), ms_se_no y]
theorem x_ifSet1 {j : Nat} {v : Int32} (hN : 3000 ≤ N) (hx : XT h a b (lv q sn) q sn sv tv len ow Bk hl hm he hc hr tx) (hs : sn = none ∨ sn = some 5) (hj : j < 5) (z : ms_se (nI j) v = 0) : XOP (f_X0_ifSet N (some a) (nI j) v h) (pS (upd (sv 0) j v) 0 0) h a b q sn sv tv len := by
  have hx' := hx
  obtain ⟨⟨wf, o, s⟩, -⟩ := hx'
  obtain ⟨hS, hok, own⟩ := s.1 0 (Or.inl rfl)
  have hS' : XS h (sv 0) (Bk 0).1 (Bk 0).2.1 (Bk 0).2.2.1 (Bk 0).2.2.2 := hS
  have ok1 := ms_ok_set hok z
  have nS : ∀ {h' : xh_H} {t : Nat → Int32} {h'' : xh_H}, WF h' → XO h' a ((Bk 0).1 0) hl (sn.map fun k => (Bk k).1 0) tx len → XS h' t (Bk 0).1 (Bk 0).2.1 (Bk 0).2.2.1 (Bk 0).2.2.2 → XW (fun q => q = (Bk 0).1 3) h' h'' → XO h'' a ((Bk 0).1 0) hl (sn.map fun k => (Bk k).1 0) tx len := fun w o hS x => x.get w o (fun w => by
    obtain ⟨g, t1, -⟩ := hS.2.2.2.1
    unfold XO at o
    rw [w, t1] at o; cases o)
  obtain ⟨h1, f1, f2, f3⟩ := xs_tv wf hS' hok.2.1 hj (v := v)
  have o1 := nS wf o hS' f3
  have wf1 := f3.wf wf
  obtain ⟨h2, j1, j2, j3⟩ := x_judged (A := (Bk 0).1) hN wf1 o1 f2 ok1
  have wf2 := j2.wf wf1
  have hS2 := f2.ext wf1 j2
  have o2 : XO h2 a ((Bk 0).1 0) hl (sn.map fun k => (Bk k).1 0) tx len := j2.getE wf1 o1
  obtain ⟨h3, kc, ks, e3, x3, b1, b2⟩ := j_all (N := N) hN wf2 hS2 j3 ok1.2.1
  have w8 : ∀ k, k < ms_n (upd (sv 0) j v) → jzV (upd (sv 0) j v) (ms_hdz (upd (sv 0) j v) 0 0) 8 k = mj_why (upd (sv 0) j v) (ms_hdz (upd (sv 0) j v) 0 0) k := fun k hk => jzV_i (by omega) hk
  have w10 : ∀ k, k < ms_n (upd (sv 0) j v) → jzV (upd (sv 0) j v) (ms_hdz (upd (sv 0) j v) 0 0) 10 k = mj_pts (upd (sv 0) j v) (ms_hdz (upd (sv 0) j v) 0 0) k := fun k hk => jzV_i (by omega) hk
  have eP : pf_all (upd (sv 0) j v) (jzV (upd (sv 0) j v) (ms_hdz (upd (sv 0) j v) 0 0) 8) (jzV (upd (sv 0) j v) (ms_hdz (upd (sv 0) j v) 0 0) 10) (ms_n (upd (sv 0) j v)) (ms_phs (upd (sv 0) j v)) = pS (upd (sv 0) j v) 0 0 := pf_all_congr w8 w10 _
  rw [eP] at e3
  have wf3 := x3.wf wf2
  have hS3 := hS2.ext wf2 x3
  have o3 : XO h3 a ((Bk 0).1 0) hl (sn.map fun k => (Bk k).1 0) tx len := x3.getE wf2 o2
  obtain ⟨h4, g1, g2, g3⟩ := xs_tv wf3 hS3 ok1.2.1 hj (v := sv 0 j)
  have eback : upd (upd (sv 0) j v) j (sv 0 j) = sv 0 := by
    funext i
    unfold upd
    by_cases y : i = j
    · rw [if_pos y, y]
    · rw [if_neg y, if_neg y]
  rw [eback] at g2
  have xw : XW (fun q => q = (Bk 0).1 3) h h4 := ((f3.trans j2 (fun _ _ f => f.elim)).trans x3 (fun _ _ f => f.elim)).trans g3 (fun _ _ => id)
  have hs0 : sn ≠ some 0 := by rcases hs with y | y <;> rw [y] <;> intro z <;> cases z
  obtain ⟨x4, xk⟩ := xt_mut (B := Bk 0) hx (Or.inl rfl) hs0 xw (fun y y1 w => own y (Or.inr (Or.inr (Or.inr (Or.inl w))))) (xs_im3 hS') g2 hok rfl (fun y f => Or.inl ⟨hS.lt wf f, own y f⟩)
  have esv : (fun k => if k = 0 then sv 0 else sv k) = sv := by
    funext k
    by_cases y : k = 0
    · rw [if_pos y, y]
    · rw [if_neg y]
  rw [esv] at x4
  have x4' : XTT h4 a b q sn sv tv len := ⟨_, _, _, _, _, _, _, _, x4⟩
  refine ⟨h4, 6 + kc, 207 + ks, ?_, x4', xt_xk hx (Or.inl rfl) xk (fun _ _ w => w), by omega, by omega⟩
  rw [ms_se_lg (by omega)] at z
  have z' : xh_least j ≤ v ∧ v ≤ xh_great j := by
    by_cases w : xh_least j ≤ v ∧ v ≤ xh_great j
    · exact w
    · rw [if_neg w] at z; cases z
  unfold f_X0_ifSet
  simp only [x_isSet, xc_0]
  rw [if_neg (fun w => xin_0.mp w ⟨nI_pos' (by omega), by rw [show (4 : Int32) = nI 4 from rfl, nI_leI (by omega) (by omega)]; omega⟩), x_isRight (by omega), xc_0, if_neg (fun w => xin_0.mp w z')]
  simp only [xo_0 (A := (Bk 0).1) o, sg_2 hS', sg_t hS' hj, f1, xo_c (A := (Bk 0).1) o1, j1, xc_k, jv_c j3, e3, xo_0 (A := (Bk 0).1) o3, sg_2 hS3, g1, Option.bind_some]
  rfl
end XT
