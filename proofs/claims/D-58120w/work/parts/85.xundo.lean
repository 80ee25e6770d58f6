/-! THE CLASS's CALLS: undo, restore, ifSet -/
set_option maxRecDepth 100000
section XT
variable {h : xh_H} {a b q : Nat} {L : Nat → Prop} {sn : Option Nat} {sv : Nat → Nat → Int32} {tv : Nat → Int32} {len : Int32} {ow : Nat → Nat} {Bk : Nat → xs_B} {hl : Nat} {hm : Int32} {he hc : Nat} {hr : Nat → Option Nat} {tx N : Nat}
theorem x_restore0 (hx : XT h a b (lv q none) q none sv tv len ow Bk hl hm he hc hr tx) : XOP (f_X0_restore N (some a) h) (-5) h a b q none sv tv len := by
  refine xt_noop hx (K := 0) (S := 0) (QX.eq ?_) (by omega) (by omega)
  obtain ⟨⟨wf, o, s⟩, -⟩ := hx
  unfold f_X0_restore
  rw [xo_2 (A := (Bk 0).1) o]
  simp only [Option.bind_some, Option.map]
  rw [if_pos trivial]
theorem x_restore1 (hN : 3000 ≤ N) (hx : XT h a b (lv q (some 5)) q (some 5) sv tv len ow Bk hl hm he hc hr tx) (hq : q ≤ 4) : XOP (f_X0_restore N (some a) h) (sv 5 5) h a b (min q 3 + 1) (some 5) (nsv q sv (sv 5)) tv len := by
  have hx' := hx
  obtain ⟨⟨wf, o, s⟩, -⟩ := hx'
  obtain ⟨hS5, hok5, -⟩ := s.1 5 (Or.inr (Or.inr rfl))
  have s6 : ¬ lv q (some 5) 6 := by
    rintro (z | z | z)
    · omega
    · omega
    · cases z
  obtain ⟨h1, B, kc, ks, e1, xe, b1, b2, x1⟩ := xt_copy hN hx (k0 := 5) (k1 := 6) (Or.inr (Or.inr rfl)) s6 (by omega) (by omega) (fun z => by cases z)
  have x1' := x1
  obtain ⟨⟨wf1, o1, s1⟩, -, t1, -⟩ := x1'
  dsimp only at o1
  rw [if_neg (show ¬ (0 : Nat) = 6 by omega)] at o1
  have o1' : XO h1 a ((Bk 0).1 0) hl (some ((Bk 5).1 0)) tx len := o1
  have nat : a ≠ tx := fun z => by unfold XO at o1; rw [z, t1] at o1; cases o1
  have xw : XW (fun y => y = a ∨ y = tx) h1 (xh_set h1 a (.inr (.inr (0, [.ref (B.1 0), .ref hl, va_rf (some ((Bk 5).1 0)), .ref tx, .int len])))) := (XW.setp (wf1.1 _ _ o1)).mono (fun _ _ => Or.inl)
  obtain ⟨x2, k2⟩ := xt_re (fun k => if k = 0 then 6 else if k = 6 then 0 else k) x1 (Or.inl (Or.inl rfl)) xw (len' := len) (sn' := some 5) (tv' := tv) (L' := fun k => lv q (some 5) k ∨ k = 6) xs_eq (by rw [xs_ne nat.symm]; exact t1) (fun k hk => by
      by_cases z : k = 0
      · rw [if_pos z]; exact Or.inr rfl
      · rw [if_neg z]
        by_cases z' : k = 6
        · rw [if_pos z']; exact Or.inl (Or.inl rfl)
        · rw [if_neg z']; exact hk) (fun k k' hk hk' e => by
      by_cases z : k = 0
      · rw [if_pos z] at e
        by_cases y : k' = 0
        · omega
        · rw [if_neg y] at e
          by_cases y' : k' = 6
          · rw [if_pos y'] at e; omega
          · rw [if_neg y'] at e; omega
      · rw [if_neg z] at e
        by_cases z' : k = 6
        · rw [if_pos z'] at e
          by_cases y : k' = 0
          · rw [if_pos y] at e; omega
          · rw [if_neg y] at e
            by_cases y' : k' = 6
            · omega
            · rw [if_neg y'] at e; omega
        · rw [if_neg z'] at e
          by_cases y : k' = 0
          · rw [if_pos y] at e; omega
          · rw [if_neg y] at e
            by_cases y' : k' = 6
            · rw [if_pos y'] at e; omega
            · rw [if_neg y'] at e; exact e) (fun i hi => by rw [if_neg (by omega), if_neg (by omega)])
  have hS2 := (x2.1.2.2.1 0 (Or.inl (Or.inl rfl))).1
  dsimp only at hS2
  rw [if_pos rfl, if_pos rfl, if_pos rfl] at hS2
  obtain ⟨h3, hm', he', hc', hr', kc3, ks3, f1, f2, f3, f4, x3⟩ := xt_changed (res := nI (ms_n (sv 5))) hN x2 hq (Or.inr rfl)
  rw [if_neg (show ¬ (6 : Nat) = 0 by omega), if_pos rfl, if_neg (show ¬ (0 : Nat) = 6 by omega)] at f1
  have esv : (fun k => (fun k => (fun k => if k = 6 then sv 5 else sv k) (if k = 0 then 6 else if k = 6 then 0 else k)) (xph q k)) = nsv q sv (sv 5) := by
    funext k
    unfold nsv
    dsimp only
    generalize xph q k = i
    by_cases z : i = 0
    · rw [if_pos z, if_pos rfl, if_pos z]
    · rw [if_neg z, if_neg z]
      by_cases z' : i = 6
      · rw [if_pos z', if_pos z', if_neg (show ¬ (0 : Nat) = 6 by omega)]
      · rw [if_neg z', if_neg z', if_neg z']
  dsimp only at x3 esv
  rw [esv] at x3
  have x3' : XTT h3 a b (min q 3 + 1) (some 5) (nsv q sv (sv 5)) tv len := ⟨_, _, _, _, _, _, _, _, x3⟩
  refine ⟨h3, kc + kc3, ks + ks3, ?_, x3', ((xt_xe hx (Or.inl rfl) xe).trans k2).trans (xt_xk x2 (Or.inl (Or.inl rfl)) f4 (fun _ _ w => w)), by omega, by omega⟩
  unfold f_X0_restore
  rw [xo_2 (A := (Bk 0).1) o]
  simp only [Option.bind_some, Option.map]
  rw [if_neg (fun z => by cases z)]
  simp only [xo_0 (A := (Bk 0).1) o, sg_c hS5, Option.bind_some, e1, xc_k]
  rw [xo_pR o1' (by exact (by decide : 0 < 5))]
  simp only [Option.bind_some, List.set]
  rw [xo_gR (x := some (B.1 0)) (k := 0) xs_eq rfl]
  simp only [Option.bind_some]
  have hc2 := sg_c hS2
  have hm2 := sg_many (N := N) hS2
  have f1' : f_X0_changed N (some a) (some ((Bk 0).1 0)) (nI (ms_n (sv 5))) (xh_set h1 a (.inr (.inr (0, [va_rf (some (B.1 0)), .ref hl, va_rf (some ((Bk 5).1 0)), .ref tx, .int len])))) = _ := f1
  have hc2' : xh_chk (xh_set h1 a (.inr (.inr (0, [va_rf (some (B.1 0)), .ref hl, va_rf (some ((Bk 5).1 0)), .ref tx, .int len])))) (some (B.1 0)) 1 = some () := hc2
  have hm2' : f_X1_many N (some (B.1 0)) (xh_set h1 a (.inr (.inr (0, [va_rf (some (B.1 0)), .ref hl, va_rf (some ((Bk 5).1 0)), .ref tx, .int len])))) = some (nI (ms_n (sv 5)), xh_set h1 a (.inr (.inr (0, [va_rf (some (B.1 0)), .ref hl, va_rf (some ((Bk 5).1 0)), .ref tx, .int len]))), 0, 0) := hm2
  rw [hc2']
  simp only [Option.bind_some, hm2', xc_0, xo_chk xs_eq, f1', xc_id]
  rw [hok5.1]
  rfl
def usv (q : Nat) (sv : Nat → Nat → Int32) (k : Nat) : Nat → Int32 := sv (if k = 0 then q else k)
theorem x_undo0 (hx : XT h a b (lv 0 sn) 0 sn sv tv len ow Bk hl hm he hc hr tx) : XOP (f_X0_undo N (some a) h) (-5) h a b 0 sn sv tv len := by
  refine xt_noop hx (K := 0) (S := 0) (QX.eq ?_) (by omega) (by omega)
  obtain ⟨⟨wf, o, s⟩, ⟨l, r⟩, -⟩ := hx
  unfold f_X0_undo
  simp only [xo_1 (A := (Bk 0).1) o, xo_chk l.1, jl_isEmpty l, Option.bind_some, xc_0]
  rw [if_pos trivial, if_neg (by decide)]
theorem x_undo1 (hx : XT h a b (lv q sn) q sn sv tv len ow Bk hl hm he hc hr tx) (hq : q ≤ 4) (h1 : 1 ≤ q) (hs : sn = none ∨ sn = some 5) : XOP (f_X0_undo N (some a) h) (nI (q - 1)) h a b (q - 1) sn (usv q sv) tv len := by
  have hx' := hx
  obtain ⟨⟨wf, o, s⟩, ⟨l, r⟩, t, ⟨oa, ot, oh, oe⟩, ob, fs, em⟩ := hx'
  have lq : ∀ i, i < q → lv q sn (i + 1) := fun i hi => Or.inr (Or.inl ⟨by omega, by omega⟩)
  have hst : ∀ k, lv q sn k → xh_st h (some ((Bk k).1 0)) = true := fun k hk => xst_1 (s.1 k hk).1.1 (Or.inl rfl)
  obtain ⟨h2, rf2, e2, l2, r2, x2⟩ := jl_remove (N := N) (i := q - 1) wf l (by omega) (fun k hk => by rw [r k hk]; exact hst _ (lq k hk))
  have hc0 : hc ≠ 0 := by have := l.2.1; omega
  have own : ∀ y, (y = hl ∨ y = he) → ow y = hl := by
    rintro y (z | z)
    · rw [z]; exact oh
    · rw [z]; exact oe hc0
  have ida : ∀ k, lv q sn k → hl ≠ (Bk k).1 0 := fun k hk z => by
    have e := (s.1 k hk).1.1
    rw [← z, l.1] at e; cases e
  have hla : hl ≠ a := fun z => by have := l.1; rw [z] at this; unfold XO at o; rw [o] at this; cases this
  have hlb : hl ≠ b := fun z => by have := l.1; rw [z, em] at this; cases this
  have im : IM (fun y => y = hl ∨ y = he) h := by
    rintro y fs' e (z | z)
    · rw [z, l.1] at e; cases e
    · rw [z, (jl_arr l (by omega)).2] at e; cases e
  have o2 := x2.get wf o (fun w => hla ((own a w).symm.trans oa))
  have o2' : XO h2 a ((Bk 0).1 0) hl (sn.map fun k => (Bk k).1 0) tx len := o2
  have t2 := x2.get wf t (fun w => hla ((own tx w).symm.trans ot))
  have x2T : XT h2 a b (lv q sn) (q - 1) sn sv tv len ow Bk hl (hm + 1) he hc rf2 tx := by
    refine ⟨⟨x2.wf wf, o2, s.keep wf x2 (fun y _ w k hk z => ida k hk ((own y w).symm.trans z)) im⟩, ⟨l2, fun i hi => ?_⟩, t2, ⟨oa, ot, oh, oe⟩, fun y y1 y2 => ⟨(ob y y1 y2).1, Nat.lt_of_lt_of_le (ob y y1 y2).2 x2.2.1⟩, fs, x2.get wf em (fun w => hlb ((own b w).symm.trans (ob b (Nat.le_refl _) (by omega)).1))⟩
    rw [r2 i hi, if_pos (by omega)]
    exact r i (by omega)
  have k2 : XK b h h2 := xt_xk hx (Or.inl rfl) x2 (fun y _ w => Or.inr (Or.inl (own y w)))
  have nat : a ≠ tx := fun z => by unfold XO at o; rw [z, t] at o; cases o
  have xw : XW (fun y => y = a ∨ y = tx) h2 (xh_set h2 a (.inr (.inr (0, [.ref ((Bk q).1 0), .ref hl, va_rf (sn.map fun k => (Bk k).1 0), .ref tx, .int len])))) := (XW.setp ((x2.wf wf).1 _ _ o2)).mono (fun _ _ => Or.inl)
  have b5 : ∀ k, lv (q - 1) sn k → k ≠ q := by
    rintro k (w | w | w)
    · omega
    · omega
    · rcases hs with z | z <;> rw [z] at w <;> cases w
      omega
  have esn : (sn.map fun k => (Bk (if k = 0 then q else k)).1 0) = sn.map fun k => (Bk k).1 0 := by
    rcases hs with z | z <;> rw [z] <;> rfl
  obtain ⟨x3, k3⟩ := xt_re (fun k => if k = 0 then q else k) x2T (Or.inl rfl) xw (len' := len) (sn' := sn) (tv' := tv) (L' := lv (q - 1) sn) (by rw [esn, if_pos rfl]; exact xs_eq) (by rw [xs_ne nat.symm]; exact t2) (fun k hk => by
      by_cases z : k = 0
      · rw [if_pos z]; exact Or.inr (Or.inl ⟨h1, Nat.le_refl _⟩)
      · rw [if_neg z]
        rcases hk with w | w | w
        · exact absurd w z
        · exact Or.inr (Or.inl ⟨w.1, by omega⟩)
        · exact Or.inr (Or.inr w)) (fun k k' hk hk' e => by
      have c1 := b5 k hk
      have c2 := b5 k' hk'
      by_cases z : k = 0
      · rw [if_pos z] at e
        by_cases y : k' = 0
        · omega
        · rw [if_neg y] at e; exact absurd e.symm c2
      · rw [if_neg z] at e
        by_cases y : k' = 0
        · rw [if_pos y] at e; exact absurd e c1
        · rw [if_neg y] at e; exact e) (fun i hi => if_neg (by omega))
  have x3' : XTT (xh_set h2 a (.inr (.inr (0, [.ref ((Bk q).1 0), .ref hl, va_rf (sn.map fun k => (Bk k).1 0), .ref tx, .int len])))) a b (q - 1) sn (usv q sv) tv len := ⟨_, _, _, _, _, _, _, _, x3⟩
  refine ⟨_, 0, 0, ?_, x3', k2.trans k3, by omega, by omega⟩
  have hr1 : hr (q - 1) = some ((Bk q).1 0) := by rw [r (q - 1) (by omega), show q - 1 + 1 = q by omega]
  have hSq := (x2T.1.2.2.1 q (Or.inr (Or.inl ⟨h1, Nat.le_refl _⟩))).1
  have em1 : nI q - 1 = nI (q - 1) := by rw [xl_1, pk_sub (by omega)]
  have l3 : XL (xh_set h2 a (.inr (.inr (0, [.ref ((Bk q).1 0), .ref hl, va_rf (sn.map fun k => (Bk k).1 0), .ref tx, .int len])))) hl (hm + 1) he hc (q - 1) rf2 := x3.2.1.1
  unfold f_X0_undo
  simp only [xo_1 (A := (Bk 0).1) o, xo_chk l.1, jl_isEmpty l, jl_size l, Option.bind_some, xc_0]
  rw [if_neg (show ¬ q = 0 by omega), if_pos rfl]
  simp only [em1, e2, hr1, xc_0, xo_cc hSq.1, Option.bind_some]
  rw [xo_pR o2' (by exact (by decide : 0 < 5))]
  simp only [Option.bind_some, List.set]
  rw [xo_gR (x := some hl) (k := 1) xs_eq rfl]
  simp only [Option.bind_some]
  have c3 := xo_chk l3.1
  have z3 := jl_size (N := N) l3
  have c3' : xh_chk (xh_set h2 a (.inr (.inr (0, [va_rf (some ((Bk q).1 0)), .ref hl, va_rf (sn.map fun k => (Bk k).1 0), .ref tx, .int len])))) (some hl) 8 = some () := c3
  rw [c3']
  simp only [Option.bind_some]
  exact congrArg (fun z => xh_cal z _) z3
end XT
