/-! THE CLASS's SIDE: the history -/
set_option maxRecDepth 100000
def lv (q : Nat) (sn : Option Nat) (k : Nat) : Prop := k = 0 ∨ (1 ≤ k ∧ k ≤ q) ∨ sn = some k
def xph (q k : Nat) : Nat := if k = min q 3 + 1 then 6 else if q = 4 ∧ 1 ≤ k ∧ k ≤ 3 then k + 1 else k
section XT
variable {h : xh_H} {a b q : Nat} {L : Nat → Prop} {sn : Option Nat} {sv : Nat → Nat → Int32} {tv : Nat → Int32} {len : Int32} {ow : Nat → Nat} {Bk : Nat → xs_B} {hl : Nat} {hm : Int32} {he hc : Nat} {hr : Nat → Option Nat} {tx N : Nat}
theorem xt_changed {res : Int32} (hN : 3000 ≤ N) (x : XT h a b (fun k => lv q sn k ∨ k = 6) q sn sv tv len ow Bk hl hm he hc hr tx) (hq : q ≤ 4) (hs : sn = none ∨ sn = some 5) :
    ∃ h' hm' he' hc' hr' kc ks, f_X0_changed N (some a) (some ((Bk 6).1 0)) res h = some (res, h', kc, ks) ∧ kc ≤ 1 ∧ ks ≤ 75 ∧ XW (XWR a hl ((Bk 0).1 0) ow) h h' ∧
      XT h' a b (lv (min q 3 + 1) sn) (min q 3 + 1) sn (fun k => sv (xph q k)) tv len (fun x => if x < h.2.1 then ow x else hl) (fun k => Bk (xph q k)) hl hm' he' hc' hr' tx := by
  obtain ⟨⟨wf, o, s⟩, ⟨l, r⟩, t, ⟨oa, ot, oh, oe⟩, ob, m⟩ := x
  obtain ⟨hhl, hhe⟩ := jl_lt wf l
  have ha := wf.1 _ _ o
  have ht := wf.1 _ _ t
  have lt : ∀ k, (lv q sn k ∨ k = 6) → ∀ y, XFB (Bk k) y → y < h.2.1 := fun k hk y f => (s.1 k hk).1.lt wf f
  have hst : ∀ k, (lv q sn k ∨ k = 6) → xh_st h (some ((Bk k).1 0)) = true := fun k hk => xst_1 (s.1 k hk).1.1 (Or.inl rfl)
  have idx : ∀ i, i < q → lv q sn (i + 1) := fun i hi => Or.inr (Or.inl ⟨by omega, by omega⟩)
  have ida : ∀ k, (lv q sn k ∨ k = 6) → hl ≠ (Bk k).1 0 := fun k hk z => by
    have e := (s.1 k hk).1.1
    rw [← z, l.1] at e; cases e
  obtain ⟨fs, em⟩ := m
  have hlb : hl ≠ b := fun z => by have := l.1; rw [z, em] at this; cases this
  have hla : hl ≠ a := fun z => by have := l.1; rw [z] at this; unfold XO at o; rw [o] at this; cases this
  have him : ∀ W : Nat → Prop, (∀ y, W y → y = hl ∨ (y = he ∧ hc ≠ 0)) → IM W h := by
    intro W hW y fs' e w
    rcases hW y w with z | ⟨z, c⟩
    · rw [z, l.1] at e; cases e
    · rcases l.2.2.2 with ⟨c0, -⟩ | ⟨-, ea, -⟩
      · exact c c0
      · rw [z, ea] at e; cases e
  -- the end: a list with the copy at its end
  have fin : ∀ (h2 h' : xh_H) (W : Nat → Prop) (hm' : Int32) (he2 hc2 he' hc' : Nat) (hr' : Nat → Option Nat), XW W h h2 → (∀ y, W y → y = hl ∨ (y = he ∧ hc ≠ 0)) → WF h2 → he2 = he → hc2 = hc → XW (fun y => y = hl ∨ (y = he2 ∧ hc2 ≠ 0)) h2 h' → XL h' hl hm' he' hc' (min q 3 + 1) hr' → ((he' = he2 ∧ hc2 ≠ 0) ∨ h2.2.1 ≤ he') → (∀ i, i < min q 3 + 1 → hr' i = some ((Bk (xph q (i + 1))).1 0)) →
      XW (XWR a hl ((Bk 0).1 0) ow) h h' ∧ XT h' a b (lv (min q 3 + 1) sn) (min q 3 + 1) sn (fun k => sv (xph q k)) tv len (fun x => if x < h.2.1 then ow x else hl) (fun k => Bk (xph q k)) hl hm' he' hc' hr' tx := by
    intro h2 h' W hm' he2 hc2 he' hc' hr' x2 hW w2 e1 e2 x3 l' e' r'
    subst e1 e2
    have xx : XW (fun y => y = hl ∨ (y = he2 ∧ hc2 ≠ 0)) h h' := (x2.mono (fun y _ w => hW y w)).trans x3 (fun y _ => id)
    have own : ∀ y, (y = hl ∨ (y = he2 ∧ hc2 ≠ 0)) → ow y = hl := by
      rintro y (z | ⟨z, c⟩)
      · rw [z]; exact oh
      · rw [z]; exact oe c
    have k1 := s.keep wf xx (fun y _ w k hk z => ida k hk ((own y w).symm.trans z)) (him _ (fun y => id))
    have na : ¬ (a = hl ∨ (a = he2 ∧ hc2 ≠ 0)) := fun w => hla ((own a w).symm.trans oa)
    have nt : ¬ (tx = hl ∨ (tx = he2 ∧ hc2 ≠ 0)) := fun w => hla ((own tx w).symm.trans ot)
    have p0 : xph q 0 = 0 := by unfold xph; rw [if_neg (by omega), if_neg (by omega)]
    have psn : (sn.map fun k => (Bk (xph q k)).1 0) = sn.map fun k => (Bk k).1 0 := by
      rcases hs with z | z
      · rw [z]; rfl
      · rw [z]
        show some ((Bk (xph q 5)).1 0) = some ((Bk 5).1 0)
        unfold xph
        rw [if_neg (by omega), if_neg (by omega)]
    refine ⟨xx.mono (fun y _ w => Or.inr (Or.inl (own y w))), ⟨xx.wf wf, ?_, ?_⟩, ⟨l', r'⟩, xx.get wf t nt, ⟨?_, ?_, ?_, fun c => ?_⟩, fun y y1 y2 => ?_, fs, xx.get wf em (fun w => hlb ((own b w).symm.trans (ob b (Nat.le_refl _) (by omega)).1))⟩
    · dsimp only
      rw [psn, p0]
      exact xx.get wf o na
    · refine ⟨?_, (k1.map (L' := lv (min q 3 + 1) sn) (xph q) (fun k hk => ?_) (fun k k' hk hk' e => ?_)).2⟩
      · intro k hk
        have hk' : lv q sn (xph q k) ∨ xph q k = 6 := by
          unfold xph
          by_cases z : k = min q 3 + 1
          · rw [if_pos z]; exact Or.inr rfl
          · rw [if_neg z]
            left
            by_cases y : q = 4 ∧ 1 ≤ k ∧ k ≤ 3
            · rw [if_pos y]; exact Or.inr (Or.inl ⟨by omega, by omega⟩)
            · rw [if_neg y]
              rcases hk with w | w | w
              · exact Or.inl w
              · exact Or.inr (Or.inl ⟨w.1, by omega⟩)
              · exact Or.inr (Or.inr w)
        obtain ⟨c1, c2, c3⟩ := k1.1 _ hk'
        refine ⟨c1, c2, fun y f => ?_⟩
        dsimp only
        rw [if_pos (lt _ hk' y f)]
        exact c3 y f
      · unfold xph
        by_cases z : k = min q 3 + 1
        · rw [if_pos z]; exact Or.inr rfl
        · rw [if_neg z]
          left
          by_cases y : q = 4 ∧ 1 ≤ k ∧ k ≤ 3
          · rw [if_pos y]; exact Or.inr (Or.inl ⟨by omega, by omega⟩)
          · rw [if_neg y]
            rcases hk with w | w | w
            · exact Or.inl w
            · exact Or.inr (Or.inl ⟨w.1, by omega⟩)
            · exact Or.inr (Or.inr w)
      · have b5 : ∀ k, lv (min q 3 + 1) sn k → k ≤ 5 ∧ (k = 5 → ¬ k = min q 3 + 1) := by
          rintro k (w | w | w)
          · omega
          · omega
          · rcases hs with z | z
            · rw [z] at w; cases w
            · rw [z] at w; cases w; omega
        have bk := b5 k hk
        have bk' := b5 k' hk'
        unfold xph at e
        by_cases z : k = min q 3 + 1
        · rw [if_pos z] at e
          by_cases z' : k' = min q 3 + 1
          · omega
          · rw [if_neg z'] at e
            by_cases y' : q = 4 ∧ 1 ≤ k' ∧ k' ≤ 3
            · rw [if_pos y'] at e; omega
            · rw [if_neg y'] at e; omega
        · rw [if_neg z] at e
          by_cases z' : k' = min q 3 + 1
          · rw [if_pos z'] at e
            by_cases y : q = 4 ∧ 1 ≤ k ∧ k ≤ 3
            · rw [if_pos y] at e; omega
            · rw [if_neg y] at e; omega
          · rw [if_neg z'] at e
            by_cases y : q = 4 ∧ 1 ≤ k ∧ k ≤ 3
            · rw [if_pos y] at e
              by_cases y' : q = 4 ∧ 1 ≤ k' ∧ k' ≤ 3
              · rw [if_pos y'] at e; omega
              · rw [if_neg y'] at e; omega
            · rw [if_neg y] at e
              by_cases y' : q = 4 ∧ 1 ≤ k' ∧ k' ≤ 3
              · rw [if_pos y'] at e; omega
              · rw [if_neg y'] at e; exact e
    · show (if a < h.2.1 then ow a else _) = a
      rw [if_pos ha]; exact oa
    · show (if tx < h.2.1 then ow tx else _) = a
      rw [if_pos ht]; exact ot
    · show (if hl < h.2.1 then ow hl else _) = hl
      rw [if_pos hhl]; exact oh
    · show (if he' < h.2.1 then ow he' else _) = hl
      rcases e' with ⟨e', c'⟩ | e'
      · rw [e', if_pos hhe]; exact oe c'
      · rw [if_neg (by have := x2.2.1; omega)]
    · obtain ⟨o1, o2⟩ := ob y y1 y2
      refine ⟨?_, Nat.lt_of_lt_of_le o2 xx.2.1⟩
      show (if y < h.2.1 then ow y else _) = b
      rw [if_pos o2]; exact o1
  unfold f_X0_changed f_X0_changed_b24
  simp only [xo_gR (x := some hl) (k := 1) o rfl, xo_chk l.1, jl_size l, Option.bind_some, xc_0]
  by_cases q4 : q = 4
  · subst q4
    rw [if_pos (show nI 4 = (4 : Int32) from rfl)]
    obtain ⟨h2, rf2, e2, l2, r2, x2⟩ := jl_remove (N := N) (i := 0) wf l (by omega) (fun k hk => by rw [r k hk]; exact hst _ (Or.inl (idx k hk)))
    rw [show f_J2_remove N (some hl) (0 : Int32) h = f_J2_remove N (some hl) (nI 0) h from rfl, e2]
    simp only [xc_0]
    have hc0 : hc ≠ 0 := by have := l.2.1; omega
    have w2 := x2.wf wf
    have o2 : XO h2 a ((Bk 0).1 0) hl (sn.map fun k => (Bk k).1 0) tx len := x2.get wf o (by
      rintro (z | z)
      · exact hla z.symm
      · have := oe hc0; rw [← z, oa] at this; exact hla this.symm)
    have st2 : ∀ k, (lv 4 sn k ∨ k = 6) → xh_st h2 (some ((Bk k).1 0)) = true := fun k hk => xst_keep wf x2 (fun y hy => by
      cases hy
      rintro (z | z)
      · exact ida k hk z.symm
      · have e := (s.1 k hk).1.1
        rcases l.2.2.2 with ⟨c0, -⟩ | ⟨-, ea, -⟩
        · exact hc0 c0
        · rw [z, ea] at e; cases e) (hst k hk)
    simp only [xo_gR (x := some hl) (k := 1) o2 rfl, xo_chk l2.1, Option.bind_some]
    have hr2 : ∀ i, i < 3 → rf2 i = some ((Bk (i + 2)).1 0) := fun i hi => by rw [r2 i hi, if_neg (by omega), r (i + 1) (by omega)]
    obtain ⟨h3, he', hc', hr', kc, ks, f1, f2, f3, f4, f5, f6, f7, f8, f9⟩ := jl_add (N := N) (x := some ((Bk 6).1 0)) w2 l2 (by omega) (fun k hk => by rw [hr2 k hk]; exact st2 _ (Or.inl (idx (k + 1) (by omega)))) (st2 6 (Or.inr rfl))
    rw [f1]
    obtain ⟨g1, g2⟩ := fin h2 h3 _ _ he hc he' hc' hr' x2 (fun y w => w.imp id (fun z => ⟨z, hc0⟩)) w2 rfl rfl f6 f2 f5 (fun i hi => by
      unfold xph
      by_cases z : i = 3
      · rw [z, if_pos (by omega)]; exact f3
      · rw [if_neg (by omega), if_pos (by omega), f4 i (by omega)]; exact hr2 i (by omega))
    exact ⟨h3, _, he', hc', hr', kc, ks, rfl, f7, f8, g1, g2⟩
  · rw [if_neg (show ¬ nI q = (4 : Int32) from fun z => q4 ((nI_eq (a := q) (b := 4) (by omega) (by omega)).mp z))]
    obtain ⟨h3, he', hc', hr', kc, ks, f1, f2, f3, f4, f5, f6, f7, f8, f9⟩ := jl_add (N := N) (x := some ((Bk 6).1 0)) wf l (by omega) (fun k hk => by rw [r k hk]; exact hst _ (Or.inl (idx k hk))) (hst 6 (Or.inr rfl))
    rw [f1]
    have eq : min q 3 + 1 = q + 1 := by omega
    obtain ⟨g1, g2⟩ := fin h h3 (fun _ => False) _ he hc he' hc' hr' XW.refl (fun y w => w.elim) wf rfl rfl f6 (by rw [eq]; exact f2) f5 (fun i hi => by
      unfold xph
      by_cases z : i = q
      · rw [z, if_pos (by omega)]; exact f3
      · rw [if_neg (by omega), if_neg (by omega), f4 i (by omega)]; exact r i (by omega))
    exact ⟨h3, _, he', hc', hr', kc, ks, rfl, f7, f8, g1, g2⟩
end XT
