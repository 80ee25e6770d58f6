/-! THE CLASS's CALLS that change: the frame -/
set_option maxRecDepth 100000
def XTT (h : xh_H) (a b q : Nat) (sn : Option Nat) (sv : Nat → Nat → Int32) (tv : Nat → Int32) (len : Int32) : Prop :=
  ∃ ow Bk hl hm he hc hr tx, XT h a b (lv q sn) q sn sv tv len ow Bk hl hm he hc hr tx
def XK (b : Nat) (h h' : xh_H) : Prop := (∀ x, b ≤ x → x < b + 12 → h'.1 x = h.1 x) ∧ h.2.1 ≤ h'.2.1 ∧ h'.2.2 = h.2.2
theorem XK.refl {b : Nat} {h : xh_H} : XK b h h := ⟨fun _ _ _ => rfl, Nat.le_refl _, rfl⟩
theorem XK.trans {b : Nat} {h h' h'' : xh_H} (x : XK b h h') (y : XK b h' h'') : XK b h h'' := ⟨fun z z1 z2 => (y.1 z z1 z2).trans (x.1 z z1 z2), Nat.le_trans x.2.1 y.2.1, y.2.2.trans x.2.2⟩
def XOP (r : xh_R Int32) (v : Int32) (h : xh_H) (a b q : Nat) (sn : Option Nat) (sv : Nat → Nat → Int32) (tv : Nat → Int32) (len : Int32) : Prop :=
  ∃ h' kc ks, r = some (v, h', kc, ks) ∧ XTT h' a b q sn sv tv len ∧ XK b h h' ∧ kc ≤ 18000 ∧ ks ≤ 80000
/-- the songs behind a change of the current one -/
def nsv (q : Nat) (sv : Nat → Nat → Int32) (s' : Nat → Int32) (k : Nat) : Nat → Int32 := if xph q k = 0 then s' else if xph q k = 6 then sv 0 else sv (xph q k)
section XT
variable {h : xh_H} {a b q : Nat} {L : Nat → Prop} {sn : Option Nat} {sv : Nat → Nat → Int32} {tv : Nat → Int32} {len : Int32} {ow : Nat → Nat} {Bk : Nat → xs_B} {hl : Nat} {hm : Int32} {he hc : Nat} {hr : Nat → Option Nat} {tx N : Nat}
theorem xt_ext {h' : xh_H} (x : XT h a b L q sn sv tv len ow Bk hl hm he hc hr tx) (xe : XE h h') : XT h' a b L q sn sv tv len ow Bk hl hm he hc hr tx := by
  obtain ⟨⟨wf, o, s⟩, ⟨l, r⟩, t, own, ob, fs, em⟩ := x
  exact ⟨⟨xe.wf wf, xe.getE wf o, s.keep wf xe (fun _ _ f => f.elim) (fun _ _ _ f => f.elim)⟩, ⟨l.keep wf xe id (fun _ => id), r⟩, xe.getE wf t, own, fun y y1 y2 => ⟨(ob y y1 y2).1, Nat.lt_of_lt_of_le (ob y y1 y2).2 xe.2.1⟩, fs, xe.getE wf em⟩
theorem xt_xk {h' : xh_H} {W : Nat → Prop} (x : XT h a b L q sn sv tv len ow Bk hl hm he hc hr tx) (h0 : L 0) (xw : XW W h h') (hW : ∀ y, y < h.2.1 → W y → XWR a hl ((Bk 0).1 0) ow y) : XK b h h' := by
  obtain ⟨⟨wf, o, s⟩, ⟨l, r⟩, t, own, ob, m⟩ := x
  exact ⟨xw_model (xw.mono hW) ob m o l.1 (s.1 0 h0).1.1, xw.2.1, xw.2.2.1⟩
theorem xt_xe {h' : xh_H} (x : XT h a b L q sn sv tv len ow Bk hl hm he hc hr tx) (h0 : L 0) (xe : XE h h') : XK b h h' := xt_xk x h0 xe (fun _ _ f => f.elim)
theorem xt_noop {r : xh_R Int32} {v : Int32} {K S : Nat} (x : XT h a b (lv q sn) q sn sv tv len ow Bk hl hm he hc hr tx) (a1 : QX r v h K S) (h1 : K ≤ 18000) (h2 : S ≤ 80000) : XOP r v h a b q sn sv tv len := by
  obtain ⟨h', kc, ks, e, xe, b1, b2⟩ := a1
  exact ⟨h', kc, ks, e, ⟨ow, Bk, hl, hm, he, hc, hr, tx, xt_ext x xe⟩, xt_xe x (Or.inl rfl) xe, Nat.le_trans b1 h1, Nat.le_trans b2 h2⟩
/-- a copy of the current song is made, the song is written, the copy goes to the history -/
theorem xt_op {N : Nat} (hN : 3000 ≤ N) (x : XT h a b (lv q sn) q sn sv tv len ow Bk hl hm he hc hr tx) (hq : q ≤ 4) (hs : sn = none ∨ sn = some 5) {r : xh_R Int32} {v : Int32} {K S : Nat} (s' : Nat → Int32) (ok : ms_ok s')
    (step : ∀ (h1 : xh_H) (ow1 : Nat → Nat) (Bk1 : Nat → xs_B) (c : Nat) (kc ks : Nat), f_X1_copy N (some ((Bk 0).1 0)) h = some (some c, h1, kc, ks) → Bk1 0 = Bk 0 → (Bk1 6).1 0 = c → XE h h1 →
      XT h1 a b (fun k => lv q sn k ∨ k = 6) q sn (fun k => if k = 6 then sv 0 else sv k) tv len ow1 Bk1 hl hm he hc hr tx →
      ∃ h2 B2 W kc2 ks2, (∀ rr, f_X0_changed N (some a) (some c) v h2 = rr → r = xh_ad kc ks (xh_ad kc2 ks2 rr)) ∧ kc2 ≤ K ∧ ks2 ≤ S ∧ XW W h1 h2 ∧ (∀ y, y < h1.2.1 → W y → ow1 y = (Bk1 0).1 0) ∧ IM W h1 ∧ XSB h2 s' B2 ∧ B2.1 0 = (Bk1 0).1 0 ∧ (∀ y, XFB B2 y → (y < h1.2.1 ∧ ow1 y = (Bk1 0).1 0) ∨ h1.2.1 ≤ y)) (hK : K ≤ 10000) (hSS : S ≤ 70000) :
    XOP r v h a b (min q 3 + 1) sn (nsv q sv s') tv len := by
  have s6 : ¬ lv q sn 6 := by
    rintro (z | z | z)
    · omega
    · omega
    · rcases hs with y | y
      · rw [y] at z; cases z
      · rw [y] at z; cases z
  have hs0 : sn ≠ some 0 := by rcases hs with y | y <;> rw [y] <;> intro z <;> cases z
  have hs6 : sn ≠ some 6 := by rcases hs with y | y <;> rw [y] <;> intro z <;> cases z
  obtain ⟨h1, B, kc, ks, e1, xe, b1, b2, x1⟩ := xt_copy hN x (k0 := 0) (k1 := 6) (Or.inl rfl) s6 (by omega) (by omega) hs6
  obtain ⟨h2, B2, W, kc2, ks2, g1, g2, g3, g4, g5, g6, g7, g8, g9⟩ := step h1 _ _ (B.1 0) kc ks e1 (if_neg (by omega)) (by rw [if_pos rfl]) xe x1
  obtain ⟨x2, xw⟩ := xt_mut x1 (Or.inl (Or.inl rfl)) hs0 g4 g5 g6 g7 ok g8 g9
  obtain ⟨h3, hm', he', hc', hr', kc3, ks3, f1, f2, f3, f4, x3⟩ := xt_changed (res := v) hN x2 hq hs
  rw [if_neg (by omega), if_pos rfl] at f1
  have x3' : XTT h3 a b (min q 3 + 1) sn (nsv q sv s') tv len := ⟨_, _, _, _, _, _, _, _, x3⟩
  refine ⟨h3, kc + (kc2 + kc3), ks + (ks2 + ks3), by rw [g1 _ f1]; rfl, x3', ?_, by omega, by omega⟩
  · exact ((xt_xe x (Or.inl rfl) xe).trans (xt_xk x1 (Or.inl (Or.inl rfl)) g4 (fun y y1 w => Or.inr (Or.inr (g5 y y1 w))))).trans (xt_xk x2 (Or.inl (Or.inl rfl)) f4 (fun _ _ w => w))
end XT
