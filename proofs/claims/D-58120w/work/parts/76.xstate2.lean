/-! THE CLASS's SIDE: a copy at hand, a changed song, the history -/
set_option maxRecDepth 100000
section XT
variable {h : xh_H} {a b q : Nat} {L : Nat → Prop} {sn : Option Nat} {sv : Nat → Nat → Int32} {tv : Nat → Int32} {len : Int32} {ow : Nat → Nat} {Bk : Nat → xs_B} {hl : Nat} {hm : Int32} {he hc : Nat} {hr : Nat → Option Nat} {tx N : Nat}
/-- a copy of song k0, put at index k1 -/
theorem xt_copy {k0 k1 : Nat} (hN : 3000 ≤ N) (x : XT h a b L q sn sv tv len ow Bk hl hm he hc hr tx) (h0 : L k0) (h1 : ¬ L k1) (hz : k1 ≠ 0) (hq : q < k1) (hs : sn ≠ some k1) :
    ∃ h' B kc ks, f_X1_copy N (some ((Bk k0).1 0)) h = some (some (B.1 0), h', kc, ks) ∧ XE h h' ∧ kc ≤ 50 ∧ ks ≤ 4000 ∧
      XT h' a b (fun k => L k ∨ k = k1) q sn (fun k => if k = k1 then sv k0 else sv k) tv len (fun x => if x < h.2.1 then ow x else B.1 0) (fun k => if k = k1 then B else Bk k) hl hm he hc hr tx := by
  obtain ⟨⟨wf, o, s⟩, ⟨l, r⟩, t, ⟨oa, ot, oh, oe⟩, ob, m⟩ := x
  obtain ⟨s1, s2, s3⟩ := s.1 k0 h0
  obtain ⟨h', A', mc', cap', rf', kc, ks, e1, xe, hS', fr, b1, b2⟩ := x_copy (N := N) hN wf s1 s2.2.1
  have ha := wf.1 _ _ o
  have ht := wf.1 _ _ t
  obtain ⟨hhl, hhe⟩ := jl_lt wf l
  have lt : ∀ k, L k → ∀ y, XFB (Bk k) y → y < h.2.1 := fun k hk y f => (s.1 k hk).1.lt wf f
  have kp := s.keep wf xe (fun _ _ f => f.elim) (fun _ _ _ f => f.elim)
  refine ⟨h', (A', mc', cap', rf'), kc, ks, e1, xe, b1, b2, ⟨xe.wf wf, ?_, ?_⟩, ⟨l.keep wf xe id (fun _ => id), fun i hi => ?_⟩, xe.getE wf t, ⟨?_, ?_, ?_, fun c => ?_⟩, fun y y1 y2 => ?_, ?_⟩
  · dsimp only
    rw [if_neg (Ne.symm hz)]
    have e : (sn.map fun k => (if k = k1 then ((A', mc', cap', rf') : xs_B) else Bk k).1 0) = sn.map fun k => (Bk k).1 0 := by
      cases sn with
      | none => rfl
      | some k =>
        show some ((if k = k1 then ((A', mc', cap', rf') : xs_B) else Bk k).1 0) = _
        rw [if_neg (fun z => hs (by rw [z]))]
        rfl
    rw [e]
    exact xe.getE wf o
  · refine kp.put hS' s2 (xe.wf wf) (fun k hk => ?_) (fun k hk hne y f => ?_) (fun y f => ?_) (fun k hk hne => ?_)
    · by_cases z : k = k1
      · exact Or.inl z
      · exact Or.inr ⟨z, hk.resolve_right z⟩
    · exact if_pos (lt k (hk.resolve_right hne) y f)
    · exact if_neg (by have := fr y f; omega)
    · have h1' := lt k (hk.resolve_right hne) _ (Or.inl rfl)
      have h2' := fr (A' 0) (Or.inl rfl)
      show (Bk k).1 0 ≠ A' 0
      omega
  · show hr i = some ((if i + 1 = k1 then ((A', mc', cap', rf') : xs_B) else Bk (i + 1)).1 0)
    rw [if_neg (by omega)]
    exact r i hi
  · show (if a < h.2.1 then ow a else _) = a
    rw [if_pos ha]; exact oa
  · show (if tx < h.2.1 then ow tx else _) = a
    rw [if_pos ht]; exact ot
  · show (if hl < h.2.1 then ow hl else _) = hl
    rw [if_pos hhl]; exact oh
  · show (if he < h.2.1 then ow he else _) = hl
    rw [if_pos hhe]; exact oe c
  · obtain ⟨o1, o2⟩ := ob y y1 y2
    refine ⟨?_, Nat.lt_of_lt_of_le o2 xe.2.1⟩
    show (if y < h.2.1 then ow y else _) = b
    rw [if_pos o2]; exact o1
  · obtain ⟨fs, em⟩ := m
    exact ⟨fs, xe.getE wf em⟩
/-- the current song is written -/
theorem xt_mut {h' : xh_H} {W : Nat → Prop} {s' : Nat → Int32} {B : xs_B} (x : XT h a b L q sn sv tv len ow Bk hl hm he hc hr tx) (h0 : L 0) (hs : sn ≠ some 0) (xw : XW W h h') (hW : ∀ y, y < h.2.1 → W y → ow y = (Bk 0).1 0) (im : IM W h) (hS' : XSB h' s' B) (ok : ms_ok s') (hB0 : B.1 0 = (Bk 0).1 0) (hB : ∀ y, XFB B y → (y < h.2.1 ∧ ow y = (Bk 0).1 0) ∨ h.2.1 ≤ y) :
    XT h' a b L q sn (fun k => if k = 0 then s' else sv k) tv len (fun y => if y < h.2.1 then ow y else (Bk 0).1 0) (fun k => if k = 0 then B else Bk k) hl hm he hc hr tx ∧ XW (XWR a hl ((Bk 0).1 0) ow) h h' := by
  obtain ⟨⟨wf, o, s⟩, ⟨l, r⟩, t, ⟨oa, ot, oh, oe⟩, ob, m⟩ := x
  obtain ⟨s1, s2, s3⟩ := s.1 0 h0
  have ha := wf.1 _ _ o
  have ht := wf.1 _ _ t
  obtain ⟨hhl, hhe⟩ := jl_lt wf l
  have e0 := s1.1
  have lt : ∀ k, L k → ∀ y, XFB (Bk k) y → y < h.2.1 := fun k hk y f => (s.1 k hk).1.lt wf f
  -- none of the others is the song
  have na : a ≠ (Bk 0).1 0 := fun z => by unfold XO at o; rw [z, e0] at o; cases o
  have nh : hl ≠ (Bk 0).1 0 := fun z => by have := l.1; rw [z, e0] at this; cases this
  obtain ⟨fs, em⟩ := m
  have nb : b ≠ (Bk 0).1 0 := fun z => by rw [z, e0] at em; cases em
  have ka : ¬ W a := fun w => na (oa.symm.trans (hW a ha w))
  have kt : ¬ W tx := fun w => na (ot.symm.trans (hW tx ht w))
  have kh : ¬ W hl := fun w => nh (oh.symm.trans (hW hl hhl w))
  have ke : hc ≠ 0 → ¬ W he := fun c w => nh ((oe c).symm.trans (hW he hhe w))
  -- the other songs
  have so : XSS h' ow (fun k => L k ∧ k ≠ 0) sv Bk := by
    refine XSS.keep ⟨fun k hk => s.1 k hk.1, fun k k' hk hk' e => s.2 k k' hk.1 hk'.1 e⟩ wf xw (fun y y1 y2 k hk z => ?_) im
    exact hk.2 (s.2 k 0 hk.1 h0 (z.symm.trans (hW y y1 y2)))
  refine ⟨⟨⟨xw.wf wf, ?_, ?_⟩, ⟨l.keep wf xw kh ke, fun i hi => ?_⟩, xw.get wf t kt, ⟨?_, ?_, ?_, fun c => ?_⟩, fun y y1 y2 => ?_, fs, xw.get wf em (fun w => nb ((ob b (Nat.le_refl _) (by omega)).1.symm.trans (hW b (wf.1 _ _ em) w)))⟩, xw.mono (fun y y1 y2 => Or.inr (Or.inr (hW y y1 y2)))⟩
  · have e : (sn.map fun k => (if k = 0 then B else Bk k).1 0) = sn.map fun k => (Bk k).1 0 := by
      cases sn with
      | none => rfl
      | some k =>
        show some ((if k = 0 then B else Bk k).1 0) = _
        rw [if_neg (fun z => hs (by rw [z]))]
        rfl
    dsimp only
    rw [e, if_pos rfl, hB0]
    exact xw.get wf o ka
  · refine so.put hS' ok (xw.wf wf) (fun k hk => ?_) (fun k hk hne y f => ?_) (fun y f => ?_) (fun k hk hne z => ?_)
    · by_cases z : k = 0
      · exact Or.inl z
      · exact Or.inr ⟨z, hk, z⟩
    · exact if_pos (lt k hk y f)
    · rw [hB0]
      rcases hB y f with ⟨y1, y2⟩ | y1
      · rw [if_pos y1]; exact y2
      · rw [if_neg (by omega)]
    · exact hne (s.2 k 0 hk h0 (z.trans hB0))
  · show hr i = some ((if i + 1 = 0 then B else Bk (i + 1)).1 0)
    rw [if_neg (by omega)]
    exact r i hi
  · show (if a < h.2.1 then ow a else _) = a
    rw [if_pos ha]; exact oa
  · show (if tx < h.2.1 then ow tx else _) = a
    rw [if_pos ht]; exact ot
  · show (if hl < h.2.1 then ow hl else _) = hl
    rw [if_pos hhl]; exact oh
  · show (if he < h.2.1 then ow he else _) = hl
    rw [if_pos hhe]; exact oe c
  · obtain ⟨o1, o2⟩ := ob y y1 y2
    refine ⟨?_, Nat.lt_of_lt_of_le o2 xw.2.1⟩
    show (if y < h.2.1 then ow y else _) = b
    rw [if_pos o2]; exact o1
end XT
