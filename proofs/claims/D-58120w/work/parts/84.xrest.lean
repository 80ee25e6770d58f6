/-! THE CLASS's CALLS: type, clearText, undo, keep, restore, ifSet -/
set_option maxRecDepth 100000
section XT
variable {h : xh_H} {a b q : Nat} {L : Nat → Prop} {sn : Option Nat} {sv : Nat → Nat → Int32} {tv : Nat → Int32} {len : Int32} {ow : Nat → Nat} {Bk : Nat → xs_B} {hl : Nat} {hm : Int32} {he hc : Nat} {hr : Nat → Option Nat} {tx N : Nat}
theorem xt_re {h' : xh_H} {L' : Nat → Prop} {sn' : Option Nat} {tv' : Nat → Int32} {len' : Int32} (p : Nat → Nat) (x : XT h a b L q sn sv tv len ow Bk hl hm he hc hr tx) (h0 : L 0) (xw : XW (fun y => y = a ∨ y = tx) h h') (o' : XO h' a ((Bk (p 0)).1 0) hl (sn'.map fun k => (Bk (p k)).1 0) tx len') (t' : h'.1 tx = some (.inl (1, 60, tv'))) (m : ∀ k, L' k → L (p k)) (i : ∀ k k', L' k → L' k' → p k = p k' → k = k') (r' : ∀ i, i < q → p (i + 1) = i + 1) :
    XT h' a b L' q sn' (fun k => sv (p k)) tv' len' ow (fun k => Bk (p k)) hl hm he hc hr tx ∧ XK b h h' := by
  have hx := x
  obtain ⟨⟨wf, o, s⟩, ⟨l, r⟩, t, ⟨oa, ot, oh, oe⟩, ob, fs, em⟩ := x
  have own : ∀ y, (y = a ∨ y = tx) → ow y = a := by
    rintro y (z | z)
    · rw [z]; exact oa
    · rw [z]; exact ot
  have na : ∀ k, L k → a ≠ (Bk k).1 0 := fun k hk z => by
    have e := (s.1 k hk).1.1
    unfold XO at o
    rw [← z, o] at e; cases e
  have im : IM (fun y => y = a ∨ y = tx) h := by
    rintro y fs' e (z | z)
    · unfold XO at o; rw [z, o] at e; cases e
    · rw [z, t] at e; cases e
  have hla : hl ≠ a := fun z => by have := l.1; rw [z] at this; unfold XO at o; rw [o] at this; cases this
  have hba : b ≠ a := fun z => by unfold XO at o; rw [z, o] at em; cases em
  have s' := s.keep wf xw (fun y _ w k hk z => na k hk ((own y w).symm.trans z)) im
  refine ⟨⟨⟨xw.wf wf, o', s'.map p m i⟩, ⟨l.keep wf xw (fun w => hla (oh.symm.trans (own _ w))) (fun c w => hla ((oe c).symm.trans (own _ w))), fun i hi => ?_⟩, t', ⟨oa, ot, oh, oe⟩, fun y y1 y2 => ⟨(ob y y1 y2).1, Nat.lt_of_lt_of_le (ob y y1 y2).2 xw.2.1⟩, fs, xw.get wf em (fun w => hba ((ob b (Nat.le_refl _) (by omega)).1.symm.trans (own _ w)))⟩, xt_xk hx h0 xw (fun y _ w => Or.inl (own y w))⟩
  show hr i = some ((Bk (p (i + 1))).1 0)
  rw [r' i hi]
  exact r i hi
theorem x_type0 {x : Int32} (hx : XT h a b (lv q sn) q sn sv tv 60 ow Bk hl hm he hc hr tx) : XOP (f_X0_type N (some a) x h) (-3) h a b q sn sv tv 60 := by
  refine xt_noop hx (K := 0) (S := 0) (QX.eq ?_) (by omega) (by omega)
  obtain ⟨⟨wf, o, s⟩, -⟩ := hx
  unfold f_X0_type
  rw [xo_4 (A := (Bk 0).1) o]
  simp only [Option.bind_some]
  rw [if_pos trivial]
theorem x_type1 {x : Int32} {n : Nat} (hx : XT h a b (lv q sn) q sn sv tv (nI n) ow Bk hl hm he hc hr tx) (hn : n < 60) : XOP (f_X0_type N (some a) x h) (nI (n + 1)) h a b q sn sv (upd tv n (vp_nar .char x)) (nI (n + 1)) := by
  have hx' := hx
  obtain ⟨⟨wf, o, s⟩, -, t, -⟩ := hx'
  have nat : a ≠ tx := fun z => by unfold XO at o; rw [z, t] at o; cases o
  have o1 : XO (xh_set h tx (.inl (1, 60, upd tv n (vp_nar .char x)))) a ((Bk 0).1 0) hl (sn.map fun k => (Bk k).1 0) tx (nI n) := by
    unfold XO
    rw [xs_ne nat]; exact o
  have xw : XW (fun y => y = a ∨ y = tx) h (xh_set (xh_set h tx (.inl (1, 60, upd tv n (vp_nar .char x)))) a (.inr (.inr (0, [.ref ((Bk 0).1 0), .ref hl, va_rf (sn.map fun k => (Bk k).1 0), .ref tx, .int (nI (n + 1))])))) :=
    ((XW.setp (wf.1 _ _ t)).mono (fun _ _ => Or.inr)).trans (XW.setp (show a < h.2.1 from wf.1 _ _ o)) (fun _ _ => Or.inl)
  obtain ⟨x2, k2⟩ := xt_re (fun k => k) hx (Or.inl rfl) xw (len' := nI (n + 1)) (sn' := sn) (tv' := upd tv n (vp_nar .char x)) (L' := lv q sn) xs_eq (by rw [xs_ne nat.symm]; exact xs_eq) (fun _ => id) (fun _ _ _ _ => id) (fun _ _ => rfl)
  refine ⟨_, 0, 0, ?_, ⟨_, _, _, _, _, _, _, _, x2⟩, k2, by omega, by omega⟩
  unfold f_X0_type
  simp only [xo_4 (A := (Bk 0).1) o, xo_3 (A := (Bk 0).1) o, Option.bind_some]
  rw [if_neg (show ¬ nI n = (60 : Int32) from fun z => by have := (nI_eq (a := n) (b := 60) (by omega) (by omega)).mp z; omega), xo_sv t hn (by omega)]
  simp only [Option.bind_some, xo_4 (A := (Bk 0).1) o1]
  rw [xo_pI o1 (by exact (by decide : 4 < 5))]
  simp only [Option.bind_some, List.set, nI_1]
  rw [xo_gI xs_eq (k := 4) rfl]
  rfl
theorem x_clear (hx : XT h a b (lv q sn) q sn sv tv len ow Bk hl hm he hc hr tx) : XOP (f_X0_clearText N (some a) h) len h a b q sn sv tv 0 := by
  have hx' := hx
  obtain ⟨⟨wf, o, s⟩, -, t, -⟩ := hx'
  have nat : a ≠ tx := fun z => by unfold XO at o; rw [z, t] at o; cases o
  have xw : XW (fun y => y = a ∨ y = tx) h (xh_set h a (.inr (.inr (0, [.ref ((Bk 0).1 0), .ref hl, va_rf (sn.map fun k => (Bk k).1 0), .ref tx, .int 0])))) := (XW.setp (wf.1 _ _ o)).mono (fun _ _ => Or.inl)
  obtain ⟨x2, k2⟩ := xt_re (fun k => k) hx (Or.inl rfl) xw (len' := 0) (sn' := sn) (tv' := tv) (L' := lv q sn) xs_eq (by rw [xs_ne nat.symm]; exact t) (fun _ => id) (fun _ _ _ _ => id) (fun _ _ => rfl)
  refine ⟨_, 0, 0, ?_, ⟨_, _, _, _, _, _, _, _, x2⟩, k2, by omega, by omega⟩
  unfold f_X0_clearText
  simp only [xo_4 (A := (Bk 0).1) o, Option.bind_some]
  rw [xo_pI o (by exact (by decide : 4 < 5))]
  rfl
def xsv5 (sv : Nat → Nat → Int32) (k : Nat) : Nat → Int32 := if (if k = 5 then 6 else k) = 6 then sv 0 else sv (if k = 5 then 6 else k)
theorem x_keep (hN : 3000 ≤ N) (hx : XT h a b (lv q sn) q sn sv tv len ow Bk hl hm he hc hr tx) (hq : q ≤ 4) (hs : sn = none ∨ sn = some 5) : XOP (f_X0_keep N (some a) h) (sv 0 5) h a b q (some 5) (xsv5 sv) tv len := by
  have hx' := hx
  obtain ⟨⟨wf, o, s⟩, -⟩ := hx'
  obtain ⟨hS, hok, -⟩ := s.1 0 (Or.inl rfl)
  have s6 : ¬ lv q sn 6 := by
    rintro (z | z | z)
    · omega
    · omega
    · rcases hs with y | y <;> rw [y] at z <;> cases z
  have hs6 : sn ≠ some 6 := by rcases hs with y | y <;> rw [y] <;> intro z <;> cases z
  obtain ⟨h1, B, kc, ks, e1, xe, b1, b2, x1⟩ := xt_copy hN hx (k0 := 0) (k1 := 6) (Or.inl rfl) s6 (by omega) (by omega) hs6
  have x1' := x1
  obtain ⟨⟨wf1, o1, s1⟩, -, t1, -⟩ := x1'
  dsimp only at o1
  rw [if_neg (show ¬ (0 : Nat) = 6 by omega)] at o1
  have nat : a ≠ tx := fun z => by unfold XO at o1; rw [z, t1] at o1; cases o1
  have xw : XW (fun y => y = a ∨ y = tx) h1 (xh_set h1 a (.inr (.inr (0, [.ref ((Bk 0).1 0), .ref hl, va_rf (some (B.1 0)), .ref tx, .int len])))) := (XW.setp (wf1.1 _ _ o1)).mono (fun _ _ => Or.inl)
  obtain ⟨x2, k2⟩ := xt_re (fun k => if k = 5 then 6 else k) x1 (Or.inl (Or.inl rfl)) xw (len' := len) (sn' := some 5) (tv' := tv) (L' := lv q (some 5)) xs_eq (by rw [xs_ne nat.symm]; exact t1) (fun k hk => by
      by_cases z : k = 5
      · rw [if_pos z]; exact Or.inr rfl
      · rw [if_neg z]
        left
        rcases hk with w | w | w
        · exact Or.inl w
        · exact Or.inr (Or.inl w)
        · cases w; exact absurd rfl z) (fun k k' hk hk' e => by
      have b6 : ∀ k, lv q (some 5) k → k ≠ 6 := by
        rintro k (w | w | w)
        · omega
        · omega
        · cases w; omega
      have c1 := b6 k hk
      have c2 := b6 k' hk'
      by_cases z : k = 5
      · rw [if_pos z] at e
        by_cases z' : k' = 5
        · omega
        · rw [if_neg z'] at e; omega
      · rw [if_neg z] at e
        by_cases z' : k' = 5
        · rw [if_pos z'] at e; omega
        · rw [if_neg z'] at e; exact e) (fun i hi => if_neg (by omega))
  have hS2 := (x2.1.2.2.1 0 (Or.inl rfl)).1
  dsimp only at hS2
  rw [if_neg (show ¬ (0 : Nat) = 5 by omega), if_neg (show ¬ (0 : Nat) = 6 by omega), if_neg (show ¬ (0 : Nat) = 6 by omega)] at hS2
  have o2 : XO (xh_set h1 a (.inr (.inr (0, [.ref ((Bk 0).1 0), .ref hl, va_rf (some (B.1 0)), .ref tx, .int len])))) a ((Bk 0).1 0) hl (some (B.1 0)) tx len := xs_eq
  have x2' : XTT (xh_set h1 a (.inr (.inr (0, [.ref ((Bk 0).1 0), .ref hl, va_rf (some (B.1 0)), .ref tx, .int len])))) a b q (some 5) (xsv5 sv) tv len := ⟨_, _, _, _, _, _, _, _, x2⟩
  refine ⟨_, kc + 0, ks + 0, ?_, x2', (xt_xe hx (Or.inl rfl) xe).trans k2, by omega, by omega⟩
  unfold f_X0_keep
  simp only [xo_0 (A := (Bk 0).1) o, sg_c hS, Option.bind_some, e1, xc_k]
  rw [xo_pR o1 (by exact (by decide : 2 < 5))]
  simp only [Option.bind_some, List.set]
  rw [xo_gR (x := some ((Bk 0).1 0)) (k := 0) xs_eq rfl]
  simp only [Option.bind_some]
  have hc2 := sg_c hS2
  have hm2 := sg_many (N := N) hS2
  rw [hc2]
  simp only [Option.bind_some]
  rw [hm2, hok.1]
  rfl
end XT
