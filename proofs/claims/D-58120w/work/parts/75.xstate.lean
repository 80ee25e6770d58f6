/-! THE WHOLE OF THE CLASS's SIDE -/
set_option maxRecDepth 100000
abbrev xs_B : Type := (Nat → Nat) × Int32 × Nat × (Nat → Option Nat)
def XSB (h : xh_H) (s : Nat → Int32) (B : xs_B) : Prop := XS h s B.1 B.2.1 B.2.2.1 B.2.2.2
def XFB (B : xs_B) (x : Nat) : Prop := XF B.1 B.2.2.1 x
/-- songs by index (0 the current one, 1 .. q the history, 5 the snapshot, 6 a copy at hand); ow: whose a cell is -/
def XSS (h : xh_H) (ow : Nat → Nat) (L : Nat → Prop) (sv : Nat → Nat → Int32) (Bk : Nat → xs_B) : Prop :=
  (∀ k, L k → XSB h (sv k) (Bk k) ∧ ms_ok (sv k) ∧ ∀ x, XFB (Bk k) x → ow x = (Bk k).1 0) ∧ ∀ k k', L k → L k' → (Bk k).1 0 = (Bk k').1 0 → k = k'
theorem XSS.keep {h h' : xh_H} {ow : Nat → Nat} {L : Nat → Prop} {sv : Nat → Nat → Int32} {Bk : Nat → xs_B} {W : Nat → Prop} (a : XSS h ow L sv Bk) (w : WF h) (x : XW W h h') (d : ∀ q, q < h.2.1 → W q → ∀ k, L k → ow q ≠ (Bk k).1 0) (im : IM W h) : XSS h' ow L sv Bk := by
  refine ⟨fun k hk => ?_, a.2⟩
  obtain ⟨a1, a2, a3⟩ := a.1 k hk
  exact ⟨a1.keep w x (fun q f W => d q (a1.lt w f) W k hk (a3 q f)) im, a2, a3⟩
theorem XSS.map {h : xh_H} {ow : Nat → Nat} {L L' : Nat → Prop} {sv : Nat → Nat → Int32} {Bk : Nat → xs_B} (a : XSS h ow L sv Bk) (p : Nat → Nat) (m : ∀ k, L' k → L (p k)) (i : ∀ k k', L' k → L' k' → p k = p k' → k = k') : XSS h ow L' (fun k => sv (p k)) (fun k => Bk (p k)) :=
  ⟨fun k hk => a.1 (p k) (m k hk), fun k k' hk hk' e => i k k' hk hk' (a.2 _ _ (m k hk) (m k' hk') e)⟩
/-- a song is put at index k0 -/
theorem XSS.put {h' : xh_H} {ow ow' : Nat → Nat} {L L' : Nat → Prop} {sv : Nat → Nat → Int32} {Bk : Nat → xs_B} {k0 : Nat} {t : Nat → Int32} {B : xs_B} (a : XSS h' ow L sv Bk) (b : XSB h' t B) (ok : ms_ok t) (hw : WF h') (hL : ∀ k, L' k → k = k0 ∨ (k ≠ k0 ∧ L k)) (ho : ∀ k, L' k → k ≠ k0 → ∀ x, XFB (Bk k) x → ow' x = ow x) (hB : ∀ x, XFB B x → ow' x = B.1 0) (hn : ∀ k, L' k → k ≠ k0 → (Bk k).1 0 ≠ B.1 0) :
    XSS h' ow' L' (fun k => if k = k0 then t else sv k) (fun k => if k = k0 then B else Bk k) := by
  refine ⟨fun k hk => ?_, fun k k' hk hk' e => ?_⟩
  · dsimp only
    by_cases z : k = k0
    · rw [if_pos z, if_pos z]
      exact ⟨b, ok, hB⟩
    · rw [if_neg z, if_neg z]
      rcases hL k hk with q | ⟨q, q2⟩
      · exact absurd q z
      · obtain ⟨a1, a2, a3⟩ := a.1 k q2
        exact ⟨a1, a2, fun x f => (ho k hk z x f).trans (a3 x f)⟩
  · dsimp only at e
    by_cases z : k = k0
    · by_cases z' : k' = k0
      · rw [z, z']
      · rw [if_pos z, if_neg z'] at e
        exact absurd e.symm (hn k' hk' z')
    · by_cases z' : k' = k0
      · rw [if_neg z, if_pos z'] at e
        exact absurd e (hn k hk z)
      · rw [if_neg z, if_neg z'] at e
        rcases hL k hk with q | ⟨q, q2⟩
        · exact absurd q z
        · rcases hL k' hk' with q' | ⟨q', q2'⟩
          · exact absurd q' z'
          · exact a.2 k k' q2 q2' e
/-- the whole: a the class's object, b the model's; hd: the history's list -/
def XT (h : xh_H) (a b : Nat) (L : Nat → Prop) (q : Nat) (sn : Option Nat) (sv : Nat → Nat → Int32) (tv : Nat → Int32) (len : Int32) (ow : Nat → Nat) (Bk : Nat → xs_B) (hl : Nat) (hm : Int32) (he hc : Nat) (hr : Nat → Option Nat) (tx : Nat) : Prop :=
  (WF h ∧ XO h a ((Bk 0).1 0) hl (sn.map fun k => (Bk k).1 0) tx len ∧ XSS h ow L sv Bk) ∧ (XL h hl hm he hc q hr ∧ (∀ i, i < q → hr i = some ((Bk (i + 1)).1 0))) ∧ h.1 tx = some (.inl (1, 60, tv)) ∧
  (ow a = a ∧ ow tx = a ∧ ow hl = hl ∧ (hc ≠ 0 → ow he = hl)) ∧ (∀ x, b ≤ x → x < b + 12 → ow x = b ∧ x < h.2.1) ∧ ∃ fs, h.1 b = some (.inr (.inr (2, fs)))
/-- the cells that a call writes: of the object, of the history, of the current song -/
def XWR (a hl c : Nat) (ow : Nat → Nat) : Nat → Prop := fun x => ow x = a ∨ ow x = hl ∨ ow x = c
theorem xw_model {h h' : xh_H} {a b hl c : Nat} {ow : Nat → Nat} {la lh lc : List Value} (x : XW (XWR a hl c ow) h h') (ob : ∀ x, b ≤ x → x < b + 12 → ow x = b ∧ x < h.2.1) (m : ∃ fs, h.1 b = some (.inr (.inr (2, fs)))) (ea : h.1 a = some (.inr (.inr (0, la)))) (eh : h.1 hl = some (.inr (.inr (8, lh)))) (ec : h.1 c = some (.inr (.inr (1, lc)))) : ∀ y, b ≤ y → y < b + 12 → h'.1 y = h.1 y := by
  intro y h1 h2
  obtain ⟨o1, o2⟩ := ob y h1 h2
  obtain ⟨fs, em⟩ := m
  refine x.1 y o2 ?_
  rintro (z | z | z)
  · rw [o1] at z; rw [z, ea] at em; cases em
  · rw [o1] at z; rw [z, eh] at em; cases em
  · rw [o1] at z; rw [z, ec] at em; cases em
