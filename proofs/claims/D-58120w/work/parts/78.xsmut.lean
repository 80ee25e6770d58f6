/-! A SONG that is written -/
set_option maxRecDepth 100000
theorem ms_n_e {s s' : Nat → Int32} (e : s' 5 = s 5) : ms_n s' = ms_n s := by unfold ms_n; rw [e]
theorem ms_ph_e {s s' : Nat → Int32} {k : Nat} (hk : k < 40) (e : ∀ j, j < 206 → s' j = s j) : ms_ph s' k = ms_ph s k := by
  unfold ms_ph
  rw [ms_cnt_congr (p := ms_fst s') (p' := ms_fst s) (k + 1) (fun i hi => by unfold ms_fst; rw [Nat.zero_add, e _ (by omega)])]
section SM
variable {h h' : xh_H} {s s' : Nat → Int32} {A : Nat → Nat} {mc : Int32} {cap : Nat} {rf : Nat → Option Nat} {N : Nat}
/-- the syllables are the same -/
theorem xs_sy (hS : XS h s A mc cap rf) (hn : ms_n s ≤ 40) (e : ∀ j, j < 206 → s' j = s j) : ms_n s' = ms_n s ∧ (∀ k, k < ms_n s' → ∃ y, rf k = some y ∧ h.1 y = some (.inr (.inr (5, [.int (s' (6 + 5 * k)), .int (s' (6 + 5 * k + 1)), .int (s' (6 + 5 * k + 2)), .int (s' (6 + 5 * k + 3)), .int (nI (ms_ph s' k))])))) := by
  have en := ms_n_e (e 5 (by omega))
  refine ⟨en, fun k hk => ?_⟩
  rw [en] at hk
  obtain ⟨y, e1, e2⟩ := hS.2.2.2.2 k hk
  exact ⟨y, e1, by rw [e _ (by omega), e _ (by omega), e _ (by omega), e _ (by omega), ms_ph_e (by omega) e]; exact e2⟩
theorem XS.congr (hS : XS h s A mc cap rf) (hn : ms_n s ≤ 40) (e : ∀ j, j < 806 → s' j = s j) : XS h s' A mc cap rf := by
  obtain ⟨en, sy⟩ := xs_sy hS hn (fun j hj => e j (by omega))
  obtain ⟨f, u1, u2⟩ := hS.2.2.1
  obtain ⟨g, t1, t2⟩ := hS.2.2.2.1
  exact ⟨hS.1, by rw [en]; exact hS.2.1, ⟨f, u1, fun t ht => by rw [u2 t ht, e _ (by omega)]⟩, ⟨g, t1, fun j hj => by rw [t2 j hj, e _ (by omega)]⟩, sy⟩
theorem xs_im2 (hS : XS h s A mc cap rf) : IM (fun q => q = A 2) h := fun q fs e z => by
  obtain ⟨f, u1, -⟩ := hS.2.2.1
  rw [z, u1] at e; cases e
theorem xs_im3 (hS : XS h s A mc cap rf) : IM (fun q => q = A 3) h := fun q fs e z => by
  obtain ⟨f, u1, -⟩ := hS.2.2.2.1
  rw [z, u1] at e; cases e
theorem xs_kp (w : WF h) (x : XW (fun q => q = A 2 ∨ q = A 3) h h') (hS : XS h s A mc cap rf) :
    h'.1 (A 0) = some (.inr (.inr (1, [.ref (A 1), .ref (A 2), .ref (A 3)]))) ∧ XL h' (A 1) mc (A 4) cap (ms_n s) rf ∧ (∀ k, k < ms_n s → ∃ y, rf k = some y ∧ h'.1 y = some (.inr (.inr (5, [.int (s (6 + 5 * k)), .int (s (6 + 5 * k + 1)), .int (s (6 + 5 * k + 2)), .int (s (6 + 5 * k + 3)), .int (nI (ms_ph s k))])))) := by
  obtain ⟨a0, a1, ⟨f, a2, a2'⟩, ⟨g, a3, a3'⟩, a4⟩ := hS
  have ne : ∀ (y : Nat) (e : xh_E), h.1 y = some e → (∀ n f, e ≠ .inl (0, n, f)) → ¬ (y = A 2 ∨ y = A 3) := by
    rintro y e ey hn (z | z)
    · rw [z, a2] at ey; cases ey; exact hn _ _ rfl
    · rw [z, a3] at ey; cases ey; exact hn _ _ rfl
  refine ⟨x.get w a0 (ne _ _ a0 (fun _ _ z => by cases z)), a1.keep w x (ne _ _ a1.1 (fun _ _ z => by cases z)) (fun c => ?_), fun k hk => ?_⟩
  · rcases a1.2.2.2 with ⟨c0, -⟩ | ⟨-, ea, -⟩
    · exact absurd c0 c
    · exact ne _ _ ea (fun _ _ z => by cases z)
  · obtain ⟨y, e1, e2⟩ := a4 k hk
    exact ⟨y, e1, x.get w e2 (ne _ _ e2 (fun _ _ z => by cases z))⟩
theorem xs_n23 (hS : XS h s A mc cap rf) : A 2 ≠ A 3 := fun z => by
  obtain ⟨f, u1, -⟩ := hS.2.2.1
  obtain ⟨g, t1, -⟩ := hS.2.2.2.1
  rw [z, t1] at u1; cases u1
/-- a tick of the song is sung -/
theorem xs_sv (w : WF h) (hS : XS h s A mc cap rf) (hn : ms_n s ≤ 40) {t : Nat} {v : Int32} (ht : t < 600) : ∃ h', xh_sv h (some (A 2)) 0 (nI t) v = some h' ∧ XS h' (upd s (206 + t) (v + 1)) A mc cap rf ∧ XW (fun q => q = A 2) h h' := by
  obtain ⟨f, u1, u2⟩ := id hS.2.2.1
  obtain ⟨g, t1, t2⟩ := id hS.2.2.2.1
  have x : XW (fun q => q = A 2) h (xh_set h (A 2) (.inl (0, 600, upd f t v))) := XW.setp (w.1 _ _ u1)
  obtain ⟨k1, k2, k3⟩ := xs_kp w (x.mono (fun q _ => Or.inl)) hS
  have ee : ∀ j, j ≠ 206 + t → upd s (206 + t) (v + 1) j = s j := fun j hj => if_neg hj
  refine ⟨_, xo_sv u1 ht (by omega), ⟨k1, by rw [ms_n_e (ee 5 (by omega))]; exact k2, ⟨_, xs_eq, fun i hi => ?_⟩, ⟨g, x.get w t1 (xs_n23 hS).symm, fun i hi => by rw [t2 i hi, ee i (by omega)]⟩, ?_⟩, x⟩
  · unfold upd
    by_cases z : i = t
    · rw [if_pos z, if_pos (by omega)]; grind
    · rw [if_neg z, if_neg (by omega)]; exact u2 i hi
  · intro k hk
    rw [ms_n_e (ee 5 (by omega))] at hk
    obtain ⟨y, e1, e2⟩ := k3 k hk
    refine ⟨y, e1, ?_⟩
    rw [ee _ (by omega), ee _ (by omega), ee _ (by omega), ee _ (by omega), ms_ph_e (s := s) (by omega) (fun j hj => ee j (by omega))]
    exact e2
/-- a setting is written -/
theorem xs_tv (w : WF h) (hS : XS h s A mc cap rf) (hn : ms_n s ≤ 40) {j : Nat} {v : Int32} (hj : j < 5) : ∃ h', xh_sv h (some (A 3)) 0 (nI j) v = some h' ∧ XS h' (upd s j v) A mc cap rf ∧ XW (fun q => q = A 3) h h' := by
  obtain ⟨f, u1, u2⟩ := id hS.2.2.1
  obtain ⟨g, t1, t2⟩ := id hS.2.2.2.1
  have x : XW (fun q => q = A 3) h (xh_set h (A 3) (.inl (0, 5, upd g j v))) := XW.setp (w.1 _ _ t1)
  obtain ⟨k1, k2, k3⟩ := xs_kp w (x.mono (fun q _ => Or.inr)) hS
  have ee : ∀ i, i ≠ j → upd s j v i = s i := fun i hi => if_neg hi
  have ph : ∀ k, ms_ph (upd s j v) k = ms_ph s k := fun k => by
    unfold ms_ph
    rw [ms_cnt_congr (p := ms_fst (upd s j v)) (p' := ms_fst s) (k + 1) (fun i hi => by unfold ms_fst; rw [Nat.zero_add, ee _ (by omega)])]
  refine ⟨_, xo_sv t1 hj (by omega), ⟨k1, by rw [ms_n_e (ee 5 (by omega))]; exact k2, ⟨f, x.get w u1 (xs_n23 hS), fun i hi => by rw [u2 i hi, ee _ (by omega)]⟩, ⟨_, xs_eq, fun i hi => ?_⟩, ?_⟩, x⟩
  · unfold upd
    by_cases z : i = j
    · rw [if_pos z, if_pos z]
    · rw [if_neg z, if_neg z]; exact t2 i hi
  · intro k hk
    rw [ms_n_e (ee 5 (by omega))] at hk
    obtain ⟨y, e1, e2⟩ := k3 k hk
    refine ⟨y, e1, ?_⟩
    rw [ee _ (by omega), ee _ (by omega), ee _ (by omega), ee _ (by omega), ph]
    exact e2
end SM
