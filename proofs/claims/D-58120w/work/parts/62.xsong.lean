/-! A SONG in the heap, and what is read of it -/
set_option maxRecDepth 100000
def XS (h : xh_H) (s : Nat → Int32) (A : Nat → Nat) (mc : Int32) (cap : Nat) (rf : Nat → Option Nat) : Prop :=
  h.1 (A 0) = some (.inr (.inr (1, [.ref (A 1), .ref (A 2), .ref (A 3)]))) ∧
  XL h (A 1) mc (A 4) cap (ms_n s) rf ∧
  (∃ f, h.1 (A 2) = some (.inl (0, 600, f)) ∧ ∀ t, t < 600 → f t = s (206 + t) - 1) ∧
  (∃ f, h.1 (A 3) = some (.inl (0, 5, f)) ∧ ∀ j, j < 5 → f j = s j) ∧
  (∀ k, k < ms_n s → ∃ y, rf k = some y ∧ h.1 y = some (.inr (.inr (5, [.int (s (6 + 5 * k)), .int (s (6 + 5 * k + 1)), .int (s (6 + 5 * k + 2)), .int (s (6 + 5 * k + 3)), .int (nI (ms_ph s k))]))))
/-- the cells that a song owns -/
def XF (A : Nat → Nat) (cap : Nat) (q : Nat) : Prop := q = A 0 ∨ q = A 1 ∨ q = A 2 ∨ q = A 3 ∨ (q = A 4 ∧ cap ≠ 0)
/-- no syllable is written -/
def IM (W : Nat → Prop) (h : xh_H) : Prop := ∀ q fs, h.1 q = some (.inr (.inr (5, fs))) → ¬ W q
theorem XS.keep {h h' : xh_H} {s : Nat → Int32} {A : Nat → Nat} {mc : Int32} {cap : Nat} {rf : Nat → Option Nat} {W : Nat → Prop} (a : XS h s A mc cap rf) (w : WF h) (x : XW W h h') (d : ∀ q, XF A cap q → ¬ W q) (im : IM W h) : XS h' s A mc cap rf := by
  obtain ⟨a0, a1, ⟨f, a2, a2'⟩, ⟨g, a3, a3'⟩, a4⟩ := a
  refine ⟨x.get w a0 (d _ (Or.inl rfl)), a1.keep w x (d _ (Or.inr (Or.inl rfl))) (fun c => d _ (Or.inr (Or.inr (Or.inr (Or.inr ⟨rfl, c⟩))))), ⟨f, x.get w a2 (d _ (Or.inr (Or.inr (Or.inl rfl)))), a2'⟩, ⟨g, x.get w a3 (d _ (Or.inr (Or.inr (Or.inr (Or.inl rfl))))), a3'⟩, fun k hk => ?_⟩
  obtain ⟨y, e1, e2⟩ := a4 k hk
  exact ⟨y, e1, x.get w e2 (im _ _ e2)⟩
theorem XS.ext {h h' : xh_H} {s : Nat → Int32} {A : Nat → Nat} {mc : Int32} {cap : Nat} {rf : Nat → Option Nat} (a : XS h s A mc cap rf) (w : WF h) (x : XE h h') : XS h' s A mc cap rf := a.keep w x (fun _ _ => id) (fun _ _ _ => id)
def xy (rf : Nat → Option Nat) (k : Nat) : Nat := (rf k).getD 0
section SG
variable {h : xh_H} {s : Nat → Int32} {A : Nat → Nat} {mc : Int32} {cap : Nat} {rf : Nat → Option Nat} {N : Nat}
theorem sg_0 (a : XS h s A mc cap rf) : xh_gR h (some (A 0)) 1 0 = some (some (A 1)) := xo_gR a.1 rfl
theorem sg_1 (a : XS h s A mc cap rf) : xh_gR h (some (A 0)) 1 1 = some (some (A 2)) := xo_gR a.1 rfl
theorem sg_2 (a : XS h s A mc cap rf) : xh_gR h (some (A 0)) 1 2 = some (some (A 3)) := xo_gR a.1 rfl
theorem sg_c (a : XS h s A mc cap rf) : xh_chk h (some (A 0)) 1 = some () := xo_chk a.1
theorem sg_l (a : XS h s A mc cap rf) : xh_chk h (some (A 1)) 8 = some () := xo_chk a.2.1.1
theorem sg_u (a : XS h s A mc cap rf) {t : Nat} (ht : t < 600) : xh_ld h (some (A 2)) 0 (nI t) = some (s (206 + t) - 1) := by
  obtain ⟨f, e1, e2⟩ := a.2.2.1
  rw [xo_ld e1 ht (by omega), e2 t ht]
theorem sg_t (a : XS h s A mc cap rf) {j : Nat} (hj : j < 5) : xh_ld h (some (A 3)) 0 (nI j) = some (s j) := by
  obtain ⟨f, e1, e2⟩ := a.2.2.2.1
  rw [xo_ld e1 hj (by omega), e2 j hj]
theorem sg_t0 (a : XS h s A mc cap rf) : xh_ld h (some (A 3)) 0 (0 : Int32) = some (s 0) := sg_t a (j := 0) (by omega)
theorem sg_t1 (a : XS h s A mc cap rf) : xh_ld h (some (A 3)) 0 (1 : Int32) = some (s 1) := sg_t a (j := 1) (by omega)
theorem sg_t2 (a : XS h s A mc cap rf) : xh_ld h (some (A 3)) 0 (2 : Int32) = some (s 2) := sg_t a (j := 2) (by omega)
theorem sg_t3 (a : XS h s A mc cap rf) : xh_ld h (some (A 3)) 0 (3 : Int32) = some (s 3) := sg_t a (j := 3) (by omega)
theorem sg_t4 (a : XS h s A mc cap rf) : xh_ld h (some (A 3)) 0 (4 : Int32) = some (s 4) := sg_t a (j := 4) (by omega)
theorem sg_many (a : XS h s A mc cap rf) : f_X1_many N (some (A 0)) h = some (nI (ms_n s), h, 0, 0) := by
  unfold f_X1_many
  simp only [sg_0 a, sg_l a, jl_size a.2.1, Option.bind_some, xc_0]
theorem sg_rf (a : XS h s A mc cap rf) {k : Nat} (hk : k < ms_n s) : rf k = some (xy rf k) := by
  obtain ⟨y, e1, e2⟩ := a.2.2.2.2 k hk
  unfold xy
  rw [e1]; rfl
theorem sg_y (a : XS h s A mc cap rf) {k : Nat} (hk : k < ms_n s) : h.1 (xy rf k) = some (.inr (.inr (5, [.int (s (6 + 5 * k)), .int (s (6 + 5 * k + 1)), .int (s (6 + 5 * k + 2)), .int (s (6 + 5 * k + 3)), .int (nI (ms_ph s k))]))) := by
  obtain ⟨y, e1, e2⟩ := a.2.2.2.2 k hk
  unfold xy
  rw [e1]; exact e2
theorem sg_st (a : XS h s A mc cap rf) {k : Nat} (hk : k < ms_n s) : xh_st h (rf k) = true := by
  rw [sg_rf a hk]
  exact xst_1 (sg_y a hk) (Or.inr (Or.inr rfl))
theorem sg_get (a : XS h s A mc cap rf) {k : Nat} (hk : k < ms_n s) : f_J2_get N (some (A 1)) (nI k) h = some (some (xy rf k), h, 0, 0) := by
  rw [jl_get a.2.1 hk, sg_rf a hk]
theorem sg_y0 (a : XS h s A mc cap rf) {k : Nat} (hk : k < ms_n s) : xh_gI h (some (xy rf k)) 5 0 = some (s (6 + 5 * k)) := xo_gI (sg_y a hk) rfl
theorem sg_y1 (a : XS h s A mc cap rf) {k : Nat} (hk : k < ms_n s) : xh_gI h (some (xy rf k)) 5 1 = some (s (6 + 5 * k + 1)) := xo_gI (sg_y a hk) rfl
theorem sg_y2 (a : XS h s A mc cap rf) {k : Nat} (hk : k < ms_n s) : xh_gI h (some (xy rf k)) 5 2 = some (s (6 + 5 * k + 2)) := xo_gI (sg_y a hk) rfl
theorem sg_y3 (a : XS h s A mc cap rf) {k : Nat} (hk : k < ms_n s) : xh_gI h (some (xy rf k)) 5 3 = some (s (6 + 5 * k + 3)) := xo_gI (sg_y a hk) rfl
theorem sg_y4 (a : XS h s A mc cap rf) {k : Nat} (hk : k < ms_n s) : xh_gI h (some (xy rf k)) 5 4 = some (nI (ms_ph s k)) := xo_gI (sg_y a hk) rfl
theorem sg_yc (a : XS h s A mc cap rf) {k : Nat} (hk : k < ms_n s) : xh_chk h (some (xy rf k)) 5 = some () := xo_chk (sg_y a hk)
theorem sg_yk (a : XS h s A mc cap rf) {k : Nat} (hk : k < ms_n s) : xh_cc h (some (xy rf k)) 5 = some () := xo_cc (sg_y a hk)
theorem sg_yend (a : XS h s A mc cap rf) {k : Nat} (hk : k < ms_n s) : f_X5_end N (some (xy rf k)) h = some (s (6 + 5 * k) + s (6 + 5 * k + 1), h, 0, 0) := by
  unfold f_X5_end
  simp only [sg_y0 a hk, sg_y1 a hk, Option.bind_some]
theorem sg_yw (a : XS h s A mc cap rf) {k : Nat} {x : Int32} (hk : k < ms_n s) : f_X5_wanted N (some (xy rf k)) x h = some (ms_w s k (x - s (6 + 5 * k)), h, 0, 0) := by
  unfold f_X5_wanted ms_w
  simp only [sg_y0 a hk, sg_y1 a hk, sg_y2 a hk, sg_y3 a hk, Option.bind_some]
  by_cases z : s (6 + 5 * k + 1) = 1
  · rw [if_pos z, if_pos z]
  · rw [if_neg z, if_neg z, if_neg]
    intro q
    exact z (by grind)
theorem sg_end (a : XS h s A mc cap rf) (hn : ms_n s ≤ 40) : f_X1_end N (some (A 0)) h = some (ms_end s, h, 0, 0) := by
  unfold f_X1_end ms_end
  simp only [sg_0 a, sg_l a, jl_isEmpty a.2.1, Option.bind_some, xc_0]
  by_cases z : ms_n s = 0
  · rw [if_pos z, if_pos z, if_neg (by decide)]
  · rw [if_neg z, if_neg z, if_pos rfl]
    simp (disch := omega) only [sg_many a, sg_c a, xc_0, Option.bind_some, xl_1, pk_sub]
    simp only [sg_l a, sg_get a (show ms_n s - 1 < ms_n s by omega), xc_0, sg_yk a (show ms_n s - 1 < ms_n s by omega), sg_yc a (show ms_n s - 1 < ms_n s by omega), sg_yend a (show ms_n s - 1 < ms_n s by omega), Option.bind_some]
theorem sg_phs (a : XS h s A mc cap rf) (hn : ms_n s ≤ 40) : f_X1_phrases N (some (A 0)) h = some (nI (ms_phs s), h, 0, 0) := by
  unfold f_X1_phrases ms_phs
  simp only [sg_0 a, sg_l a, jl_isEmpty a.2.1, Option.bind_some, xc_0]
  by_cases z : ms_n s = 0
  · rw [if_pos z, if_pos z, if_neg (by decide)]
    rfl
  · rw [if_neg z, if_neg z, if_pos rfl]
    simp (disch := omega) only [sg_many a, sg_c a, xc_0, Option.bind_some, xl_1, pk_sub]
    simp only [sg_l a, sg_get a (show ms_n s - 1 < ms_n s by omega), xc_0, sg_yk a (show ms_n s - 1 < ms_n s by omega), sg_y4 a (show ms_n s - 1 < ms_n s by omega), Option.bind_some, nI_1, ← xl_1]
end SG
