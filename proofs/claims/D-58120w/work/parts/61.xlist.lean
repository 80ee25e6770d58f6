/-! THE LIST's METHODS that write, and the iterator's -/
set_option maxRecDepth 100000
section JL
variable {h : xh_H} {l : Nat} {mc : Int32} {e cap n : Nat} {rf : Nat → Option Nat} {N : Nat}
theorem jl_lt (w : WF h) (a : XL h l mc e cap n rf) : l < h.2.1 ∧ e < h.2.1 := by
  refine ⟨w.1 _ _ a.1, ?_⟩
  rcases a.2.2.2 with ⟨-, c⟩ | ⟨-, c, -⟩
  · rw [c]; exact w.2
  · exact w.1 _ _ c
theorem jl_ne (a : XL h l mc e cap n rf) (hn : 0 < n) : e ≠ l := by
  obtain ⟨-, c⟩ := jl_arr a hn
  intro q
  rw [q, a.1] at c
  cases c
theorem jl_add {x : Option Nat} (w : WF h) (a : XL h l mc e cap n rf) (hn : n ≤ 50) (hst : ∀ k, k < n → xh_st h (rf k) = true) (hx : xh_st h x = true) :
    ∃ h' e' cap' rf' kc ks, f_J2_add N (some l) x h = some (1, h', kc, ks) ∧ XL h' l (mc + 1) e' cap' (n + 1) rf' ∧ rf' n = x ∧ (∀ k, k < n → rf' k = rf k) ∧ ((e' = e ∧ cap ≠ 0) ∨ h.2.1 ≤ e') ∧ XW (fun q => q = l ∨ (q = e ∧ cap ≠ 0)) h h' ∧ kc ≤ 1 ∧ ks ≤ 75 ∧ cap' ≠ 0 := by
  obtain ⟨hl, he⟩ := jl_lt w a
  unfold f_J2_add
  rw [xo_gI a.1 rfl]
  simp only [Option.bind_some]
  rw [xo_pI a.1 (by exact (by decide : 0 < 3))]
  simp only [Option.bind_some, List.set]
  have a1 : (xh_set h l (.inr (.inr (8, [.int (mc + 1), .ref e, .int (nI n)])))).1 l = some (.inr (.inr (8, [.int (mc + 1), .ref e, .int (nI n)]))) := xs_eq
  have w1 : WF (xh_set h l (.inr (.inr (8, [.int (mc + 1), .ref e, .int (nI n)])))) := (XW.setp hl).wf w
  have x1 : XW (fun q => q = l) h (xh_set h l (.inr (.inr (8, [.int (mc + 1), .ref e, .int (nI n)])))) := XW.setp hl
  have st1 : ∀ v, xh_st h v = true → xh_st (xh_set h l (.inr (.inr (8, [.int (mc + 1), .ref e, .int (nI n)])))) v = true := by
    intro v hv
    refine xst_keep w x1 (fun b hb q => ?_) hv
    subst hb q
    obtain ⟨c, fs, e1, e2⟩ := xst_c hv
    rw [a.1] at e1
    cases e1
    omega
  have b1 : XL (xh_set h l (.inr (.inr (8, [.int (mc + 1), .ref e, .int (nI n)])))) l (mc + 1) e cap n rf := by
    refine ⟨xs_eq, a.2.1, a.2.2.1, a.2.2.2.imp id fun ⟨z1, z2, z3⟩ => ⟨z1, ?_, z3⟩⟩
    rw [xs_ne (fun q => by rw [q, a.1] at z2; cases z2)]
    exact z2
  have hs1 : (xh_set h l (.inr (.inr (8, [.int (mc + 1), .ref e, .int (nI n)])))).2 = h.2 := rfl
  generalize xh_set h l (.inr (.inr (8, [.int (mc + 1), .ref e, .int (nI n)]))) = h1 at *
  have hz1 : h1.2.1 = h.2.1 := by rw [hs1]
  rw [xo_gR (x := some e) a1 rfl]
  simp only [Option.bind_some]
  rw [xo_gI a1 (k := 2) rfl]
  simp only [Option.bind_some, xo_chk a1]
  unfold f_J2_add_2
  have hlq : xh_lq h1 (some e) = some (nI cap) := by
    rcases b1.2.2.2 with ⟨c1, c2⟩ | ⟨c1, c2, -⟩
    · unfold xh_lq; rw [if_pos (by rw [c2]), c1]; rfl
    · exact xo_lq c2 c1
  rw [hlq]
  simp only [Option.bind_some]
  -- the store
  have h11 : ∀ (h2 : xh_H) (e2 cap2 : Nat) (rf2 : Nat → Option Nat), WF h2 → XL h2 l (mc + 1) e2 cap2 n rf2 → e2 ≠ h2.2.2 1 → h2.1 e2 = some (.inr (.inl (cap2, rf2))) → 10 ≤ cap2 → n < cap2 → xh_st h2 x = true → ∃ h', f_J2_add_2_b11 N (some l) x (some e2) (nI n) h2 = some ((), h', 0, 0) ∧ XL h' l (mc + 1) e2 cap2 (n + 1) (va_up rf2 n x) ∧ XW (fun q => q = l ∨ q = e2) h2 h' := by
    intro h2 e2 cap2 rf2 w2 a2 g2 ea2 c10 hc2 hx2
    have hc3 := a2.2.2.1
    unfold f_J2_add_2_b11
    rw [xo_sr ea2 hc2 (by omega) hx2]
    simp only [Option.bind_some]
    have ne2 : l ≠ e2 := fun q => by have := a2.1; rw [q, ea2] at this; cases this
    have a3 : (xh_set h2 e2 (.inr (.inl (cap2, va_up rf2 n x)))).1 l = some (.inr (.inr (8, [.int (mc + 1), .ref e2, .int (nI n)]))) := by rw [xs_ne ne2]; exact a2.1
    rw [xo_pI a3 (by exact (by decide : 2 < 3)), nI_1]
    refine ⟨_, rfl, ⟨xs_eq, by omega, by omega, Or.inr ⟨g2, ?_, c10⟩⟩, ?_⟩
    · rw [xs_ne ne2.symm]; exact xs_eq
    · exact ((XW.setp (w2.1 _ _ ea2)).mono (fun q _ => Or.inr)).trans (XW.setp (w2.1 _ _ a2.1 : l < (xh_set h2 e2 (.inr (.inl (cap2, va_up rf2 n x)))).2.1)) (fun q _ => Or.inl)
  have hcn := a.2.1
  by_cases z : n = cap
  · rw [if_pos (by rw [z])]
    obtain ⟨cap', rf', c1, c2, c3, c4, c5⟩ := jl_grow (N := N) w1 b1 (by omega) z.symm (fun k hk => st1 _ (hst k hk))
    simp only [xo_chk a1, Option.bind_some]
    rw [c5]
    simp only [xc_k]
    have xg : XW (fun q => q = l) h1 (xh_set (xh_push h1 (.inr (.inl (cap', rf')))) l (.inr (.inr (8, [.int (mc + 1), .ref h1.2.1, .int (nI n)])))) :=
      (XW.push.mono (fun _ _ => False.elim)).trans (XW.setp (show l < (xh_push h1 (.inr (.inl (cap', rf')))).2.1 from (by show l < h1.2.1 + 1; omega))) (fun q _ => id)
    have wg := xg.wf w1
    have lne : l ≠ h1.2.1 := by omega
    have g1 : h1.2.1 ≠ h1.2.2 1 := by have := w1.2; omega
    have ag : XL (xh_set (xh_push h1 (.inr (.inl (cap', rf')))) l (.inr (.inr (8, [.int (mc + 1), .ref h1.2.1, .int (nI n)])))) l (mc + 1) h1.2.1 cap' n rf' :=
      ⟨xs_eq, by omega, by omega, Or.inr ⟨g1, by rw [xs_ne lne.symm]; exact xp_eq, c2⟩⟩
    obtain ⟨h', d1, d2, d3⟩ := h11 _ h1.2.1 cap' rf' wg ag g1 (by rw [xs_ne lne.symm]; exact xp_eq) c2 c1 (xst_keep w1 xg (fun b hb q => by
      subst hb q
      obtain ⟨c, fs, e1, e2⟩ := xst_c hx
      rw [a.1] at e1
      cases e1
      omega) (st1 _ hx))
    rw [d1]
    refine ⟨h', h1.2.1, cap', va_up rf' n x, 1, cap', ?_, d2, if_pos rfl, fun k hk => ?_, Or.inr (by omega), ?_, by omega, by omega, by omega⟩
    · simp only [xh_cal, xh_ad]; rfl
    · unfold va_up; rw [if_neg (by omega)]; exact c4 k hk
    · refine (x1.mono (fun q _ => Or.inl)).trans (xg.trans d3 (fun q hq hh => ?_)) (fun q _ hh => Or.inl hh)
      rcases hh with hh | hh
      · exact hh
      · omega
  · rw [if_neg (fun q => z ((nI_eq (by omega) (by have := a.2.2.1; omega)).mp q))]
    rcases b1.2.2.2 with ⟨c1, c2⟩ | ⟨c1, c2, c3⟩
    · omega
    · obtain ⟨h', d1, d2, d3⟩ := h11 _ e cap rf w1 b1 c1 c2 c3 (by omega) (st1 _ hx)
      rw [d1]
      refine ⟨h', e, cap, va_up rf n x, 0, 0, ?_, d2, if_pos rfl, fun k hk => ?_, Or.inl ⟨rfl, by omega⟩, ?_, by omega, by omega, by omega⟩
      · simp only [xh_cal, xh_ad]
      · unfold va_up; rw [if_neg (by omega)]
      · exact (x1.mono (fun q _ => Or.inl)).trans d3 (fun q _ hh => hh.imp id (fun y => ⟨y, by omega⟩))
theorem jl_remove {i : Nat} (w : WF h) (a : XL h l mc e cap n rf) (hi : i < n) (hst : ∀ k, k < n → xh_st h (rf k) = true) :
    ∃ h' rf', f_J2_remove N (some l) (nI i) h = some (rf i, h', 0, 0) ∧ XL h' l (mc + 1) e cap (n - 1) rf' ∧ (∀ k, k < n - 1 → rf' k = if k < i then rf k else rf (k + 1)) ∧ XW (fun q => q = l ∨ q = e) h h' := by
  obtain ⟨hl, he⟩ := jl_lt w a
  have hne := jl_ne a (by omega)
  obtain ⟨g, ea⟩ := jl_arr a (by omega)
  have hn := a.2.1
  have hc := a.2.2.1
  have c10 : 10 ≤ cap := by rcases a.2.2.2 with c | c; · omega
                            · exact c.2.2
  unfold f_J2_remove
  rw [xo_gI a.1 (k := 2) rfl]
  simp only [Option.bind_some]
  unfold f_J7_checkIndex f_J8_checkIndex
  rw [if_neg (Int32.not_lt.mpr (nI_pos' (by omega))), if_pos ((nI_ltI (by omega) (by omega)).mpr hi)]
  simp only [xc_0]
  rw [xo_gR (x := some e) a.1 rfl]
  simp only [xc_0, Option.bind_some]
  rw [xo_lr ea (by omega) (by omega)]
  simp only [Option.bind_some, xo_chk a.1]
  unfold f_J2_fastRemove
  rw [xo_gI a.1 (k := 0) rfl]
  simp only [Option.bind_some]
  rw [xo_pI a.1 (by exact (by decide : 0 < 3))]
  simp only [Option.bind_some, List.set]
  have a1 : (xh_set h l (.inr (.inr (8, [.int (mc + 1), .ref e, .int (nI n)])))).1 l = some (.inr (.inr (8, [.int (mc + 1), .ref e, .int (nI n)]))) := xs_eq
  have ea1 : (xh_set h l (.inr (.inr (8, [.int (mc + 1), .ref e, .int (nI n)])))).1 e = some (.inr (.inl (cap, rf))) := by rw [xs_ne hne]; exact ea
  have x1 : XW (fun q => q = l) h (xh_set h l (.inr (.inr (8, [.int (mc + 1), .ref e, .int (nI n)])))) := XW.setp hl
  have hs1 : (xh_set h l (.inr (.inr (8, [.int (mc + 1), .ref e, .int (nI n)])))).2 = h.2 := rfl
  have st1 : ∀ v, xh_st h v = true → xh_st (xh_set h l (.inr (.inr (8, [.int (mc + 1), .ref e, .int (nI n)])))) v = true := by
    intro v hv
    refine xst_keep w x1 (fun b hb q => ?_) hv
    subst hb q
    obtain ⟨c, fs, e1, e2⟩ := xst_c hv
    rw [a.1] at e1
    cases e1
    omega
  generalize xh_set h l (.inr (.inr (8, [.int (mc + 1), .ref e, .int (nI n)]))) = h1 at *
  rw [xo_gI a1 (k := 2) rfl]
  simp only [Option.bind_some]
  have em : nI n - 1 = nI (n - 1) := by rw [xl_1, pk_sub (by omega)]
  rw [em]
  have h34 : ∀ (h2 : xh_H) (rf2 : Nat → Option Nat), XW (fun q => q = e) h1 h2 → h2.1 e = some (.inr (.inl (cap, rf2))) → h2.1 l = some (.inr (.inr (8, [.int (mc + 1), .ref e, .int (nI n)]))) → ∃ h' rf', f_J2_fastRemove_b34 N (some l) (some e) (nI (n - 1)) h2 = some ((), h', 0, 0) ∧ XL h' l (mc + 1) e cap (n - 1) rf' ∧ (∀ k, k < n - 1 → rf' k = rf2 k) ∧ XW (fun q => q = l ∨ q = e) h2 h' := by
    intro h2 rf2 x2 ea2 a2
    have w2 : WF h2 := x2.wf (x1.wf w)
    unfold f_J2_fastRemove_b34
    rw [xo_pI a2 (by exact (by decide : 2 < 3))]
    simp only [Option.bind_some, List.set]
    have ea3 : (xh_set h2 l (.inr (.inr (8, [.int (mc + 1), .ref e, .int (nI (n - 1))])))).1 e = some (.inr (.inl (cap, rf2))) := by rw [xs_ne hne]; exact ea2
    rw [xo_sr ea3 (by omega) (by omega) rfl]
    refine ⟨_, va_up rf2 (n - 1) none, rfl, ⟨by rw [xs_ne hne.symm]; exact xs_eq, by omega, hc, Or.inr ⟨?_, xs_eq, c10⟩⟩, fun k hk => ?_, ?_⟩
    · show e ≠ h2.2.2 1
      rw [x2.2.2.1, x1.2.2.1]; exact g
    · unfold va_up; rw [if_neg (by omega)]
    · exact ((XW.setp (w2.1 _ _ a2)).mono (fun q _ => Or.inl)).trans (XW.setp (w2.1 _ _ ea2 : e < (xh_set h2 l (.inr (.inr (8, [.int (mc + 1), .ref e, .int (nI (n - 1))])))).2.1)) (fun q _ => Or.inr)
  by_cases z : n - 1 ≤ i
  · rw [if_pos ((nI_leI (by omega) (by omega)).mpr z)]
    obtain ⟨h', rf', d1, d2, d3, d4⟩ := h34 h1 rf XW.refl ea1 a1
    rw [d1]
    refine ⟨h', rf', rfl, d2, fun k hk => ?_, (x1.mono (fun q _ => Or.inl)).trans d4 (fun q _ => id)⟩
    rw [if_pos (by omega)]; exact d3 k hk
  · rw [if_neg (fun q => z ((nI_leI (by omega) (by omega)).mp q)), nI_1, pk_sub (by omega)]
    rw [xo_cpy ea1 ea1 (by omega) (by omega) (by omega) (by omega) (fun j hj => st1 _ (hst _ (by omega)))]
    simp only [Option.bind_some]
    have x2 : XW (fun q => q = e) h1 (xh_set h1 e (.inr (.inl (cap, va_cpy rf rf (i + 1) i (n - 1 - i))))) := XW.setp (by rw [hs1]; exact he)
    obtain ⟨h', rf', d1, d2, d3, d4⟩ := h34 (xh_set h1 e (.inr (.inl (cap, va_cpy rf rf (i + 1) i (n - 1 - i))))) _ x2 xs_eq (by rw [xs_ne hne.symm]; exact a1)
    rw [d1]
    refine ⟨h', rf', rfl, d2, fun k hk => ?_, (x1.mono (fun q _ => Or.inl)).trans ((x2.mono (fun q _ => Or.inr)).trans d4 (fun q _ => id)) (fun q _ => id)⟩
    · rw [d3 k hk]
      unfold va_cpy
      by_cases y : k < i
      · rw [if_neg (by omega), if_pos y]
      · rw [if_pos (by omega), if_neg y]
        congr 1; omega
theorem jl_clear (w : WF h) (a : XL h l mc e cap n rf) (hN : 3000 ≤ N) :
    ∃ h' rf', f_J2_clear N (some l) h = some ((), h', 0, 0) ∧ XL h' l (mc + 1) e cap 0 rf' ∧ XW (fun q => q = l ∨ q = e) h h' := by
  obtain ⟨hl, he⟩ := jl_lt w a
  have hn := a.2.1
  have hc := a.2.2.1
  unfold f_J2_clear
  rw [xo_gI a.1 (k := 0) rfl]
  simp only [Option.bind_some]
  rw [xo_pI a.1 (by exact (by decide : 0 < 3))]
  simp only [Option.bind_some, List.set]
  rw [xo_gR (x := some e) (xs_eq (h := h)) rfl]
  simp only [Option.bind_some]
  rw [xo_gI (xs_eq (h := h)) (k := 2) rfl]
  simp only [Option.bind_some]
  rw [xo_pI (xs_eq (h := h)) (by exact (by decide : 2 < 3))]
  simp only [Option.bind_some, List.set]
  have x1 : XW (fun q => q = l) h (xh_set (xh_set h l (.inr (.inr (8, [.int (mc + 1), .ref e, .int (nI n)])))) l (.inr (.inr (8, [.int (mc + 1), .ref e, .int 0])))) :=
    (XW.setp hl).trans (XW.setp hl) (fun _ _ => id)
  have a1 : (xh_set (xh_set h l (.inr (.inr (8, [.int (mc + 1), .ref e, .int (nI n)])))) l (.inr (.inr (8, [.int (mc + 1), .ref e, .int 0])))).1 l = some (.inr (.inr (8, [.int (mc + 1), .ref e, .int (nI 0)]))) := xs_eq
  have ea1 : e ≠ l → (xh_set (xh_set h l (.inr (.inr (8, [.int (mc + 1), .ref e, .int (nI n)])))) l (.inr (.inr (8, [.int (mc + 1), .ref e, .int 0])))).1 e = h.1 e := fun z => by rw [xs_ne z, xs_ne z]
  have hs1 : (xh_set (xh_set h l (.inr (.inr (8, [.int (mc + 1), .ref e, .int (nI n)])))) l (.inr (.inr (8, [.int (mc + 1), .ref e, .int 0])))).2 = h.2 := rfl
  generalize xh_set (xh_set h l (.inr (.inr (8, [.int (mc + 1), .ref e, .int (nI n)])))) l (.inr (.inr (8, [.int (mc + 1), .ref e, .int 0]))) = h1 at *
  rcases Nat.eq_zero_or_pos n with z | z
  · subst z
    obtain ⟨N', rfl⟩ : ∃ j, N = j + 1 := ⟨N - 1, by omega⟩
    show ∃ h' rf', f_J2_clear_b27 (N' + 1) (f_J2_clear_l27 (N' + 1) N') (some e) (nI 0) 0 h1 = _ ∧ _
    unfold f_J2_clear_b27
    rw [if_pos (by decide)]
    refine ⟨h1, rf, rfl, ⟨a1, by omega, hc, ?_⟩, x1.mono (fun q _ => Or.inl)⟩
    rw [x1.2.2.1]
    refine a.2.2.2.imp id (fun ⟨y1, y2, y3⟩ => ⟨y1, ?_, y3⟩)
    rw [ea1 (fun q => by rw [q, a.1] at y2; cases y2)]
    exact y2
  · obtain ⟨g, ea⟩ := jl_arr a z
    have hne := jl_ne a z
    rw [← ea1 hne] at ea
    have key : ∀ m i (h2 : xh_H) (rf2 : Nat → Option Nat), i + m = n → XW (fun q => q = e) h1 h2 → h2.1 e = some (.inr (.inl (cap, rf2))) → ∀ N', m < N' → ∃ h' rf', f_J2_clear_l27 N N' (some e) (nI n) (nI i) h2 = some ((), h', 0, 0) ∧ XW (fun q => q = e) h1 h' ∧ h'.1 e = some (.inr (.inl (cap, rf'))) := by
      intro m
      induction m with
      | zero =>
        intro i h2 rf2 hi x2 e2 N' hN'
        obtain ⟨N'', rfl⟩ : ∃ j, N' = j + 1 := ⟨N' - 1, by omega⟩
        show ∃ h' rf', f_J2_clear_b27 N (f_J2_clear_l27 N N'') (some e) (nI n) (nI i) h2 = _ ∧ _
        unfold f_J2_clear_b27
        rw [if_pos ((nI_leI (by omega) (by omega)).mpr (by omega))]
        exact ⟨h2, rf2, rfl, x2, e2⟩
      | succ m ih =>
        intro i h2 rf2 hi x2 e2 N' hN'
        obtain ⟨N'', rfl⟩ : ∃ j, N' = j + 1 := ⟨N' - 1, by omega⟩
        show ∃ h' rf', f_J2_clear_b27 N (f_J2_clear_l27 N N'') (some e) (nI n) (nI i) h2 = _ ∧ _
        unfold f_J2_clear_b27
        rw [if_neg (fun q => by have := (nI_leI (by omega) (by omega)).mp q; omega), xo_sr e2 (by omega) (by omega) rfl]
        simp only [Option.bind_some, nI_1]
        refine ih (i + 1) _ (va_up rf2 i none) (by omega) (x2.trans (XW.setp ?_) (fun q _ => id)) xs_eq N'' (by omega)
        exact Nat.lt_of_lt_of_le he (by rw [← hs1]; exact x2.2.1)
    obtain ⟨h', rf', d1, d2, d3⟩ := key n 0 h1 rf (by omega) XW.refl ea N (by omega)
    refine ⟨h', rf', d1, ⟨?_, by omega, hc, Or.inr ⟨by rw [d2.2.2.1, x1.2.2.1]; exact g, d3, ?_⟩⟩, (x1.mono (fun q _ => Or.inl)).trans d2 (fun q _ => Or.inr)⟩
    · exact d2.get (x1.wf w) a1 hne.symm
    · rcases a.2.2.2 with c | c
      · omega
      · exact c.2.2
/-! the iterator: cell i, c elements read -/
def XI (h : xh_H) (i : Nat) (c : Nat) (mc : Int32) (l : Nat) : Prop := ∃ lr, h.1 i = some (.inr (.inr (9, [.int (nI c), .int lr, .int mc, .ref l])))
theorem jl_iter (w : WF h) (a : XL h l mc e cap n rf) : ∃ h', f_J2_iterator N (some l) h = some (some h.2.1, h', 1, 4) ∧ XI h' h.2.1 0 mc l ∧ XE h h' ∧ XL h' l mc e cap n rf ∧ h.2.1 < h'.2.1 := by
  obtain ⟨hl, he⟩ := jl_lt w a
  unfold f_J2_iterator xh_new
  dsimp only
  rw [xo_chk xp_eq]
  simp only [Option.bind_some]
  unfold f_J3_init
  rw [xo_pR xp_eq (by exact (by decide : 3 < 4))]
  simp only [Option.bind_some, List.set]
  rw [xo_chk xs_eq]
  simp only [Option.bind_some]
  rw [xo_pI xs_eq (by exact (by decide : 1 < 4))]
  simp only [Option.bind_some, List.set]
  rw [xo_gR (x := some l) xs_eq rfl]
  simp only [Option.bind_some]
  have al : (xh_set (xh_set (xh_push h (.inr (.inr (9, [.int 0, .int 0, .int 0, .null])))) h.2.1 (.inr (.inr (9, [.int 0, .int 0, .int 0, va_rf (some l)])))) h.2.1 (.inr (.inr (9, [.int 0, .int (-1), .int 0, va_rf (some l)])))).1 l = some (.inr (.inr (8, [.int mc, .ref e, .int (nI n)]))) := by
    rw [xs_ne (by omega), xs_ne (by omega), xp_ne (by omega)]; exact a.1
  rw [xo_gI al (k := 0) rfl]
  simp only [Option.bind_some]
  rw [xo_pI xs_eq (by exact (by decide : 2 < 4))]
  simp only [Option.bind_some, List.set, xc_0]
  have xx : XE h (xh_set (xh_set (xh_set (xh_push h (.inr (.inr (9, [.int 0, .int 0, .int 0, .null])))) h.2.1 (.inr (.inr (9, [.int 0, .int 0, .int 0, va_rf (some l)])))) h.2.1 (.inr (.inr (9, [.int 0, .int (-1), .int 0, va_rf (some l)])))) h.2.1 (.inr (.inr (9, [.int 0, .int (-1), .int mc, va_rf (some l)])))) := by
    refine ((XW.push.trans (XW.setp ?_) (fun q hq z => by omega)).trans (XW.setp ?_) (fun q hq z => by omega)).trans (XW.setp ?_) (fun q hq z => by omega) <;> exact Nat.lt_succ_self h.2.1
  exact ⟨_, rfl, ⟨-1, xs_eq⟩, xx, a.keep w xx id (fun _ => id), Nat.lt_succ_self _⟩
theorem jl_hasNext {i c : Nat} (b : XI h i c mc l) (a : XL h l mc e cap n rf) (hc : c ≤ n) : f_J3_hasNext N (some i) h = some (if c = n then 0 else 1, h, 0, 0) := by
  have hn := a.2.1
  have hcap := a.2.2.1
  obtain ⟨lr, b⟩ := b
  unfold f_J3_hasNext
  rw [xo_gI b (k := 0) rfl]
  simp only [Option.bind_some]
  rw [xo_gR (x := some l) b rfl]
  simp only [Option.bind_some]
  rw [xo_gI a.1 (k := 2) rfl]
  simp only [Option.bind_some]
  by_cases z : c = n
  · rw [if_pos z, if_pos (by rw [z])]
  · rw [if_neg z, if_neg (fun q => z ((nI_eq (by omega) (by omega)).mp q))]
theorem jl_next {i c : Nat} (b : XI h i c mc l) (a : XL h l mc e cap n rf) (hc : c < n) : ∃ h', f_J3_next N (some i) h = some (rf c, h', 0, 0) ∧ XI h' i (c + 1) mc l ∧ XW (fun q => q = i) h h' := by
  have hn := a.2.1
  have hcap := a.2.2.1
  obtain ⟨g, ea⟩ := jl_arr a (by omega)
  obtain ⟨lr, b⟩ := b
  unfold f_J3_next
  rw [xo_chk b]
  simp only [Option.bind_some]
  unfold f_J3_checkForComodification
  rw [xo_gR (x := some l) b rfl]
  simp only [Option.bind_some]
  rw [xo_gI a.1 (k := 0) rfl]
  simp only [Option.bind_some]
  rw [xo_gI b (k := 2) rfl]
  simp only [Option.bind_some, if_true, xc_0]
  rw [xo_gI b (k := 0) rfl]
  simp only [Option.bind_some]
  rw [xo_gR (x := some l) b rfl]
  simp only [Option.bind_some]
  rw [xo_gI a.1 (k := 2) rfl]
  simp only [Option.bind_some]
  rw [if_pos ((nI_ltI (by omega) (by omega)).mpr hc)]
  rw [xo_gR (x := some e) a.1 rfl]
  simp only [Option.bind_some]
  rw [xo_lq ea g]
  simp only [Option.bind_some]
  rw [if_pos ((nI_ltI (by omega) (by omega)).mpr (by omega)), xo_pI b (by exact (by decide : 0 < 4))]
  simp only [Option.bind_some, List.set]
  rw [xo_pI xs_eq (by exact (by decide : 1 < 4))]
  simp only [Option.bind_some, List.set]
  have ie : e ≠ i := fun q => by rw [q, b] at ea; cases ea
  rw [xo_lr (by rw [xs_ne ie, xs_ne ie]; exact ea) (by omega) (by omega)]
  rw [nI_1]
  refine ⟨_, rfl, ⟨nI c, xs_eq⟩, ⟨fun q hq hne => ?_, Nat.le_refl _, rfl, fun w => ?_⟩⟩
  · rw [xs_ne hne, xs_ne hne]
  · have hi := w.1 _ _ b
    refine XW.wf (XW.setp ?_) (XW.wf (XW.setp ?_) w) <;> exact hi
end JL
