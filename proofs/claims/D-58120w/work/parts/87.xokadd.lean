/-! THE SONG's RULE behind an addition -/
set_option maxRecDepth 100000
section AD
variable {s : Nat → Int32} {r p e l f : Int32}
theorem ma_o {j : Nat} (h : j < 6 + 5 * ms_n s ∨ 6 + 5 * ms_n s + 5 ≤ j) (h5 : j ≠ 5) : ms_add s r p e l f j = s j := by
  unfold ms_add upd
  rw [if_neg h5, if_neg (by omega), if_neg (by omega), if_neg (by omega), if_neg (by omega), if_neg (by omega)]
theorem ma_0 : ms_add s r p e l f (6 + 5 * ms_n s) = ms_end s + r := by
  unfold ms_add upd
  rw [if_neg (by omega), if_neg (by omega), if_neg (by omega), if_neg (by omega), if_neg (by omega), if_pos rfl]
theorem ma_1 : ms_add s r p e l f (6 + 5 * ms_n s + 1) = l := by
  unfold ms_add upd
  rw [if_neg (by omega), if_neg (by omega), if_neg (by omega), if_neg (by omega), if_pos rfl]
theorem ma_2 : ms_add s r p e l f (6 + 5 * ms_n s + 2) = p := by
  unfold ms_add upd
  rw [if_neg (by omega), if_neg (by omega), if_neg (by omega), if_pos rfl]
theorem ma_3 : ms_add s r p e l f (6 + 5 * ms_n s + 3) = e := by
  unfold ms_add upd
  rw [if_neg (by omega), if_neg (by omega), if_pos rfl]
theorem ma_4 : ms_add s r p e l f (6 + 5 * ms_n s + 4) = if ms_n s = 0 then 1 else f := by
  unfold ms_add upd
  rw [if_neg (by omega), if_pos rfl]
theorem ms_end_nat (hok : ms_ok s) : ∃ E, E ≤ 600 ∧ ms_end s = nI E ∧ (0 < ms_n s → E = ms_b s (ms_n s - 1) + ms_l s (ms_n s - 1)) := by
  obtain ⟨h5, hn, hsy, -⟩ := hok
  unfold ms_end
  by_cases z : ms_n s = 0
  · rw [if_pos z]
    exact ⟨0, by omega, rfl, fun q => by omega⟩
  · rw [if_neg z]
    obtain ⟨hb, hl, h1, h2, h3, -⟩ := hsy (ms_n s - 1) (by omega)
    exact ⟨_, h3, by rw [hb, hl, nI_add], fun _ => rfl⟩
theorem ms_ok_add (hok : ms_ok s) (hn : ms_n s < 40) (hr : 0 ≤ r ∧ r ≤ 32) (hl : 1 ≤ l ∧ l ≤ 32) (ht : (ms_end s + r) + l ≤ 600) (hf : f = 0 ∨ f = 1) : ms_ok (ms_add s r p e l f) := by
  obtain ⟨E, hE, eE, hEn⟩ := ms_end_nat hok
  obtain ⟨h5, -, hsy, hap, hfi, hst, hsu⟩ := hok
  obtain ⟨er, hr2⟩ := nI_btw (n := 32) (by omega) hr.1 hr.2
  obtain ⟨el, hl2⟩ := nI_btw (n := 32) (by omega) (Int32.le_trans (by decide) hl.1) hl.2
  have hl1 : 1 ≤ l.toNatClampNeg := by
    have := hl.1
    rw [el, show (1 : Int32) = nI 1 from rfl, nI_leI (by omega) (by omega)] at this
    exact this
  generalize r.toNatClampNeg = r' at er hr2
  generalize l.toNatClampNeg = l' at el hl2 hl1
  subst er el
  rw [eE, nI_add, nI_add, show (600 : Int32) = nI 600 from rfl, nI_leI (by omega) (by omega)] at ht
  obtain ⟨a5, an⟩ := ms_add_n (s := s) (r := nI r') (p := p) (e := e) (l := nI l') (f := f) (by omega)
  have eb : ∀ k, k < ms_n s → ms_b (ms_add s (nI r') p e (nI l') f) k = ms_b s k := fun k hk => by unfold ms_b; rw [ma_o (by omega) (by omega)]
  have ell : ∀ k, k < ms_n s → ms_l (ms_add s (nI r') p e (nI l') f) k = ms_l s k := fun k hk => by unfold ms_l; rw [ma_o (by omega) (by omega)]
  have ebn : ms_b (ms_add s (nI r') p e (nI l') f) (ms_n s) = E + r' := by unfold ms_b; rw [ma_0, eE, nI_add, nI_clamp (by omega)]
  have eln : ms_l (ms_add s (nI r') p e (nI l') f) (ms_n s) = l' := by unfold ms_l; rw [ma_1, nI_clamp (by omega)]
  refine ⟨by rw [a5, an], by omega, fun k hk => ?_, fun k hk => ?_, fun _ => ?_, ?_, fun t ht => ?_⟩
  · rw [an] at hk
    by_cases z : k = ms_n s
    · subst z
      rw [ma_0, ma_1, ma_4, ebn, eln, eE, nI_add]
      refine ⟨rfl, rfl, hl1, hl2, by omega, ?_⟩
      split
      · exact Or.inr rfl
      · exact hf
    · rw [ma_o (by omega) (by omega), ma_o (by omega) (by omega), ma_o (by omega) (by omega), eb k (by omega), ell k (by omega)]
      exact hsy k (by omega)
  · rw [an] at hk
    by_cases z : k + 1 = ms_n s
    · rw [z, ebn, eb k (by omega), ell k (by omega)]
      have := hEn (by omega)
      rw [show ms_n s - 1 = k by omega] at this
      omega
    · rw [eb k (by omega), ell k (by omega), eb (k + 1) (by omega)]
      exact hap k (by omega)
  · by_cases z : ms_n s = 0
    · have := ma_4 (s := s) (r := nI r') (p := p) (e := e) (l := nI l') (f := f)
      rw [z, if_pos rfl] at this
      exact this
    · rw [ma_o (by omega) (by omega)]
      exact hfi (by omega)
  · rw [ma_o (by omega) (by omega), ma_o (by omega) (by omega)]
    exact hst
  · rw [ma_o (by omega) (by omega)]
    exact hsu t ht
end AD
