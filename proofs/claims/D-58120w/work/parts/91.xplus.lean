/-! A SONG with one syllable more -/
set_option maxRecDepth 100000
section AP
variable {s : Nat → Int32} {r p e l f : Int32}
theorem ma_ph {k : Nat} (hk : k < ms_n s) : ms_ph (ms_add s r p e l f) k = ms_ph s k := by
  unfold ms_ph
  rw [ms_cnt_congr (p := ms_fst (ms_add s r p e l f)) (p' := ms_fst s) (k + 1) (fun i hi => by unfold ms_fst; rw [Nat.zero_add, ma_o (by omega) (by omega)])]
theorem ma_phn (hok : ms_ok s) (hf : f = 0 ∨ f = 1) : ms_ph (ms_add s r p e l f) (ms_n s) = if ms_n s = 0 ∨ f = 1 then ms_phs s else ms_phs s - 1 := by
  have ec : ms_cnt (ms_fst (ms_add s r p e l f)) 0 (ms_n s) = ms_cnt (ms_fst s) 0 (ms_n s) := ms_cnt_congr _ (fun i hi => by unfold ms_fst; rw [Nat.zero_add, ma_o (by omega) (by omega)])
  have e1 : ms_ph (ms_add s r p e l f) (ms_n s) = ms_cnt (ms_fst s) 0 (ms_n s) + (if ms_fst (ms_add s r p e l f) (ms_n s) then 1 else 0) - 1 := by
    unfold ms_ph
    rw [ms_cnt_s, ec]
  have e2 : ms_fst (ms_add s r p e l f) (ms_n s) = decide ((if ms_n s = 0 then 1 else f) = 1) := by
    unfold ms_fst
    rw [ma_4]
  rw [e1, e2]
  by_cases z : ms_n s = 0
  · rw [if_pos (Or.inl z), if_pos z, z]
    unfold ms_phs
    rw [if_pos z]; rfl
  · have hp := ms_fst_pos (hok.2.2.2.2.1 (by omega)) (ms_n s - 1)
    rw [show ms_n s - 1 + 1 = ms_n s by omega] at hp
    have ep : ms_phs s = ms_cnt (ms_fst s) 0 (ms_n s) := by
      unfold ms_phs ms_ph
      rw [if_neg z, show ms_n s - 1 + 1 = ms_n s by omega]
      omega
    rw [if_neg z, ep]
    rcases hf with rfl | rfl
    · rw [if_neg (show ¬ (ms_n s = 0 ∨ (0 : Int32) = 1) from fun q => q.elim z (fun q => absurd q (by decide)))]
      rfl
    · rw [if_pos (show ms_n s = 0 ∨ (1 : Int32) = 1 from Or.inr rfl)]
      rfl
end AP
section XP
variable {h : xh_H} {s : Nat → Int32} {A : Nat → Nat} {mc : Int32} {cap : Nat} {rf : Nat → Option Nat} {N y : Nat} {r p e l f : Int32}
theorem xs_plus (w : WF h) (hS : XS h s A mc cap rf) (hn : ms_n s < 40) (hy : h.1 y = some (.inr (.inr (5, [.int (ms_end s + r), .int l, .int p, .int e, .int (nI (ms_ph (ms_add s r p e l f) (ms_n s)))])))) :
    ∃ h' A' cap' rf' kc ks, f_J2_add N (some (A 1)) (some y) h = some (1, h', kc, ks) ∧ XS h' (ms_add s r p e l f) A' (mc + 1) cap' rf' ∧ A' 0 = A 0 ∧ XW (fun q => q = A 1 ∨ (q = A 4 ∧ cap ≠ 0)) h h' ∧ (∀ q, XF A' cap' q → XF A cap q ∨ h.2.1 ≤ q) ∧ kc ≤ 1 ∧ ks ≤ 75 := by
  obtain ⟨h', e', cap', rf', kc, ks, f1, f2, f3, f4, f5, f6, f7, f8, f9⟩ := jl_add (N := N) (x := some y) w hS.2.1 (by omega) (fun k hk => sg_st hS hk) (xst_1 hy (Or.inr (Or.inr rfl)))
  have ec : ∀ (z : Nat) (c : xh_E), h.1 z = some c → (∀ fs, c ≠ .inr (.inr (8, fs))) → (∀ n g, c ≠ .inr (.inl (n, g))) → ¬ (z = A 1 ∨ (z = A 4 ∧ cap ≠ 0)) := by
    rintro z c ez n8 na (q | ⟨q, qc⟩)
    · rw [q, hS.2.1.1] at ez; cases ez; exact n8 _ rfl
    · rcases hS.2.1.2.2.2 with ⟨c0, -⟩ | ⟨-, ea, -⟩
      · exact qc c0
      · rw [q, ea] at ez; cases ez; exact na _ _ rfl
  obtain ⟨fu, u1, u2⟩ := id hS.2.2.1
  obtain ⟨ft, t1, t2⟩ := id hS.2.2.2.1
  have an := (ms_add_n (s := s) (r := r) (p := p) (e := e) (l := l) (f := f) (by omega)).2
  refine ⟨h', fun i => if i = 4 then e' else A i, cap', rf', kc, ks, f1, ⟨f6.get w hS.1 (ec _ _ hS.1 (fun _ q => by cases q) (fun _ _ q => by cases q)), by rw [an]; exact f2, ⟨fu, f6.get w u1 (ec _ _ u1 (fun _ q => by cases q) (fun _ _ q => by cases q)), fun t ht => by rw [u2 t ht, ma_o (by omega) (by omega)]⟩, ⟨ft, f6.get w t1 (ec _ _ t1 (fun _ q => by cases q) (fun _ _ q => by cases q)), fun i hi => by rw [t2 i hi, ma_o (by omega) (by omega)]⟩, fun k hk => ?_⟩, rfl, f6, fun q hq => ?_, f7, f8⟩
  · rw [an] at hk
    by_cases z : k = ms_n s
    · subst z
      refine ⟨y, f3, ?_⟩
      rw [ma_0, ma_1, ma_2, ma_3]
      exact f6.get w hy (ec _ _ hy (fun _ q => by cases q) (fun _ _ q => by cases q))
    · obtain ⟨y', y1, y2⟩ := hS.2.2.2.2 k (by omega)
      refine ⟨y', by rw [f4 k (by omega)]; exact y1, ?_⟩
      rw [ma_o (by omega) (by omega), ma_o (by omega) (by omega), ma_o (by omega) (by omega), ma_o (by omega) (by omega), ma_ph (by omega)]
      exact f6.get w y2 (ec _ _ y2 (fun _ q => by cases q) (fun _ _ q => by cases q))
  · rcases hq with q1 | q1 | q1 | q1 | ⟨q1, q2⟩
    · exact Or.inl (Or.inl q1)
    · exact Or.inl (Or.inr (Or.inl q1))
    · exact Or.inl (Or.inr (Or.inr (Or.inl q1)))
    · exact Or.inl (Or.inr (Or.inr (Or.inr (Or.inl q1))))
    · have q1 : q = e' := q1
      rcases f5 with ⟨f5, f5c⟩ | f5
      · exact Or.inl (Or.inr (Or.inr (Or.inr (Or.inr ⟨by rw [q1, f5], f5c⟩))))
      · exact Or.inr (by rw [q1]; exact f5)
end XP
