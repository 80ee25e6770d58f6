/-! A NEW PLAN, a new syllable -/
set_option maxRecDepth 100000
section PL
variable {h : xh_H} {N : Nat} {r p e l f : Int32}
theorem x_newplan (hf : f = 0 ∨ f = 1) : ∃ h', f_X3_init N (some h.2.1) r p e l f (xh_push h (.inr (.inr (3, [.int 0, .int 0, .int 0, .int 0, .int 0])))) = some ((), h', 0, 0) ∧ h'.1 h.2.1 = some (.inr (.inr (3, [.int r, .int p, .int e, .int l, .int f]))) ∧ XE h h' ∧ h'.2.1 = h.2.1 + 1 := by
  unfold f_X3_init
  rw [xo_chk xp_eq]
  simp only [Option.bind_some]
  rw [xo_pI xp_eq (by exact (by decide : 0 < 5))]
  simp only [Option.bind_some, List.set]
  rw [xo_pI xs_eq (by exact (by decide : 1 < 5))]
  simp only [Option.bind_some, List.set]
  rw [xo_pI xs_eq (by exact (by decide : 2 < 5))]
  simp only [Option.bind_some, List.set]
  rw [xo_pI xs_eq (by exact (by decide : 3 < 5))]
  simp only [Option.bind_some, List.set]
  rw [xo_pZ xs_eq (by exact (by decide : 4 < 5)) hf]
  simp only [Option.bind_some, List.set]
  refine ⟨_, rfl, xs_eq, ?_, rfl⟩
  refine ((((XW.push.trans (XW.setp ?_) (fun q hq z => by omega)).trans (XW.setp ?_) (fun q hq z => by omega)).trans (XW.setp ?_) (fun q hq z => by omega)).trans (XW.setp ?_) (fun q hq z => by omega)).trans (XW.setp ?_) (fun q hq z => by omega) <;> exact Nat.lt_succ_self h.2.1
theorem x_newsyl : ∃ h', f_X5_init N (some h.2.1) r p e l f (xh_push h (.inr (.inr (5, [.int 0, .int 0, .int 0, .int 0, .int 0])))) = some ((), h', 0, 0) ∧ h'.1 h.2.1 = some (.inr (.inr (5, [.int r, .int p, .int e, .int l, .int f]))) ∧ XE h h' ∧ h'.2.1 = h.2.1 + 1 := by
  unfold f_X5_init
  rw [xo_chk xp_eq]
  simp only [Option.bind_some]
  rw [xo_pI xp_eq (by exact (by decide : 0 < 5))]
  simp only [Option.bind_some, List.set]
  rw [xo_pI xs_eq (by exact (by decide : 1 < 5))]
  simp only [Option.bind_some, List.set]
  rw [xo_pI xs_eq (by exact (by decide : 2 < 5))]
  simp only [Option.bind_some, List.set]
  rw [xo_pI xs_eq (by exact (by decide : 3 < 5))]
  simp only [Option.bind_some, List.set]
  rw [xo_pI xs_eq (by exact (by decide : 4 < 5))]
  simp only [Option.bind_some, List.set]
  refine ⟨_, rfl, xs_eq, ?_, rfl⟩
  refine ((((XW.push.trans (XW.setp ?_) (fun q hq z => by omega)).trans (XW.setp ?_) (fun q hq z => by omega)).trans (XW.setp ?_) (fun q hq z => by omega)).trans (XW.setp ?_) (fun q hq z => by omega)).trans (XW.setp ?_) (fun q hq z => by omega) <;> exact Nat.lt_succ_self h.2.1
/-- a right plan -/
def pl_ok (r p e l : Int32) : Prop := (0 ≤ r ∧ r ≤ 32) ∧ (0 ≤ p ∧ p ≤ 60) ∧ (0 ≤ e ∧ e ≤ 60) ∧ (1 ≤ l ∧ l ≤ 32)
theorem x_planRight {a : Nat} {f : Int32} (o : h.1 a = some (.inr (.inr (3, [.int r, .int p, .int e, .int l, .int f])))) (P : Decidable (pl_ok r p e l)) : f_X3_isRight N (some a) h = some (if pl_ok r p e l then 1 else 0, h, 0, 0) := by
  unfold f_X3_isRight f_X3_isRight_b50
  rw [xo_gI o (k := 0) rfl]
  simp only [Option.bind_some, x_isB, x_isPitch, xc_0]
  by_cases h1 : 0 ≤ r ∧ r ≤ 32
  · rw [if_neg (fun q => xin_0.mp q h1), xo_gI o (k := 1) rfl]
    simp only [Option.bind_some]
    by_cases h2 : 0 ≤ p ∧ p ≤ 60
    · rw [if_neg (fun q => xin_0.mp q h2), xo_gI o (k := 2) rfl]
      simp only [Option.bind_some]
      by_cases h3 : 0 ≤ e ∧ e ≤ 60
      · rw [if_neg (fun q => xin_0.mp q h3), xo_gI o (k := 3) rfl]
        simp only [Option.bind_some]
        by_cases h4 : 1 ≤ l ∧ l ≤ 32
        · rw [if_neg (fun q => xin_0.mp q h4), if_pos ⟨h1, h2, h3, h4⟩]
        · rw [if_pos (xin_0.mpr h4), if_neg (fun q => h4 q.2.2.2)]
      · rw [if_pos (xin_0.mpr h3), if_neg (fun q => h3 q.2.2.1)]
    · rw [if_pos (xin_0.mpr h2), if_neg (fun q => h2 q.2.1)]
  · rw [if_pos (xin_0.mpr h1), if_neg (fun q => h1 q.1)]
end PL
