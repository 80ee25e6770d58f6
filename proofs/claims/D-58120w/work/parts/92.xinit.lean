/-! THE CLASS's START: a new song -/
set_option maxRecDepth 100000
theorem xi_ok : ms_ok (xi_V 1) ∧ ms_n (xi_V 1) = 0 := by
  have e : xi_V 1 = upd (upd (upd (upd (fun _ => 0) 0 16) 1 1) 2 2) 4 50 := xm_sVs
  have hi : ∀ j, 5 ≤ j → xi_V 1 j = 0 := fun j hj => by
    rw [e]; unfold upd
    rw [if_neg (by omega), if_neg (by omega), if_neg (by omega), if_neg (by omega)]
  have n0 : ms_n (xi_V 1) = 0 := by unfold ms_n; rw [hi 5 (by omega)]; rfl
  refine ⟨⟨by rw [n0, hi 5 (by omega)]; rfl, by omega, fun k hk => by omega, fun k hk => by omega, fun hk => by omega, ⟨by rw [e]; decide, by rw [e]; decide, by rw [e]; decide⟩, fun t ht => by rw [hi _ (by omega)]; decide⟩, n0⟩
section XI
variable {h : xh_H} {b N : Nat}
theorem x_song0 (hN : 3000 ≤ N) (w : WF h) (hb : h.1 b = some (.inr (.inr (1, [.null, .null, .null])))) :
    ∃ h' A rf, f_X1_init N (some b) h = some ((), h', 3, 608) ∧ XS h' (xi_V 1) A 0 0 rf ∧ A 0 = b ∧ XW (fun q => q = b) h h' ∧ (∀ q, XF A 0 q → q = b ∨ h.2.1 ≤ q) := by
  have hbl := w.1 _ _ hb
  unfold f_X1_init
  rw [x_na600]
  have x1 := x_newrow (h := h)
  have u1 : (xh_push h (.inl (0, 600, fun _ => 0))).1 h.2.1 = some (.inl (0, 600, fun _ => 0)) := xp_eq
  have b1 := x1.getE w hb
  have z1 : (xh_push h (.inl (0, 600, fun _ => 0))).2.1 = h.2.1 + 1 := rfl
  have w1 := x1.wf w
  generalize xh_push h (.inl (0, 600, fun _ => 0)) = h1 at *
  unfold xh_na
  rw [show (5 : Int32) = nI 5 from rfl, nI_clamp (by omega), if_pos ⟨nI_pos' (by omega), by omega⟩]
  dsimp only
  have x2 : XE h1 (xh_push h1 (.inl (0, 5, fun _ => 0))) := XW.push
  have t2 : (xh_push h1 (.inl (0, 5, fun _ => 0))).1 h1.2.1 = some (.inl (0, 5, fun _ => 0)) := xp_eq
  have z2 : (xh_push h1 (.inl (0, 5, fun _ => 0))).2.1 = h1.2.1 + 1 := rfl
  have u2 := x2.getE w1 u1
  have b2 := x2.getE w1 b1
  have w2 := x2.wf w1
  generalize xh_push h1 (.inl (0, 5, fun _ => 0)) = h2 at *
  have q0 : ∀ x y, xh_sv x (some h1.2.1) 0 (0 : Int32) y = xh_sv x (some h1.2.1) 0 (nI 0) y := fun _ _ => rfl
  have q1 : ∀ x y, xh_sv x (some h1.2.1) 0 (1 : Int32) y = xh_sv x (some h1.2.1) 0 (nI 1) y := fun _ _ => rfl
  have q2 : ∀ x y, xh_sv x (some h1.2.1) 0 (2 : Int32) y = xh_sv x (some h1.2.1) 0 (nI 2) y := fun _ _ => rfl
  have q3 : ∀ x y, xh_sv x (some h1.2.1) 0 (3 : Int32) y = xh_sv x (some h1.2.1) 0 (nI 3) y := fun _ _ => rfl
  have q4 : ∀ x y, xh_sv x (some h1.2.1) 0 (4 : Int32) y = xh_sv x (some h1.2.1) 0 (nI 4) y := fun _ _ => rfl
  rw [q0, xo_sv t2 (by omega) (by omega)]
  simp only [Option.bind_some]
  rw [q1, xo_sv xs_eq (by omega) (by omega)]
  simp only [Option.bind_some]
  rw [q2, xo_sv xs_eq (by omega) (by omega)]
  simp only [Option.bind_some]
  rw [q3, xo_sv xs_eq (by omega) (by omega)]
  simp only [Option.bind_some]
  rw [q4, xo_sv xs_eq (by omega) (by omega)]
  simp only [Option.bind_some, xs_ss]
  have x3 : XE h (xh_set h2 h1.2.1 (.inl (0, 5, upd (upd (upd (upd (upd (fun _ => 0) 0 16) 1 1) 2 2) 3 0) 4 50))) := (x1.trans x2 (fun _ _ => id)).trans (XW.setp (show h1.2.1 < h2.2.1 by omega)) (fun q hq z => by omega)
  have t3 : (xh_set h2 h1.2.1 (.inl (0, 5, upd (upd (upd (upd (upd (fun _ => 0) 0 16) 1 1) 2 2) 3 0) 4 50))).1 h1.2.1 = some (.inl (0, 5, upd (upd (upd (upd (upd (fun _ => 0) 0 16) 1 1) 2 2) 3 0) 4 50)) := xs_eq
  have u3 : (xh_set h2 h1.2.1 (.inl (0, 5, upd (upd (upd (upd (upd (fun _ => 0) 0 16) 1 1) 2 2) 3 0) 4 50))).1 h.2.1 = some (.inl (0, 600, fun _ => 0)) := by rw [xs_ne (by omega)]; exact u2
  have z3 : (xh_set h2 h1.2.1 (.inl (0, 5, upd (upd (upd (upd (upd (fun _ => 0) 0 16) 1 1) 2 2) 3 0) 4 50))).2.1 = h2.2.1 := rfl
  have b3 := x3.getE w hb
  have w3 := x3.wf w
  generalize xh_set h2 h1.2.1 (.inl (0, 5, upd (upd (upd (upd (upd (fun _ => 0) 0 16) 1 1) 2 2) 3 0) 4 50)) = h3 at *
  obtain ⟨h4, e4, b4, l4, x4, z4⟩ := x_init2 (N := N) (u := some h.2.1) (t := some h1.2.1) w3 b3
  rw [xo_chk b3]
  simp only [Option.bind_some, e4, xc_k]
  have u4 := x4.get w3 u3 (by omega)
  have t4 := x4.get w3 t3 (by omega)
  have w4 := x4.wf w3
  have x04 : XW (fun q => q = b) h h4 := (x3.mono (fun _ _ => False.elim)).trans x4 (fun _ _ => id)
  have loop : ∀ m c n, c + m = 600 → m < n → f_X1_init_l36 N n (some b) (nI c) (xh_set h4 h.2.1 (.inl (0, 600, ms_pre (fun _ => -1) (fun _ => 0) c))) = some ((), xh_set h4 h.2.1 (.inl (0, 600, ms_pre (fun _ => -1) (fun _ => 0) 600)), 0, 0) := by
    intro m
    induction m with
    | zero =>
      intro c n hc hnn
      obtain ⟨n, rfl⟩ : ∃ j, n = j + 1 := ⟨n - 1, by omega⟩
      have : c = 600 := by omega
      subst this
      rw [show f_X1_init_l36 N (n + 1) = f_X1_init_b36 N (f_X1_init_l36 N n) from rfl]
      unfold f_X1_init_b36
      rw [if_pos (by decide)]
    | succ m ih =>
      intro c n hc hnn
      obtain ⟨n, rfl⟩ : ∃ j, n = j + 1 := ⟨n - 1, by omega⟩
      rw [show f_X1_init_l36 N (n + 1) = f_X1_init_b36 N (f_X1_init_l36 N n) from rfl]
      unfold f_X1_init_b36
      have b5 : (xh_set h4 h.2.1 (.inl (0, 600, ms_pre (fun _ => -1) (fun _ => 0) c))).1 b = _ := (xs_ne (by omega)).trans b4
      rw [if_neg (by rw [show (600 : Int32) = nI 600 from rfl, nI_leI (by omega) (by omega)]; omega), xo_gR (x := some h.2.1) (k := 1) b5 rfl]
      simp only [Option.bind_some]
      rw [xo_sv xs_eq (show c < 600 by omega) (by omega)]
      simp only [Option.bind_some, xs_ss, nI_1]
      rw [ms_pre_s]
      exact ih (c + 1) n (by omega) (by omega)
  have l0 := loop 600 0 N (by omega) (by omega)
  rw [ms_pre_0, xs_id u4] at l0
  have l0' : f_X1_init_l36 N N (some b) 0 h4 = _ := l0
  rw [l0']
  have e1 : xi_V 1 = upd (upd (upd (upd (fun _ => 0) 0 16) 1 1) 2 2) 4 50 := xm_sVs
  have x5 : XW (fun q => q = h.2.1) h4 (xh_set h4 h.2.1 (.inl (0, 600, ms_pre (fun _ => -1) (fun _ => 0) 600))) := XW.setp (by omega)
  have nb : b ≠ h.2.1 := by omega
  have nt : h1.2.1 ≠ h.2.1 := by omega
  refine ⟨_, fun i => match i with | 0 => b | 1 => h3.2.1 | 2 => h.2.1 | 3 => h1.2.1 | _ => h3.2.2 1, fun _ => none, rfl, ⟨(xs_ne nb).trans b4, by rw [xi_ok.2]; exact l4.keep w4 x5 (by omega) (fun c => absurd rfl c), ⟨_, xs_eq, fun t ht => ?_⟩, ⟨_, (xs_ne nt).trans t4, fun j hj => ?_⟩, fun k hk => ?_⟩, rfl, x04.trans x5 (fun q hq z => by omega), fun q hq => ?_⟩
  · unfold ms_pre
    rw [if_pos ht, e1]
    unfold upd
    rw [if_neg (by omega), if_neg (by omega), if_neg (by omega), if_neg (by omega)]
    rfl
  · rw [e1]
    have : j = 0 ∨ j = 1 ∨ j = 2 ∨ j = 3 ∨ j = 4 := by omega
    rcases this with rfl | rfl | rfl | rfl | rfl <;> rfl
  · rw [xi_ok.2] at hk; omega
  · rcases hq with q1 | q1 | q1 | q1 | ⟨q1, q2⟩
    · exact Or.inl q1
    · have q1 : q = h3.2.1 := q1
      exact Or.inr (by omega)
    · have q1 : q = h.2.1 := q1
      exact Or.inr (by omega)
    · have q1 : q = h1.2.1 := q1
      exact Or.inr (by omega)
    · exact absurd rfl q2
end XI
