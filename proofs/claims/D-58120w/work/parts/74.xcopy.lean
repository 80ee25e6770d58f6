/-! A NEW LIST, a copy of a song, the history -/
set_option maxRecDepth 100000
section XC
variable {h : xh_H} {s : Nat → Int32} {A : Nat → Nat} {mc : Int32} {cap : Nat} {rf : Nat → Option Nat} {a hl tx N : Nat} {sn : Option Nat} {len : Int32}
theorem x_newlist (w : WF h) : ∃ h', f_J2_init N (some h.2.1) (xh_push h (.inr (.inr (8, [.int 0, .null, .int 0])))) = some ((), h', 0, 0) ∧ XL h' h.2.1 0 (h.2.2 1) 0 0 (fun _ => none) ∧ XE h h' ∧ h'.2.1 = h.2.1 + 1 := by
  unfold f_J2_init
  rw [xo_chk xp_eq]
  simp only [Option.bind_some]
  unfold f_J1_init
  rw [xo_chk xp_eq]
  simp only [Option.bind_some]
  unfold f_J0_init
  rw [xo_chk xp_eq]
  simp only [Option.bind_some, xc_0]
  rw [xo_pI xp_eq (by exact (by decide : 0 < 3))]
  simp only [Option.bind_some, List.set, xc_0]
  unfold xh_gs
  simp only [Option.bind_some]
  rw [xo_pR xs_eq (by exact (by decide : 1 < 3))]
  simp only [Option.bind_some, List.set]
  refine ⟨_, rfl, ⟨xs_eq, Nat.le_refl _, by omega, Or.inl ⟨rfl, rfl⟩⟩, ?_, rfl⟩
  refine (XW.push.trans (XW.setp ?_) (fun q hq z => by omega)).trans (XW.setp ?_) (fun q hq z => by omega) <;> exact Nat.lt_succ_self h.2.1
theorem x_init2 {b : Nat} {u t : Option Nat} (w : WF h) (hb : h.1 b = some (.inr (.inr (1, [.null, .null, .null])))) : ∃ h', f_X1_init_2 N (some b) u t h = some ((), h', 1, 3) ∧ h'.1 b = some (.inr (.inr (1, [.ref h.2.1, va_rf u, va_rf t]))) ∧ XL h' h.2.1 0 (h.2.2 1) 0 0 (fun _ => none) ∧ XW (fun q => q = b) h h' ∧ h'.2.1 = h.2.1 + 1 := by
  have hbl := w.1 _ _ hb
  unfold f_X1_init_2
  rw [xo_chk hb]
  simp only [Option.bind_some]
  unfold xh_new
  dsimp only
  rw [xo_chk xp_eq]
  simp only [Option.bind_some]
  obtain ⟨h1, e1, l1, x1, z1⟩ := x_newlist (N := N) w
  rw [e1]
  simp only [xc_0]
  have hb1 := x1.getE w hb
  rw [xo_pR hb1 (by exact (by decide : 0 < 3))]
  simp only [Option.bind_some, List.set]
  rw [xo_pR xs_eq (by exact (by decide : 1 < 3))]
  simp only [Option.bind_some, List.set]
  rw [xo_pR xs_eq (by exact (by decide : 2 < 3))]
  simp only [Option.bind_some, List.set]
  have x2 : XW (fun q => q = b) h1 (xh_set (xh_set (xh_set h1 b (.inr (.inr (1, [va_rf (some h.2.1), .null, .null])))) b (.inr (.inr (1, [va_rf (some h.2.1), va_rf u, .null])))) b (.inr (.inr (1, [va_rf (some h.2.1), va_rf u, va_rf t])))) := by
    refine ((XW.setp ?_).trans (XW.setp ?_) (fun q _ => id)).trans (XW.setp ?_) (fun q _ => id) <;> (show b < h1.2.1; omega)
  refine ⟨_, rfl, xs_eq, l1.keep (x1.wf w) x2 (by omega) (fun c => absurd rfl c), (x1.mono (fun _ _ => False.elim)).trans x2 (fun q _ => id), z1⟩
/-- a copy of a song, in cells of its own -/
theorem x_copy (hN : 3000 ≤ N) (w : WF h) (hS : XS h s A mc cap rf) (hn : ms_n s ≤ 40) :
    ∃ h' A' mc' cap' rf' kc ks, f_X1_copy N (some (A 0)) h = some (some (A' 0), h', kc, ks) ∧ XE h h' ∧ XS h' s A' mc' cap' rf' ∧ (∀ q, XF A' cap' q → h.2.1 ≤ q) ∧ kc ≤ 50 ∧ ks ≤ 4000 := by
  unfold f_X1_copy xh_new
  dsimp only
  have x1 : XE h (xh_push h (.inr (.inr (1, [.null, .null, .null])))) := XW.push
  have w1 := x1.wf w
  have hS1 := hS.ext w x1
  have hb1 : (xh_push h (.inr (.inr (1, [.null, .null, .null])))).1 h.2.1 = some (.inr (.inr (1, [.null, .null, .null]))) := xp_eq
  have z1 : (xh_push h (.inr (.inr (1, [.null, .null, .null])))).2.1 = h.2.1 + 1 := rfl
  generalize xh_push h (.inr (.inr (1, [.null, .null, .null]))) = h1 at *
  obtain ⟨f, hu, hu'⟩ := id hS1.2.2.1
  obtain ⟨g, ht, ht'⟩ := id hS1.2.2.2.1
  simp only [sg_1 hS1, Option.bind_some]
  unfold xh_cln
  rw [xo_ai hu]
  simp only [Option.bind_some]
  have x2 : XE h1 (xh_push h1 (.inl (0, 600, f))) := XW.push
  have hu2 : (xh_push h1 (.inl (0, 600, f))).1 h1.2.1 = some (.inl (0, 600, f)) := xp_eq
  have z2 : (xh_push h1 (.inl (0, 600, f))).2.1 = h1.2.1 + 1 := rfl
  have w2 := x2.wf w1
  have hS2 := hS1.ext w1 x2
  have ht2 := x2.getE w1 ht
  have hb2 := x2.getE w1 hb1
  generalize xh_push h1 (.inl (0, 600, f)) = h2 at *
  simp only [xo_ca hu2, sg_2 hS2, Option.bind_some]
  rw [xo_ai ht2]
  simp only [Option.bind_some]
  have x3 : XE h2 (xh_push h2 (.inl (0, 5, g))) := XW.push
  have ht3 : (xh_push h2 (.inl (0, 5, g))).1 h2.2.1 = some (.inl (0, 5, g)) := xp_eq
  have z3 : (xh_push h2 (.inl (0, 5, g))).2.1 = h2.2.1 + 1 := rfl
  have w3 := x3.wf w2
  have hS3 := hS2.ext w2 x3
  have hb3 := x3.getE w2 hb2
  have hu3 := x3.getE w2 hu2
  generalize xh_push h2 (.inl (0, 5, g)) = h3 at *
  simp only [xo_ca ht3, xo_chk hb3, Option.bind_some]
  obtain ⟨h4, e4, hb4, l4, x4, z4⟩ := x_init2 (N := N) (u := some h1.2.1) (t := some h2.2.1) w3 hb3
  have x03 : XE h h3 := (x1.trans x2 (fun _ _ => id)).trans x3 (fun _ _ => id)
  have x04 : XE h h4 := x03.trans x4 (fun q hq z => by omega)
  have w4 := x04.wf w
  have hS4 := hS.ext w x04
  rw [e4]
  simp only [xc_k, sg_0 hS4, sg_l hS4, Option.bind_some]
  obtain ⟨h5, e5, i5, x5, -, z5⟩ := jl_iter (N := N) w4 hS4.2.1
  rw [e5]
  simp only [xc_k]
  have hl3 := w3.2
  have hu4 := x4.get w3 hu3 (by omega)
  have ht4 := x4.get w3 ht3 (by omega)
  have w5 := x5.wf w4
  have key : ∀ m c h' (mc' : Int32) e' cap' rf' n, c + m = ms_n s → m < n → XE h h' → h'.1 h.2.1 = some (.inr (.inr (1, [.ref h3.2.1, .ref h1.2.1, .ref h2.2.1]))) → h'.1 h1.2.1 = some (.inl (0, 600, f)) → h'.1 h2.2.1 = some (.inl (0, 5, g)) → XI h' h4.2.1 c mc (A 1) → XL h' h3.2.1 mc' e' cap' c rf' → (cap' ≠ 0 → h4.2.1 < e') → (∀ k, k < c → rf' k = rf k) →
      ∃ h'' mc'' e'' cap'' rf'' kc ks, f_X1_copy_l38 N n (some h.2.1) (some h4.2.1) h' = some (some h.2.1, h'', kc, ks) ∧ XE h h'' ∧ h''.1 h.2.1 = some (.inr (.inr (1, [.ref h3.2.1, .ref h1.2.1, .ref h2.2.1]))) ∧ h''.1 h1.2.1 = some (.inl (0, 600, f)) ∧ h''.1 h2.2.1 = some (.inl (0, 5, g)) ∧ XL h'' h3.2.1 mc'' e'' cap'' (ms_n s) rf'' ∧ (cap'' ≠ 0 → h4.2.1 < e'') ∧ (∀ k, k < ms_n s → rf'' k = rf k) ∧ kc ≤ m ∧ ks ≤ 75 * m := by
    intro m
    induction m with
    | zero =>
      intro c h' mc' e' cap' rf' n hc hnn xe c1 c2 c3 xi xl hce hrf
      obtain ⟨n, rfl⟩ : ∃ i, n = i + 1 := ⟨n - 1, by omega⟩
      have hS' := hS.ext w xe
      have hcn : c = ms_n s := by omega
      subst hcn
      rw [show f_X1_copy_l38 N (n + 1) = f_X1_copy_b38 N (f_X1_copy_l38 N n) from rfl]
      unfold f_X1_copy_b38 f_X1_copy_b71
      have xi' := xi
      obtain ⟨lr, xi'⟩ := xi'
      simp only [xo_chk xi', Option.bind_some, jl_hasNext xi hS'.2.1 (Nat.le_refl _), xc_0]
      rw [if_pos trivial, if_pos rfl]
      exact ⟨h', mc', e', cap', rf', 0, 0, rfl, xe, c1, c2, c3, xl, hce, hrf, by omega, by omega⟩
    | succ m ih =>
      intro c h' mc' e' cap' rf' n hc hnn xe c1 c2 c3 xi xl hce hrf
      obtain ⟨n, rfl⟩ : ∃ i, n = i + 1 := ⟨n - 1, by omega⟩
      have hS' := hS.ext w xe
      have hk : c < ms_n s := by omega
      have wf' := xe.wf w
      rw [show f_X1_copy_l38 N (n + 1) = f_X1_copy_b38 N (f_X1_copy_l38 N n) from rfl]
      unfold f_X1_copy_b38
      have xi' := xi
      obtain ⟨lr, xi'⟩ := xi'
      simp only [xo_chk xi', Option.bind_some, jl_hasNext xi hS'.2.1 (show c ≤ ms_n s by omega), xc_0]
      rw [if_neg (show ¬ c = ms_n s by omega), if_neg (by decide)]
      obtain ⟨g2, e2, i2, y2⟩ := jl_next (N := N) xi hS'.2.1 hk
      have ye2 : XE h g2 := xe.trans y2 (fun q hq z => by omega)
      have v2 := ye2.wf w
      have hS2' := hS.ext w ye2
      have d1 := y2.get wf' c1 (by omega)
      have d2 := y2.get wf' c2 (by omega)
      have d3 := y2.get wf' c3 (by omega)
      have xl2 := xl.keep wf' y2 (by omega) (fun c => by have := hce c; omega)
      rw [e2, sg_rf hS hk]
      simp only [xc_0, sg_yk hS2' hk, Option.bind_some]
      rw [xo_gR (x := some h3.2.1) d1 rfl]
      simp only [Option.bind_some, xo_chk xl2.1]
      obtain ⟨g3, e3', cap3, rf3, kc, ks, f1, f2, f3, f4, f5, f6, f7, f8, f9⟩ := jl_add (N := N) (x := some (xy rf c)) v2 xl2 (by omega) (fun k hk' => by rw [hrf k hk']; exact sg_st hS2' (by omega)) (by rw [← sg_rf hS hk]; exact sg_st hS2' hk)
      have ye3 : XE h g3 := ye2.trans f6 (fun q hq z => by
        rcases z with z | ⟨z, zc⟩
        · omega
        · have := hce zc; omega)
      rw [f1]
      simp only [xc_k]
      have hz2 := y2.2.1
      have i3 : XI g3 h4.2.1 (c + 1) mc (A 1) := by
        obtain ⟨lr', i2'⟩ := i2
        exact ⟨lr', f6.get v2 i2' (by
          rintro (z | ⟨z, zc⟩)
          · omega
          · have := hce zc; omega)⟩
      have hi2 := xe.2.1
      have hxi := wf'.1 _ _ xi'
      obtain ⟨h'', mc'', e'', cap'', rf'', kc', ks', r1, r2, r3, r4, r5, r6, r7, r8, r9, r10⟩ := ih (c + 1) g3 (mc' + 1) e3' cap3 rf3 n (by omega) (by omega) ye3 (f6.get v2 d1 (by
          rintro (z | ⟨z, zc⟩)
          · omega
          · have := hce zc; omega)) (f6.get v2 d2 (by
          rintro (z | ⟨z, zc⟩)
          · omega
          · have := hce zc; omega)) (f6.get v2 d3 (by
          rintro (z | ⟨z, zc⟩)
          · omega
          · have := hce zc; omega)) i3 f2 (fun _ => by
            rcases f5 with ⟨f5, f5c⟩ | f5
            · rw [f5]; exact hce f5c
            · omega) (fun k hk' => by
            by_cases y : k = c
            · rw [y, f3, sg_rf hS hk]
            · rw [f4 k (by omega)]; exact hrf k (by omega))
      refine ⟨h'', mc'', e'', cap'', rf'', kc + kc', ks + ks', ?_, r2, r3, r4, r5, r6, r7, r8, by omega, by omega⟩
      rw [r1]; rfl
  have hb5 := x5.getE w4 hb4
  have l5 := l4.keep w4 x5 id (fun c => absurd rfl c)
  obtain ⟨h6, mc6, e6, cap6, rf6, kc, ks, r1, r2, r3, r4, r5, r6, r7, r8, r9, r10⟩ := key (ms_n s) 0 h5 0 (h3.2.2 1) 0 (fun _ => none) N (by omega) (by omega) (x04.trans x5 (fun _ _ => id)) hb5 (x5.getE w4 hu4) (x5.getE w4 ht4) i5 l5 (fun c => absurd rfl c) (fun k hk => by omega)
  rw [r1]
  refine ⟨h6, fun i => match i with | 0 => h.2.1 | 1 => h3.2.1 | 2 => h1.2.1 | 3 => h2.2.1 | _ => e6, mc6, cap6, rf6, 1 + (1 + (1 + (1 + (1 + kc)))), 3 + (600 + (5 + (3 + (4 + ks)))), rfl, r2, ⟨r3, r6, ⟨f, r4, hu'⟩, ⟨g, r5, ht'⟩, fun k hk => ?_⟩, ?_, by omega, by omega⟩
  · exact ⟨xy rf k, by rw [r8 k hk]; exact sg_rf hS hk, r2.getE w (sg_y hS hk)⟩
  · intro q hq
    rcases hq with q1 | q1 | q1 | q1 | ⟨q1, q2⟩
    · have q1 : q = h.2.1 := q1
      omega
    · have q1 : q = h3.2.1 := q1
      omega
    · have q1 : q = h1.2.1 := q1
      omega
    · have q1 : q = h2.2.1 := q1
      omega
    · have q1 : q = e6 := q1
      have := r7 q2
      omega
end XC
