/-! WHAT WOULD BE -/
set_option maxRecDepth 100000
theorem xa_0 {ρ : Type} {r : xh_R ρ} : xh_ad 0 0 r = r := by
  rcases r with _ | ⟨x, h, a, b⟩
  · rfl
  · show some (x, h, 0 + a, 0 + b) = _
    rw [Nat.zero_add, Nat.zero_add]
theorem xs_ss {h : xh_H} {r : Nat} {e e' : xh_E} : xh_set (xh_set h r e) r e' = xh_set h r e' := by
  refine Prod.ext (funext fun q => ?_) rfl
  by_cases z : q = r
  · rw [z, xs_eq, xs_eq]
  · rw [xs_ne z, xs_ne z, xs_ne z]
theorem xs_id {h : xh_H} {r : Nat} {e : xh_E} (a : h.1 r = some e) : xh_set h r e = h := by
  refine Prod.ext (funext fun q => ?_) rfl
  by_cases z : q = r
  · rw [z, xs_eq, a]
  · rw [xs_ne z]
section XQ
variable {h : xh_H} {s : Nat → Int32} {A : Nat → Nat} {mc : Int32} {cap : Nat} {rf : Nat → Option Nat} {a hl tx N : Nat} {sn : Option Nat} {len : Int32}
theorem x_shift {r : Nat} {g : Nat → Int32} {tk by_ : Int32} (hN : 3000 ≤ N) (wf : WF h) (hO : XO h a (A 0) hl sn tx len) (hS : XS h s A mc cap rf) (hok : ms_ok s) (hr : h.1 r = some (.inl (0, 600, g))) (d : ¬ XF A cap r) :
    ∃ h', f_X0_shift N (some a) (some r) tk by_ h = some ((), h', 0, 0) ∧ XW (fun q => q = r) h h' ∧ XR h' r (ms_hdz s tk by_) := by
  have hlt := wf.1 _ _ hr
  have hx : ∀ e, XW (fun q => q = r) h (xh_set h r e) := fun e => XW.setp hlt
  have hS' : ∀ e, XS (xh_set h r e) s A mc cap rf := fun e => hS.keep wf (hx e) (fun q f z => d (z ▸ f)) (fun q fs e z => by rw [z, hr] at e; cases e)
  have hO' : ∀ e, XO (xh_set h r e) a (A 0) hl sn tx len := fun e => (hx e).get wf hO (fun z => by unfold XO at hO; rw [z, hr] at hO; cases hO)
  unfold f_X0_shift
  have key := xl_run (fun _ _ _ _ _ _ => none) (fun k3 => f_X0_shift_b3 N k3)
    (fun c f => f (some a) (some r) tk by_ (nI c) (xh_set h r (.inl (0, 600, ms_pre (fun t => ms_hdz s tk by_ t - 1) g c))))
    (some ((), xh_set h r (.inl (0, 600, ms_pre (fun t => ms_hdz s tk by_ t - 1) g 600)), 0, 0)) 600 ?_ ?_ N 0 (by omega) (by omega)
  · rw [ms_pre_0, xs_id hr] at key
    refine ⟨_, key, hx _, ⟨_, xs_eq, fun t ht => ?_⟩⟩
    unfold ms_pre
    rw [if_pos ht]
  · intro f c hc
    have hsv : ∀ v, v = ms_hdz s tk by_ c - 1 → xh_sv (xh_set h r (.inl (0, 600, ms_pre (fun t => ms_hdz s tk by_ t - 1) g c))) (some r) 0 (nI c) v = some (xh_set h r (.inl (0, 600, ms_pre (fun t => ms_hdz s tk by_ t - 1) g (c + 1)))) := by
      intro v hv
      subst hv
      rw [xo_sv xs_eq hc (by omega), xs_ss]
      exact congrArg (fun x => some (xh_set h r (.inl (0, 600, x)))) ms_pre_s
    show f_X0_shift_b3 N f _ _ _ _ _ _ = _
    have hO1 := hO' (.inl (0, 600, ms_pre (fun t => ms_hdz s tk by_ t - 1) g c))
    have hS1 := hS' (.inl (0, 600, ms_pre (fun t => ms_hdz s tk by_ t - 1) g c))
    have h55 : ∀ p : Int32, (if 0 ≤ p ∧ p ≤ 60 then p else -1) = ms_hdz s tk by_ c - 1 → f_X0_shift_b55 N f (some a) (some r) tk by_ (nI c) p (xh_set h r (.inl (0, 600, ms_pre (fun t => ms_hdz s tk by_ t - 1) g c))) = f (some a) (some r) tk by_ (nI (c + 1)) (xh_set h r (.inl (0, 600, ms_pre (fun t => ms_hdz s tk by_ t - 1) g (c + 1)))) := by
      intro p hp
      unfold f_X0_shift_b55 f_X0_shift_b74
      simp only [x_isPitch, xc_0]
      by_cases z : 0 ≤ p ∧ p ≤ 60
      · rw [if_pos z] at hp
        rw [if_neg (fun q => xin_0.mp q z), hsv p hp, Option.bind_some, nI_1]
      · rw [if_neg z] at hp
        rw [if_pos (xin_0.mpr z), hsv (-1) hp, Option.bind_some, nI_1]
    have hzz : ms_hdz s tk by_ c = ms_hd s tk by_ c := if_pos hc
    have h54 : ms_u s tk c = 0 → f_X0_shift_b54 N f (some a) (some r) tk by_ (nI c) (xh_set h r (.inl (0, 600, ms_pre (fun t => ms_hdz s tk by_ t - 1) g c))) = f (some a) (some r) tk by_ (nI (c + 1)) (xh_set h r (.inl (0, 600, ms_pre (fun t => ms_hdz s tk by_ t - 1) g (c + 1)))) := by
      intro hu
      unfold f_X0_shift_b54
      refine h55 (-1) ?_
      rw [if_neg (by decide), hzz]
      unfold ms_hd
      rw [hu, if_neg (fun q => absurd q.1 (by decide))]
      rfl
    unfold f_X0_shift_b3
    rw [if_neg (by rw [show (600 : Int32) = nI 600 from rfl, nI_leI (by omega) (by omega)]; omega)]
    simp only [x_isTick, xc_0, xo_0 hO1, sg_1 hS1, Option.bind_some]
    by_cases z : 0 ≤ nI c - tk ∧ nI c - tk ≤ 599
    · rw [if_neg (fun q => xin_0.mp q z)]
      obtain ⟨e1, e2⟩ := nI_btw (n := 599) (by omega) z.1 z.2
      have eu : ms_u s tk c = s (206 + (nI c - tk).toNatClampNeg) := if_pos z
      generalize (nI c - tk).toNatClampNeg = y at e1 e2 eu
      rw [e1]
      simp only [sg_u hS1 (show y < 600 by omega), Option.bind_some, xm1]
      by_cases u0 : s (206 + y) = 0
      · rw [if_pos u0]
        exact h54 (eu.trans u0)
      · rw [if_neg u0]
        refine h55 _ ?_
        have hp : 0 < s (206 + y) := by
          rcases Int32.le_iff_lt_or_eq.mp (hok.2.2.2.2.2.2 y (by omega)).1 with q | q
          · exact q
          · exact absurd q.symm u0
        rw [hzz]
        unfold ms_hd
        rw [eu]
        by_cases x : 0 ≤ (s (206 + y) - 1) + by_ ∧ (s (206 + y) - 1) + by_ ≤ 60
        · rw [if_pos x, if_pos ⟨hp, x⟩]; grind
        · rw [if_neg x, if_neg (fun q => x q.2)]; rfl
    · rw [if_pos (xin_0.mpr z)]
      exact h54 (if_neg z)
  · intro f
    show f_X0_shift_b3 N f _ _ _ _ _ _ = _
    unfold f_X0_shift_b3
    rw [if_pos (by decide)]
theorem x_newrow : XE h (xh_push h (.inl (0, 600, fun _ => 0))) := XW.push
theorem x_na600 {ρ : Type} {F : Option Nat → xh_H → xh_R ρ} : xh_na h 0 (600 : Int32) F = xh_ad 1 600 (F (some h.2.1) (xh_push h (.inl (0, 600, fun _ => 0)))) := by
  unfold xh_na
  rw [show (600 : Int32) = nI 600 from rfl, nI_clamp (by omega), if_pos ⟨nI_pos' (by omega), by omega⟩]
theorem jz_hi {s hd : Nat → Int32} : ∀ i, 6 ≤ i → jz s hd i = fun _ => 0 := fun i hi => by unfold jz; rw [xm_sVn (by omega), xm_sVn (by omega)]
theorem jz_1 {s hd : Nat → Int32} : jz s hd 1 = s := by unfold jz; rw [xm_sVn (by omega), xm_sVs]
theorem jz_5 {s hd : Nat → Int32} : jz s hd 5 = hd := xm_sVs
theorem pS_V {V : Nat → Nat → Int32} {tk by_ : Int32} (v1 : V 1 = s) (v5 : V 5 = ms_hdz s tk by_) : pf_all s (mj_V V (ms_n s) 8) (mj_V V (ms_n s) 10) (ms_n s) (ms_phs s) = pS s tk by_ := by
  refine pf_all_congr (fun k hk => ?_) (fun k hk => ?_) _
  · rw [mj_Vi (by omega), v1, v5]; exact if_pos hk
  · rw [mj_Vi (by omega), v1, v5]; exact if_pos hk
theorem x_ifShifted {tk by_ : Int32} (hN : 3000 ≤ N) (wf : WF h) (hO : XO h a (A 0) hl sn tx len) (hS : XS h s A mc cap rf) (hok : ms_ok s) : QX (f_X0_ifShifted N (some a) tk by_ h) (if (-32 ≤ tk ∧ tk ≤ 32) ∧ (-60 ≤ by_ ∧ by_ ≤ 60) then pS s tk by_ else -2) h 87 1127 := by
  obtain ⟨h5, hn, -⟩ := id hok
  unfold f_X0_ifShifted f_X0_ifShifted_b22
  simp only [x_isB, xc_0]
  by_cases z : -32 ≤ tk ∧ tk ≤ 32
  · rw [if_neg (fun q => xin_0.mp q z)]
    by_cases y : -60 ≤ by_ ∧ by_ ≤ 60
    · rw [if_neg (fun q => xin_0.mp q y), if_pos ⟨z, y⟩, x_na600]
      have xe := x_newrow (h := h)
      have wf1 := xe.wf wf
      have hO1 : XO (xh_push h (.inl (0, 600, fun _ => 0))) a (A 0) hl sn tx len := xe.getE wf hO
      have hS1 := hS.ext wf xe
      have hr1 : (xh_push h (.inl (0, 600, fun _ => 0))).1 h.2.1 = some (.inl (0, 600, fun _ => 0)) := xp_eq
      have dr : ¬ XF A cap h.2.1 := fun f => by have := hS.lt wf f; omega
      obtain ⟨h2, e2, x2, hR2⟩ := x_shift (N := N) (tk := tk) (by_ := by_) hN wf1 hO1 hS1 hok hr1 dr
      simp only [xo_c hO1, Option.bind_some, e2, xc_0]
      have xe2 : XE h h2 := xe.trans x2 (fun q hq z => by omega)
      have wf2 := xe2.wf wf
      have hO2 : XO h2 a (A 0) hl sn tx len := xe2.getE wf hO
      have hS2 := hS.ext wf xe2
      unfold xh_new
      rw [xk_push]
      have xn : XE h2 (xk_H h2 h2.2.1 [.null, .null, .null, .null, .null, .null, .null] 0) := by rw [← xk_push]; exact XW.push
      dsimp only
      rw [xo_0 (A := A) (xn.getE wf2 hO2)]
      have xe3 := xq_new (h := h2) (sg := A 0) (jz_hi (s := s) (hd := ms_hdz s tk by_))
      have wf3 := xe3.wf wf2
      simp only [Option.bind_some, xo_chk xk_b]
      rw [j_init (jz_hi (s := s) (hd := ms_hdz s tk by_))]
      have hS3 := hS2.ext wf2 xe3
      have hR3 := hR2.ext wf2 xe3
      obtain ⟨f, hRc, -⟩ := id hR2
      have hrlt := wf2.1 _ _ hRc
      obtain ⟨h4, e4, x4, hJ4, hS4⟩ := xq_run (N := N) hN wf3 xj_JV hS3 hR3 (fun t _ => ms_hdz_b) hok (fun q f => by have := hS2.lt wf2 f; omega) (by omega) jz_1 jz_5
      simp only [xc_k, xj_c, Option.bind_some, e4, xc_0, jv_c hJ4, xa_0]
      have xe4 : XE h2 h4 := xe3.trans x4 (fun q hq z => by omega)
      have ha := j_all (N := N) hN (xe4.wf wf2) hS4 hJ4 hn
      rw [pS_V jz_1 jz_5] at ha
      refine (QX.ad xe2 (k := 1) (n := 600) (K := 86) (S := 527) ?_).mono (by omega) (by omega)
      refine (QX.ad xe4 (k := 1) (n := 7) (K := 85) (S := 520) ?_).mono (by omega) (by omega)
      refine (QX.ad XW.refl (k := 5) (n := 200) (K := 80) (S := 320) ?_).mono (by omega) (by omega)
      exact QX.cal (K' := 0) (S' := 0) ha (fun h5 x5 => QX.ret)
    · rw [if_pos (xin_0.mpr y), if_neg (fun q => y q.2)]
      exact QX.ret.mono (by omega) (by omega)
  · rw [if_pos (xin_0.mpr z), if_neg (fun q => z q.1)]
    exact QX.ret.mono (by omega) (by omega)
/-- what the shifts keep: the judge at j, the row at r -/
def BI (h h' : xh_H) (s : Nat → Int32) (sg j r : Nat) : Prop := XE h h' ∧ (∃ o V, JV h' j sg o V ∧ V 1 = s) ∧ ∃ g, h'.1 r = some (.inl (0, 600, g))
theorem JV.ghost {H : xh_H} {j sg : Nat} {o : Option Nat} {V : Nat → Nat → Int32} {f : Nat → Int32} (a : JV H j sg o V) : JV H j sg o (xm_sV V 5 f) := ⟨a.1, fun i hi => by rw [xm_sVn (by omega)]; exact a.2 i hi⟩
theorem x_step {h' : xh_H} {j r : Nat} {tk : Int32} (hN : 3000 ≤ N) (wf : WF h) (hO : XO h a (A 0) hl sn tx len) (hS : XS h s A mc cap rf) (hok : ms_ok s) (hj : h.2.1 ≤ j) (hr : j + 6 ≤ r) (hB : BI h h' s (A 0) j r) :
    ∃ h1 h2 h3 kc ks, f_X0_shift N (some a) (some r) tk 0 h' = some ((), h1, 0, 0) ∧ xh_chk h1 (some j) 7 = some () ∧ f_X7_run N (some j) (some r) h1 = some (some j, h2, 0, 0) ∧ xh_chk h2 (some j) 7 = some () ∧ f_X7_all N (some j) h2 = some (pS s tk 0, h3, kc, ks) ∧ kc ≤ 80 ∧ ks ≤ 320 ∧ BI h h3 s (A 0) j r := by
  obtain ⟨xe, ⟨o, V, hJ, v1⟩, g, hg⟩ := hB
  have hn := hok.2.1
  have wf' := xe.wf wf
  have hS' := hS.ext wf xe
  have hO' : XO h' a (A 0) hl sn tx len := xe.getE wf hO
  have lt : ∀ q, XF A cap q → q < h.2.1 := fun q f => hS.lt wf f
  obtain ⟨h1, e1, x1, hR1⟩ := x_shift (N := N) (tk := tk) (by_ := 0) hN wf' hO' hS' hok hg (fun f => by have := lt _ f; omega)
  have hrl := wf'.1 _ _ hg
  have x01 : XE h h1 := xe.trans x1 (fun q hq z => by omega)
  have wf1 := x01.wf wf
  have hS1 := hS.ext wf x01
  have hJ1 : JV h1 j (A 0) o (xm_sV V 5 (ms_hdz s tk 0)) := JV.ghost ⟨x1.get wf' hJ.1 (by omega), fun i hi => x1.get wf' (hJ.2 i hi) (by omega)⟩
  obtain ⟨h2, e2, x2, hJ2, hS2⟩ := xq_run (N := N) hN wf1 hJ1 hS1 hR1 (fun t _ => ms_hdz_b) hok (fun q f => by have := lt q f; omega) (by omega) (by rw [xm_sVn (by omega)]; exact v1) xm_sVs
  have x02 : XE h h2 := x01.trans x2 (fun q hq z => by omega)
  have wf2 := x02.wf wf
  obtain ⟨h3, kc, ks, e3, x3, b1, b2⟩ := j_all (N := N) hN wf2 hS2 hJ2 hn
  rw [pS_V (s := s) (tk := tk) (by_ := 0) (by rw [xm_sVn (by omega)]; exact v1) xm_sVs] at e3
  obtain ⟨f, hf, -⟩ := hR1
  have hf2 : h2.1 r = some (.inl (0, 600, f)) := x2.get wf1 hf (by omega)
  refine ⟨h1, h2, h3, kc, ks, e1, jv_c hJ1, e2, jv_c hJ2, e3, b1, b2, x02.trans x3 (fun _ _ => id), ⟨_, _, hJ2.ext wf2 x3, ?_⟩, f, x3.getE wf2 hf2⟩
  rw [mj_Vo (by omega), xm_sVn (by omega)]
  exact v1
theorem bsT_e : ∀ f : Fin 33, bsT (2 * f.1) = (-1) * nI f.1 ∧ bsT (2 * f.1 + 1) = 1 * nI f.1 := by decide +kernel
theorem x_bestShift (hN : 3000 ≤ N) (wf : WF h) (hO : XO h a (A 0) hl sn tx len) (hS : XS h s A mc cap rf) (hok : ms_ok s) : QX (f_X0_bestShift N (some a) h) ((bs s 64).1 + 32) h 5300 22000 := by
  obtain ⟨h5, hn, -⟩ := id hok
  -- one turn of the inner loop
  have turn : ∀ (k39 : Option Nat → Option Nat → Option Nat → Int32 → Int32 → Int32 → xh_H → xh_R Int32) (k49 : Option Nat → Option Nat → Option Nat → Int32 → Int32 → Int32 → Int32 → xh_H → xh_R Int32) (j r i f : Nat) (sg : Int32) (h' : xh_H) (K S : Nat), h.2.1 ≤ j → j + 6 ≤ r → BI h h' s (A 0) j r → sg ≤ 1 → bsT (i + 2) = sg * nI f →
      (∀ h3, BI h h3 s (A 0) j r → ∃ h4 kc ks, k49 (some a) (some j) (some r) (bs s (i + 1)).1 (bs s (i + 1)).2 (nI f) (sg + 2) h3 = some ((bs s 64).1 + 32, h4, kc, ks) ∧ XE h h4 ∧ kc ≤ K ∧ ks ≤ S) →
      ∃ h4 kc ks, f_X0_bestShift_b49 N k39 k49 (some a) (some j) (some r) (bs s i).1 (bs s i).2 (nI f) sg h' = some ((bs s 64).1 + 32, h4, kc, ks) ∧ XE h h4 ∧ kc ≤ 80 + K ∧ ks ≤ 320 + S := by
    intro k39 k49 j r i f sg h' K S hj hr hB hsg hT hk
    have hO' : XO h' a (A 0) hl sn tx len := hB.1.getE wf hO
    obtain ⟨h1, h2, h3, kc, ks, e1, e2, e3, e4, e5, b1, b2, hB3⟩ := x_step (N := N) (tk := bsT (i + 2)) hN wf hO hS hok hj hr hB
    obtain ⟨h4, kc', ks', f1, f2, f3, f4⟩ := hk h3 hB3
    rw [hT] at e1
    have eb : bs s (i + 1) = if pS s (bsT (i + 2)) 0 ≤ (bs s i).2 then bs s i else (bsT (i + 2), pS s (bsT (i + 2)) 0) := rfl
    rw [eb] at f1
    refine ⟨h4, kc + kc', ks + ks', ?_, f2, by omega, by omega⟩
    unfold f_X0_bestShift_b49 f_X0_bestShift_b93
    rw [if_neg (Int32.not_lt.mpr hsg)]
    simp only [xo_c hO', e1, e2, e3, e4, e5, Option.bind_some, xc_0, xc_k]
    by_cases z : pS s (bsT (i + 2)) 0 ≤ (bs s i).2
    · rw [if_pos z] at f1 ⊢
      rw [f1]
      simp only [xa_0, xc_ad, Nat.zero_add]
    · rw [if_neg z] at f1 ⊢
      rw [hT] at f1 ⊢
      rw [f1]
      simp only [xa_0, xc_ad, Nat.zero_add]
  -- the outer loop
  have outer : ∀ m f (j r : Nat) (h' : xh_H) n, f + m = 33 → 1 ≤ f → m < n → h.2.1 ≤ j → j + 6 ≤ r → BI h h' s (A 0) j r → ∃ h4 kc ks, f_X0_bestShift_l39 N n (some a) (some j) (some r) (bs s (2 * (f - 1))).1 (bs s (2 * (f - 1))).2 (nI f) h' = some ((bs s 64).1 + 32, h4, kc, ks) ∧ XE h h4 ∧ kc ≤ 160 * m ∧ ks ≤ 640 * m := by
    intro m
    induction m with
    | zero =>
      intro f j r h' n hf h1 hnn hj hr hB
      obtain ⟨n, rfl⟩ : ∃ i, n = i + 1 := ⟨n - 1, by omega⟩
      have : f = 33 := by omega
      subst this
      rw [show f_X0_bestShift_l39 N (n + 1) = f_X0_bestShift_b39 N (f_X0_bestShift_l39 N n) from rfl]
      unfold f_X0_bestShift_b39 f_X0_bestShift_b105
      rw [if_pos (by decide)]
      exact ⟨h', 0, 0, rfl, hB.1, by omega, by omega⟩
    | succ m ih =>
      intro f j r h' n hf h1 hnn hj hr hB
      obtain ⟨n, rfl⟩ : ∃ i, n = i + 1 := ⟨n - 1, by omega⟩
      have hT := bsT_e ⟨f, by omega⟩
      rw [show f_X0_bestShift_l39 N (n + 1) = f_X0_bestShift_b39 N (f_X0_bestShift_l39 N n) from rfl]
      unfold f_X0_bestShift_b39
      rw [if_neg (by rw [show (32 : Int32) = nI 32 from rfl, nI_ltI (by omega) (by omega)]; omega)]
      obtain ⟨N', rfl⟩ : ∃ i, N = i + 3 := ⟨N - 3, by omega⟩
      have el : ∀ m, f_X0_bestShift_l49 (N' + 3) (f_X0_bestShift_l39 (N' + 3) n) (m + 1) = f_X0_bestShift_b49 (N' + 3) (f_X0_bestShift_l39 (N' + 3) n) (f_X0_bestShift_l49 (N' + 3) (f_X0_bestShift_l39 (N' + 3) n) m) := fun _ => rfl
      rw [el (N' + 2)]
      obtain ⟨h4, kc, ks, g1, g2, g3, g4⟩ := turn (f_X0_bestShift_l39 (N' + 3) n) (f_X0_bestShift_l49 (N' + 3) (f_X0_bestShift_l39 (N' + 3) n) (N' + 2)) j r (2 * (f - 1)) f (-1) h' (80 + 160 * m) (320 + 640 * m) hj hr hB (by decide) (by rw [show 2 * (f - 1) + 2 = 2 * f by omega]; exact hT.1) (fun h3 hB3 => by
        rw [el (N' + 1), show (-1 : Int32) + 2 = 1 from rfl]
        refine turn (f_X0_bestShift_l39 (N' + 3) n) (f_X0_bestShift_l49 (N' + 3) (f_X0_bestShift_l39 (N' + 3) n) (N' + 1)) j r (2 * (f - 1) + 1) f 1 h3 (160 * m) (640 * m) hj hr hB3 (by decide) (by rw [show 2 * (f - 1) + 1 + 2 = 2 * f + 1 by omega]; exact hT.2) (fun h5 hB5 => ?_)
        rw [el N', show (1 : Int32) + 2 = 3 from rfl]
        unfold f_X0_bestShift_b49 f_X0_bestShift_b99
        rw [if_pos (by decide), nI_1]
        have := ih (f + 1) j r h5 n (by omega) (by omega) (by omega) hj hr hB5
        rw [show 2 * (f + 1 - 1) = 2 * (f - 1) + 1 + 1 by omega] at this
        exact this)
      exact ⟨h4, kc, ks, g1, g2, by omega, by omega⟩
  unfold f_X0_bestShift xh_new
  rw [xk_push]
  have xn : XE h (xk_H h h.2.1 [.null, .null, .null, .null, .null, .null, .null] 0) := by rw [← xk_push]; exact XW.push
  dsimp only
  rw [xo_0 (A := A) (xn.getE wf hO)]
  have xe3 := xq_new (h := h) (sg := A 0) (jz_hi (s := s) (hd := ms_hdz s 0 0))
  have wf3 := xe3.wf wf
  simp only [Option.bind_some, xo_chk xk_b]
  rw [j_init (jz_hi (s := s) (hd := ms_hdz s 0 0))]
  simp only [xc_k, x_na600]
  have hJ0 : JV (xj_M (h.1, h.2.1 + 6, h.2.2) h.2.1 (A 0) none (jz s (ms_hdz s 0 0))) h.2.1 (A 0) none (jz s (ms_hdz s 0 0)) := xj_JV
  have hs0 : (xj_M (h.1, h.2.1 + 6, h.2.2) h.2.1 (A 0) none (jz s (ms_hdz s 0 0))).2.1 = h.2.1 + 6 := rfl
  generalize xj_M (h.1, h.2.1 + 6, h.2.2) h.2.1 (A 0) none (jz s (ms_hdz s 0 0)) = h0 at *
  have xr := x_newrow (h := h0)
  have x04 : XE h (xh_push h0 (.inl (0, 600, fun _ => 0))) := xe3.trans xr (fun _ _ => id)
  have wf4 := x04.wf wf
  have hr4 : (xh_push h0 (.inl (0, 600, fun _ => 0))).1 h0.2.1 = some (.inl (0, 600, fun _ => 0)) := xp_eq
  have hJ4 := hJ0.ext wf3 xr
  generalize xh_push h0 (.inl (0, 600, fun _ => 0)) = h4 at *
  have hS4 := hS.ext wf x04
  have hO4 : XO h4 a (A 0) hl sn tx len := x04.getE wf hO
  have lt : ∀ q, XF A cap q → q < h.2.1 := fun q f => hS.lt wf f
  obtain ⟨h5, e5, x5, hJ5, hS5⟩ := xq_run (N := N) hN wf4 hJ4 hS4 (hS4.xr hok) (fun t _ => ms_hdz_b) hok (fun q f => by have := lt q f; omega) (by have := lt (A 2) (Or.inr (Or.inr (Or.inl rfl))); omega) jz_1 jz_5
  have x05 : XE h h5 := x04.trans x5 (fun q hq z => by omega)
  have wf5 := x05.wf wf
  obtain ⟨h6, kc, ks, e6, x6, b1, b2⟩ := j_all (N := N) hN wf5 hS5 hJ5 hn
  rw [pS_V jz_1 jz_5] at e6
  have x06 : XE h h6 := x05.trans x6 (fun _ _ => id)
  simp only [xo_0 hO4, sg_1 hS4, jv_c hJ4, jv_c hJ5, Option.bind_some, e5, e6, xc_0, xc_k]
  have hB : BI h h6 s (A 0) h.2.1 h0.2.1 := ⟨x06, ⟨_, _, hJ5.ext wf5 x6, by rw [mj_Vo (by omega)]; exact jz_1⟩, _, x6.getE wf5 (x5.get wf4 hr4 (by omega))⟩
  obtain ⟨h7, kc', ks', f1, f2, f3, f4⟩ := outer 32 1 h.2.1 h0.2.1 h6 N (by omega) (by omega) (by omega) (by omega) (by omega) hB
  have f1' : f_X0_bestShift_l39 N N (some a) (some h.2.1) (some h0.2.1) 0 (pS s 0 0) 1 h6 = _ := f1
  rw [f1']
  exact ⟨h7, 1 + (5 + (1 + (kc + kc'))), 7 + (200 + (600 + (ks + ks'))), by simp only [xa_0]; rfl, f2, by omega, by omega⟩
end XQ
