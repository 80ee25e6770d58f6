/-! A NEW JUDGE; the class's own object -/
set_option maxRecDepth 100000
def xk_H (h : xh_H) (b : Nat) (L : List Value) (n : Nat) : xh_H := (fun q => if b ≤ q ∧ q < b + 1 + n then some (if q = b then .inr (.inr (7, L)) else .inl (0, 40, fun _ => 0)) else h.1 q, b + 1 + n, h.2.2)
section XK
variable {h : xh_H} {b : Nat} {L : List Value} {n : Nat}
theorem xk_push : xh_push h (.inr (.inr (7, L))) = xk_H h h.2.1 L 0 := by
  unfold xh_push xk_H
  refine Prod.ext (funext fun q => ?_) rfl
  by_cases e : q = h.2.1
  · dsimp only
    rw [if_pos e, if_pos (show h.2.1 ≤ q ∧ q < h.2.1 + 1 + 0 by omega), if_pos e]
  · dsimp only
    rw [if_neg e, if_neg (by omega)]
theorem xk_b : (xk_H h b L n).1 b = some (.inr (.inr (7, L))) := by
  show (if b ≤ b ∧ b < b + 1 + n then _ else _) = _
  rw [if_pos (by omega), if_pos rfl]
theorem xk_na {ρ : Type} {F : Option Nat → xh_H → xh_R ρ} : xh_na (xk_H h b L n) 0 (40 : Int32) F = xh_ad 1 40 (F (some (b + 1 + n)) (xk_H h b L (n + 1))) := by
  unfold xh_na
  rw [show (40 : Int32) = nI 40 from rfl, nI_clamp (by omega), if_pos ⟨nI_pos' (by omega), by omega⟩]
  show xh_ad 1 40 (F (some (b + 1 + n)) _) = _
  refine congrArg (fun z => xh_ad 1 40 (F (some (b + 1 + n)) z)) ?_
  unfold xh_push
  refine Prod.ext (funext fun q => ?_) rfl
  show (if q = b + 1 + n then some (.inl (0, 40, fun _ => 0)) else if b ≤ q ∧ q < b + 1 + n then some (if q = b then .inr (.inr (7, L)) else .inl (0, 40, fun _ => 0)) else h.1 q) = (if b ≤ q ∧ q < b + 1 + (n + 1) then some (if q = b then .inr (.inr (7, L)) else .inl (0, 40, fun _ => 0)) else h.1 q)
  by_cases e : q = b + 1 + n
  · rw [if_pos e, if_pos (show b ≤ q ∧ q < b + 1 + (n + 1) by omega), if_neg (by omega)]
  · rw [if_neg e]
    by_cases z : b ≤ q ∧ q < b + 1 + n
    · rw [if_pos z, if_pos (show b ≤ q ∧ q < b + 1 + (n + 1) by omega)]
    · rw [if_neg z, if_neg (by omega)]
theorem xk_pR {k : Nat} {x : Option Nat} (hk : k < L.length) : xh_pR (xk_H h b L n) (some b) 7 k x = some (xk_H h b (L.set k (va_rf x)) n) := by
  rw [xo_pR xk_b hk]
  refine congrArg some (Prod.ext (funext fun q => ?_) rfl)
  show (if q = b then some (.inr (.inr (7, L.set k (va_rf x)))) else if b ≤ q ∧ q < b + 1 + n then some (if q = b then .inr (.inr (7, L)) else .inl (0, 40, fun _ => 0)) else h.1 q) = (if b ≤ q ∧ q < b + 1 + n then some (if q = b then .inr (.inr (7, L.set k (va_rf x))) else .inl (0, 40, fun _ => 0)) else h.1 q)
  by_cases e : q = b
  · rw [if_pos e, if_pos (by omega), if_pos e]
  · rw [if_neg e, if_neg e, if_neg e]
end XK
theorem xk_fin {h : xh_H} {b sg : Nat} {V : Nat → Nat → Int32} (hV : ∀ i, 6 ≤ i → V i = fun _ => 0) : xk_H h b [.ref sg, .ref (b + 1), .ref (b + 2), .ref (b + 3), .ref (b + 4), .ref (b + 5), .null] 5 = xj_M (h.1, b + 6, h.2.2) b sg none V := by
  unfold xk_H xj_M
  refine Prod.ext (funext fun q => ?_) rfl
  show (if b ≤ q ∧ q < b + 1 + 5 then _ else h.1 q) = (if b ≤ q ∧ q < b + 6 then _ else h.1 q)
  by_cases z : b ≤ q ∧ q < b + 6
  · rw [if_pos (by omega), if_pos z]
    obtain ⟨j, hj, rfl⟩ : ∃ j, j < 6 ∧ q = b + j := ⟨q - b, by omega, by omega⟩
    rw [Nat.add_sub_cancel_left]
    refine congrArg some ?_
    cases j with
    | zero => rw [if_pos (show b + 0 = b by omega)]; rfl
    | succ j =>
      rw [if_neg (by omega)]
      show _ = Sum.inl (0, 40, V (6 + j))
      rw [hV _ (by omega)]
  · rw [if_neg (by omega), if_neg z]
theorem j_init {N b sg : Nat} {h : xh_H} {V : Nat → Nat → Int32} (hV : ∀ i, 6 ≤ i → V i = fun _ => 0) : f_X7_init N (some b) (some sg) (xk_H h b [.null, .null, .null, .null, .null, .null, .null] 0) = some ((), xj_M (h.1, b + 6, h.2.2) b sg none V, 5, 200) := by
  unfold f_X7_init
  simp only [xo_chk xk_b, Option.bind_some]
  rw [xk_na, xk_pR (k := 1) (by exact (by decide : 1 < 7))]
  simp only [Option.bind_some]
  rw [xk_na, xk_pR (k := 2) (by exact (by decide : 2 < 7))]
  simp only [Option.bind_some]
  rw [xk_na, xk_pR (k := 3) (by exact (by decide : 3 < 7))]
  simp only [Option.bind_some]
  rw [xk_na, xk_pR (k := 4) (by exact (by decide : 4 < 7))]
  simp only [Option.bind_some]
  rw [xk_na, xk_pR (k := 5) (by exact (by decide : 5 < 7))]
  simp only [Option.bind_some]
  rw [xk_pR (k := 0) (by exact (by decide : 0 < 7))]
  simp only [Option.bind_some, List.set, va_rf]
  simp only [show ∀ i, b + 1 + i = b + (1 + i) from fun i => by omega, Nat.reduceAdd]
  rw [xk_fin hV]
  rfl
/-- what the song's own row is heard as -/
theorem ms_hdz0 {s : Nat → Int32} (hok : ms_ok s) {t : Nat} (ht : t < 600) : ms_hdz s 0 0 t = s (206 + t) := by
  obtain ⟨-, -, -, -, -, -, hsu⟩ := hok
  obtain ⟨h0, h1⟩ := hsu t ht
  have eu : ms_u s 0 t = s (206 + t) := by
    unfold ms_u
    rw [Int32.sub_zero, if_pos ⟨nI_pos' (by omega), by rw [xl_599, nI_leI (by omega) (by omega)]; omega⟩, nI_clamp (by omega)]
  unfold ms_hdz
  rw [if_pos ht]
  unfold ms_hd
  rw [eu]
  generalize s (206 + t) = v at h0 h1 ⊢
  obtain ⟨e1, e2⟩ := nI_btw (n := 61) (by omega) h0 h1
  generalize v.toNatClampNeg = x at e1 e2
  subst e1
  by_cases z : x = 0
  · subst z
    rw [if_neg (fun q => absurd q.1 (by decide))]
    rfl
  · have ep : nI x - 1 = nI (x - 1) := by rw [xl_1, pk_sub (by omega)]
    rw [ep, Int32.add_zero, Int32.add_zero]
    rw [if_pos ⟨by rw [xl_0, nI_ltI (by omega) (by omega)]; omega, nI_pos' (by omega), by rw [show (60 : Int32) = nI 60 from rfl, nI_leI (by omega) (by omega)]; omega⟩]
theorem ms_hdz_b {s : Nat → Int32} {tk by_ : Int32} {t : Nat} : 0 ≤ ms_hdz s tk by_ t := by
  unfold ms_hdz
  split
  · unfold ms_hd
    split
    · next q =>
      obtain ⟨q1, q2, q3⟩ := q
      have e : ms_u s tk t + by_ = (ms_u s tk t - 1 + by_) + 1 := by grind
      obtain ⟨e1, e2⟩ := nI_btw (n := 60) (by omega) q2 q3
      rw [e, e1, nI_1]
      exact nI_pos' (by omega)
    · exact Int32.le_refl _
  · exact Int32.le_refl _
/-- the class's object: the song, the history, the snapshot, the text, its length -/
def XO (h : xh_H) (a sg hl : Nat) (sn : Option Nat) (tx : Nat) (len : Int32) : Prop := h.1 a = some (.inr (.inr (0, [.ref sg, .ref hl, va_rf sn, .ref tx, .int len])))
section XQ
variable {h : xh_H} {s : Nat → Int32} {A : Nat → Nat} {mc : Int32} {cap : Nat} {rf : Nat → Option Nat} {a hl tx N : Nat} {sn : Option Nat} {len : Int32}
theorem xo_0 (x : XO h a (A 0) hl sn tx len) : xh_gR h (some a) 0 0 = some (some (A 0)) := xo_gR x rfl
theorem xo_1 (x : XO h a (A 0) hl sn tx len) : xh_gR h (some a) 0 1 = some (some hl) := xo_gR x rfl
theorem xo_2 (x : XO h a (A 0) hl sn tx len) : xh_gR h (some a) 0 2 = some sn := xo_gR x rfl
theorem xo_3 (x : XO h a (A 0) hl sn tx len) : xh_gR h (some a) 0 3 = some (some tx) := xo_gR x rfl
theorem xo_4 (x : XO h a (A 0) hl sn tx len) : xh_gI h (some a) 0 4 = some len := xo_gI x rfl
theorem xo_c (x : XO h a (A 0) hl sn tx len) : xh_chk h (some a) 0 = some () := xo_chk x
theorem XS.lt (w : WF h) (x : XS h s A mc cap rf) {q : Nat} (f : XF A cap q) : q < h.2.1 := by
  rcases f with f | f | f | f | ⟨f, c⟩
  · rw [f]; exact w.1 _ _ x.1
  · rw [f]; exact w.1 _ _ x.2.1.1
  · obtain ⟨g, e, -⟩ := x.2.2.1; rw [f]; exact w.1 _ _ e
  · obtain ⟨g, e, -⟩ := x.2.2.2.1; rw [f]; exact w.1 _ _ e
  · rw [f]; exact (jl_lt w x.2.1).2
theorem XS.xr (hok : ms_ok s) (x : XS h s A mc cap rf) : XR h (A 2) (ms_hdz s 0 0) := by
  obtain ⟨f, e1, e2⟩ := x.2.2.1
  exact ⟨f, e1, fun t ht => by rw [e2 t ht, ms_hdz0 hok ht]⟩
/-- the judge's arrays; the rows 1 and 5 are the song and what is heard -/
def jz (s hd : Nat → Int32) : Nat → Nat → Int32 := xm_sV (xm_sV (fun _ _ => 0) 1 s) 5 hd
def jzV (s hd : Nat → Int32) : Nat → Nat → Int32 := mj_V (jz s hd) (ms_n s)
/-- a judge is run over a row, in a heap that knows the song and the row -/
theorem xq_run {b ro : Nat} {o : Option Nat} {hd : Nat → Int32} {V : Nat → Nat → Int32} (hN : 3000 ≤ N) (w : WF h) (hJ : JV h b (A 0) o V) (hS : XS h s A mc cap rf) (hR : XR h ro hd) (hz : ∀ t, t < 600 → 0 ≤ hd t) (hok : ms_ok s) (d : ∀ q, XF A cap q → ¬ (b ≤ q ∧ q < b + 6)) (dr : ¬ (b ≤ ro ∧ ro < b + 6)) (v1 : V 1 = s) (v5 : V 5 = hd) :
    ∃ h', f_X7_run N (some b) (some ro) h = some (some b, h', 0, 0) ∧ XW (fun q => b ≤ q ∧ q < b + 6) h h' ∧ JV h' b (A 0) (some ro) (mj_V V (ms_n s)) ∧ XS h' s A mc cap rf := by
  have hb := w.1 _ _ hJ.1
  have hb5 := w.1 _ _ (hJ.2 4 (by omega))
  have im : IM (fun q => b ≤ q ∧ q < b + 6) h := by
    intro q fs e z
    obtain ⟨i, hi, rfl⟩ : ∃ i, i < 6 ∧ q = b + i := ⟨q - b, by omega, by omega⟩
    cases i with
    | zero => have := hJ.1; rw [show b + 0 = b by omega] at e; rw [e] at this; cases this
    | succ i => have := hJ.2 i (by omega); rw [show b + (i + 1) = b + 1 + i by omega] at e; rw [e] at this; cases this
  have hx : ∀ o V, XW (fun q => b ≤ q ∧ q < b + 6) h (xj_M h b (A 0) o V) := fun o V => xj_XW (by omega)
  have hS' : ∀ V, XS (xj_M h b (A 0) (some ro) V) s A mc cap rf := fun V => hS.keep w (hx _ V) d im
  have hR' : ∀ V, XR (xj_M h b (A 0) (some ro) V) ro hd := fun V => by
    obtain ⟨f, e1, e2⟩ := hR
    exact ⟨f, (hx _ V).get w e1 dr, e2⟩
  have := jr_run (H := h) (o := o) (j := b) (V := V) hN hS' hR' hz hok v1 v5
  rw [xj_id hJ] at this
  exact ⟨_, this, hx _ _, xj_JV, hS' _⟩
theorem xq_new {sg : Nat} {V : Nat → Nat → Int32} (hV : ∀ i, 6 ≤ i → V i = fun _ => 0) : XE h (xj_M (h.1, h.2.1 + 6, h.2.2) h.2.1 sg none V) := by
  refine ⟨fun q hq _ => xj_ne (by omega), Nat.le_add_right _ _, rfl, fun w => ⟨fun q c e => ?_, Nat.lt_of_lt_of_le w.2 (Nat.le_add_right _ _)⟩⟩
  by_cases z : h.2.1 ≤ q ∧ q < h.2.1 + 6
  · exact z.2
  · exact Nat.lt_of_lt_of_le (w.1 q c ((xj_ne z).symm.trans e)) (Nat.le_add_right _ _)
theorem x_judged (hN : 3000 ≤ N) (w : WF h) (x : XO h a (A 0) hl sn tx len) (hS : XS h s A mc cap rf) (hok : ms_ok s) :
    ∃ h', f_X0_judged N (some a) h = some (some h.2.1, h', 6, 207) ∧ XE h h' ∧ JV h' h.2.1 (A 0) (some (A 2)) (jzV s (ms_hdz s 0 0)) := by
  have hV : ∀ i, 6 ≤ i → jz s (ms_hdz s 0 0) i = fun _ => 0 := fun i hi => by unfold jz; rw [xm_sVn (by omega), xm_sVn (by omega)]
  have xe := xq_new (h := h) (sg := A 0) hV
  have w1 := xe.wf w
  have xn : XE h (xk_H h h.2.1 [.null, .null, .null, .null, .null, .null, .null] 0) := by rw [← xk_push]; exact XW.push
  unfold f_X0_judged xh_new
  rw [xk_push]
  dsimp only
  rw [xo_0 (A := A) (xn.getE w x)]
  simp only [Option.bind_some, xo_chk xk_b]
  rw [j_init hV]
  have h1O : XO (xj_M (h.1, h.2.1 + 6, h.2.2) h.2.1 (A 0) none (jz s (ms_hdz s 0 0))) a (A 0) hl sn tx len := xe.getE w x
  have h1S := hS.ext w xe
  obtain ⟨h', e1, e2, e3, e4⟩ := xq_run (N := N) hN w1 xj_JV h1S (h1S.xr hok) (fun t _ => ms_hdz_b) hok (fun q f => by have := hS.lt w f; omega) (by have := hS.lt w (Or.inr (Or.inr (Or.inl rfl)) : XF A cap (A 2)); omega) (show jz s (ms_hdz s 0 0) 1 = s from by unfold jz; rw [xm_sVn (by omega), xm_sVs]) (show jz s (ms_hdz s 0 0) 5 = ms_hdz s 0 0 from xm_sVs)
  simp only [xc_k, xo_0 h1O, sg_1 h1S, xj_c, Option.bind_some, e1, xc_0]
  exact ⟨h', rfl, xe.trans e2 (fun q hq z => by omega), e3⟩
end XQ
