/-! THE CLASS's SIDE: cells that are kept, reads and writes by cells, the list's methods -/
set_option maxRecDepth 100000
def WF (h : xh_H) : Prop := (∀ q c, h.1 q = some c → q < h.2.1) ∧ h.2.2 1 < h.2.1
def XW (W : Nat → Prop) (h h' : xh_H) : Prop := (∀ q, q < h.2.1 → ¬ W q → h'.1 q = h.1 q) ∧ h.2.1 ≤ h'.2.1 ∧ h'.2.2 = h.2.2 ∧ (WF h → WF h')
abbrev XE : xh_H → xh_H → Prop := XW (fun _ => False)
theorem XW.refl {W : Nat → Prop} {h : xh_H} : XW W h h := ⟨fun _ _ _ => rfl, Nat.le_refl _, rfl, id⟩
theorem XW.trans {W W' : Nat → Prop} {h h' h'' : xh_H} (a : XW W h h') (b : XW W' h' h'') (c : ∀ q, q < h.2.1 → W' q → W q) : XW W h h'' :=
  ⟨fun q hq hW => (b.1 q (Nat.lt_of_lt_of_le hq a.2.1) (fun w => hW (c q hq w))).trans (a.1 q hq hW), Nat.le_trans a.2.1 b.2.1, b.2.2.1.trans a.2.2.1, fun w => b.2.2.2 (a.2.2.2 w)⟩
theorem XW.mono {W W' : Nat → Prop} {h h' : xh_H} (a : XW W h h') (c : ∀ q, q < h.2.1 → W q → W' q) : XW W' h h' := ⟨fun q hq hW => a.1 q hq (fun w => hW (c q hq w)), a.2⟩
theorem XW.wf {W : Nat → Prop} {h h' : xh_H} (a : XW W h h') (w : WF h) : WF h' := a.2.2.2 w
theorem XW.get {W : Nat → Prop} {h h' : xh_H} (a : XW W h h') (w : WF h) {q : Nat} {c : xh_E} (e : h.1 q = some c) (hW : ¬ W q) : h'.1 q = some c := (a.1 q (w.1 q c e) hW).trans e
theorem XW.getE {h h' : xh_H} (a : XE h h') (w : WF h) {q : Nat} {c : xh_E} (e : h.1 q = some c) : h'.1 q = some c := a.get w e (fun f => f)
theorem XW.setp {h : xh_H} {a : Nat} {e : xh_E} (ha : a < h.2.1) : XW (fun q => q = a) h (xh_set h a e) :=
  ⟨fun _ _ hW => if_neg hW, Nat.le_refl _, rfl, fun w => ⟨fun q c e' => by
    by_cases z : q = a
    · rw [z]; exact ha
    · exact w.1 q c ((if_neg z).symm.trans e'), w.2⟩⟩
theorem XW.push {h : xh_H} {e : xh_E} : XE h (xh_push h e) :=
  ⟨fun q hq _ => if_neg (by omega), Nat.le_succ _, rfl, fun w => ⟨fun q c e' => by
    by_cases z : q = h.2.1
    · rw [z]; exact Nat.lt_succ_self _
    · exact Nat.lt_succ_of_lt (w.1 q c ((if_neg z).symm.trans e')), Nat.lt_succ_of_lt w.2⟩⟩
theorem xs_eq {h : xh_H} {a : Nat} {e : xh_E} : (xh_set h a e).1 a = some e := if_pos rfl
theorem xs_ne {h : xh_H} {a q : Nat} {e : xh_E} (n : q ≠ a) : (xh_set h a e).1 q = h.1 q := if_neg n
theorem xp_eq {h : xh_H} {e : xh_E} : (xh_push h e).1 h.2.1 = some e := if_pos rfl
theorem xp_ne {h : xh_H} {q : Nat} {e : xh_E} (n : q ≠ h.2.1) : (xh_push h e).1 q = h.1 q := if_neg n
section XO
variable {h : xh_H} {a c k : Nat} {fs : List Value}
theorem xo_ob (e : h.1 a = some (.inr (.inr (c, fs)))) : xh_ob h (some a) c = some fs := by
  unfold xh_ob
  simp only [e, if_pos]
theorem xo_chk (e : h.1 a = some (.inr (.inr (c, fs)))) : xh_chk h (some a) c = some () := by unfold xh_chk; rw [xo_ob e]; rfl
theorem xo_cc (e : h.1 a = some (.inr (.inr (c, fs)))) : xh_cc h (some a) c = some () := by
  unfold xh_cc
  rw [if_neg (fun q => by cases q)]
  exact xo_chk e
theorem xo_gI (e : h.1 a = some (.inr (.inr (c, fs)))) {x : Int32} (hk : fs[k]? = some (.int x)) : xh_gI h (some a) c k = some x := by
  unfold xh_gI
  rw [xo_ob e]
  show xh_vI fs[k]? = some x
  rw [hk]; rfl
theorem xo_gR (e : h.1 a = some (.inr (.inr (c, fs)))) {x : Option Nat} (hk : fs[k]? = some (va_rf x)) : xh_gR h (some a) c k = some x := by
  unfold xh_gR
  rw [xo_ob e]
  show xh_vR fs[k]? = some x
  rw [hk]; cases x <;> rfl
theorem xo_pI (e : h.1 a = some (.inr (.inr (c, fs)))) {x : Int32} (hk : k < fs.length) : xh_pI h (some a) c k x = some (xh_set h a (.inr (.inr (c, fs.set k (.int x))))) := by
  unfold xh_pI xh_pf
  rw [xo_ob e]
  show (if k < fs.length then some _ else none) = _
  rw [if_pos hk]
theorem xo_pZ (e : h.1 a = some (.inr (.inr (c, fs)))) {x : Int32} (hk : k < fs.length) (hx : x = 0 ∨ x = 1) : xh_pZ h (some a) c k x = some (xh_set h a (.inr (.inr (c, fs.set k (.int x))))) := by
  unfold xh_pZ xh_pf
  rw [xo_ob e, if_pos hx]
  show (if k < fs.length then some _ else none) = _
  rw [if_pos hk]
theorem xo_pR (e : h.1 a = some (.inr (.inr (c, fs)))) {x : Option Nat} (hk : k < fs.length) : xh_pR h (some a) c k x = some (xh_set h a (.inr (.inr (c, fs.set k (va_rf x))))) := by
  unfold xh_pR xh_pf
  rw [xo_ob e]
  show (if k < fs.length then some _ else none) = _
  rw [if_pos hk]
theorem xo_ai {n : Nat} {f : Nat → Int32} (e : h.1 a = some (.inl (k, n, f))) : xh_ai h (some a) k = some (n, f) := by
  unfold xh_ai
  simp only [e, if_pos]
theorem xo_ca {n : Nat} {f : Nat → Int32} (e : h.1 a = some (.inl (0, n, f))) : xh_ca h (some a) = some () := by unfold xh_ca; rw [xo_ai e]; rfl
theorem xo_ld {n i : Nat} {f : Nat → Int32} (e : h.1 a = some (.inl (k, n, f))) (hi : i < n) (hn : n < 2147483648) : xh_ld h (some a) k (nI i) = some (f i) := xh_ldN (xo_ai e) hi hn
theorem xo_sv {n i : Nat} {f : Nat → Int32} {x : Int32} (e : h.1 a = some (.inl (k, n, f))) (hi : i < n) (hn : n < 2147483648) : xh_sv h (some a) k (nI i) x = some (xh_set h a (.inl (k, n, upd f i x))) := xh_svN (xo_ai e) hi hn
theorem xo_aq {n : Nat} {f : Nat → Option Nat} (e : h.1 a = some (.inr (.inl (n, f)))) : xh_aq h (some a) = some (n, f) := by
  unfold xh_aq
  simp only [e]
theorem xo_cb {n : Nat} {f : Nat → Option Nat} (e : h.1 a = some (.inr (.inl (n, f)))) : xh_cb h (some a) = some () := by unfold xh_cb; rw [xo_aq e]; rfl
theorem xo_lq {n : Nat} {f : Nat → Option Nat} (e : h.1 a = some (.inr (.inl (n, f)))) (g : a ≠ h.2.2 1) : xh_lq h (some a) = some (nI n) := by
  unfold xh_lq
  rw [if_neg (fun q => g (Option.some.inj q)), xo_aq e]
  rfl
theorem xo_lr {n i : Nat} {f : Nat → Option Nat} (e : h.1 a = some (.inr (.inl (n, f)))) (hi : i < n) (hn : n < 2147483648) : xh_lr h (some a) (nI i) = some (f i) := by
  unfold xh_lr
  rw [xo_aq e]
  show (if 0 ≤ nI i ∧ (nI i).toNatClampNeg < n then some (f (nI i).toNatClampNeg) else none) = _
  rw [nI_clamp (by omega), if_pos ⟨nI_pos' (by omega), hi⟩]
theorem xo_sr {n i : Nat} {f : Nat → Option Nat} {v : Option Nat} (e : h.1 a = some (.inr (.inl (n, f)))) (hi : i < n) (hn : n < 2147483648) (hv : xh_st h v = true) : xh_sr h (some a) (nI i) v = some (xh_set h a (.inr (.inl (n, va_up f i v)))) := by
  unfold xh_sr
  rw [xo_aq e]
  show (if (0 ≤ nI i ∧ (nI i).toNatClampNeg < n) ∧ xh_st h v = true then some (xh_set h a (.inr (.inl (n, va_up f (nI i).toNatClampNeg v)))) else none) = _
  rw [nI_clamp (by omega), if_pos ⟨⟨nI_pos' (by omega), hi⟩, hv⟩]
theorem xo_cpy {b n m sp dp q : Nat} {f w : Nat → Option Nat} (e : h.1 a = some (.inr (.inl (n, f)))) (e' : h.1 b = some (.inr (.inl (m, w)))) (hn : n < 2147483648) (hm : m < 2147483648) (h1 : sp + q ≤ n) (h2 : dp + q ≤ m) (hv : ∀ i, i < q → xh_st h (f (sp + i)) = true) : xh_cpy h (some a) (nI sp) (some b) (nI dp) (nI q) = some (xh_set h b (.inr (.inl (m, va_cpy f w sp dp q)))) := by
  unfold xh_cpy
  rw [xo_aq e, xo_aq e']
  show (if _ then some _ else none) = _
  rw [nI_clamp (by omega), nI_clamp (by omega), nI_clamp (by omega), if_pos]
  refine ⟨⟨nI_pos' (by omega), nI_pos' (by omega), nI_pos' (by omega)⟩, ⟨h1, h2⟩, ?_⟩
  rw [List.all_eq_true]
  intro i hi
  exact hv i (List.mem_range.mp hi)
end XO
theorem xst_1 {h : xh_H} {a c : Nat} {fs : List Value} (e : h.1 a = some (.inr (.inr (c, fs)))) (hc : c = 1 ∨ c = 3 ∨ c = 5) : xh_st h (some a) = true := by
  unfold xh_st
  simp only [e]
  rcases hc with rfl | rfl | rfl <;> rfl
theorem xst_c {h : xh_H} {a : Nat} (q : xh_st h (some a) = true) : ∃ c fs, h.1 a = some (.inr (.inr (c, fs))) ∧ (c = 1 ∨ c = 3 ∨ c = 5) := by
  unfold xh_st at q
  dsimp only at q
  split at q
  · next c fs he => exact ⟨c, _, he, by simpa [or_assoc] using q⟩
  · cases q
theorem xst_keep {h h' : xh_H} {v : Option Nat} {W : Nat → Prop} (w : WF h) (x : XW W h h') (hW : ∀ a, v = some a → ¬ W a) (q : xh_st h v = true) : xh_st h' v = true := by
  cases v with
  | none => rfl
  | some a =>
    obtain ⟨c, fs, e, hc⟩ := xst_c q
    exact xst_1 (x.get w e (hW a rfl)) hc
/-- an ArrayList: its object l, its array e (cap long), n elements rf -/
def XL (h : xh_H) (l : Nat) (mc : Int32) (e cap n : Nat) (rf : Nat → Option Nat) : Prop :=
  h.1 l = some (.inr (.inr (8, [.int mc, .ref e, .int (nI n)]))) ∧ n ≤ cap ∧ cap ≤ 100 ∧ ((cap = 0 ∧ e = h.2.2 1) ∨ (e ≠ h.2.2 1 ∧ h.1 e = some (.inr (.inl (cap, rf))) ∧ 10 ≤ cap))
theorem XL.keep {h h' : xh_H} {l : Nat} {mc : Int32} {e cap n : Nat} {rf : Nat → Option Nat} {W : Nat → Prop} (a : XL h l mc e cap n rf) (w : WF h) (x : XW W h h') (hl : ¬ W l) (he : cap ≠ 0 → ¬ W e) : XL h' l mc e cap n rf := by
  obtain ⟨a1, a2, a3, a4⟩ := a
  refine ⟨x.get w a1 hl, a2, a3, ?_⟩
  rw [x.2.2.1]
  exact a4.imp id fun ⟨b1, b2, b3⟩ => ⟨b1, x.get w b2 (he (by omega)), b3⟩
section JL
variable {h : xh_H} {l : Nat} {mc : Int32} {e cap n : Nat} {rf : Nat → Option Nat} {N : Nat}
theorem jl_size (a : XL h l mc e cap n rf) : f_J2_size N (some l) h = some (nI n, h, 0, 0) := by
  unfold f_J2_size
  rw [xo_gI a.1 rfl]; rfl
theorem jl_isEmpty (a : XL h l mc e cap n rf) : f_J2_isEmpty N (some l) h = some (if n = 0 then 1 else 0, h, 0, 0) := by
  have hn : n ≤ 100 := Nat.le_trans a.2.1 a.2.2.1
  unfold f_J2_isEmpty
  rw [xo_gI a.1 rfl]
  show (if nI n = 0 then _ else _) = _
  by_cases z : n = 0
  · rw [if_pos z, if_pos (by rw [z]; rfl)]
  · rw [if_neg z, if_neg (nI_ne0 (by omega) (by omega))]
theorem jl_arr (a : XL h l mc e cap n rf) (hn : 0 < n) : e ≠ h.2.2 1 ∧ h.1 e = some (.inr (.inl (cap, rf))) := by
  rcases a.2.2.2 with ⟨c, -⟩ | ⟨c1, c2, -⟩
  · have := a.2.1; omega
  · exact ⟨c1, c2⟩
theorem jl_get {k : Nat} (a : XL h l mc e cap n rf) (hk : k < n) : f_J2_get N (some l) (nI k) h = some (rf k, h, 0, 0) := by
  have hn := a.2.1
  have hc := a.2.2.1
  obtain ⟨g, ea⟩ := jl_arr a (by omega)
  unfold f_J2_get
  rw [xo_gI a.1 rfl]
  simp only [Option.bind_some]
  unfold f_J7_checkIndex f_J8_checkIndex
  rw [if_neg (Int32.not_lt.mpr (nI_pos' (by omega))), if_pos ((nI_ltI (by omega) (by omega)).mpr hk)]
  simp only [xc_0, xo_chk a.1, Option.bind_some]
  unfold f_J2_elementData
  rw [xo_gR (x := some e) a.1 rfl]
  simp only [xc_0, Option.bind_some]
  rw [xo_lr ea (by omega) (by omega)]
  simp only [xc_0, Option.bind_some]
theorem jl_newLen {h : xh_H} {c : Nat} (h1 : 10 ≤ c) (h2 : c ≤ 50) : f_J4_newLength N (nI c) (nI c + 1 - nI c) (nI c >>> ((1 : Int32) &&& 31)) h = some (nI (c + c / 2), h, 0, 0) := by
  have e : ∀ c : Fin 51, 10 ≤ c.1 → xh_mx (nI c.1 + 1 - nI c.1) (nI c.1 >>> ((1 : Int32) &&& 31)) = nI (c.1 / 2) := by decide +kernel
  have e' := e ⟨c, by omega⟩ h1
  unfold f_J4_newLength
  simp only at e'
  rw [e', nI_add]
  rw [if_neg (by rw [xl_0, nI_leI (by omega) (by omega)]; omega), if_neg (by rw [show (2147483639 : Int32) = nI 2147483639 from rfl, nI_ltI (by omega) (by omega)]; omega)]
/-- the array of a longer list -/
theorem jl_grow (w : WF h) (a : XL h l mc e cap n rf) (hn : n ≤ 50) (hc : cap = n) (hst : ∀ k, k < n → xh_st h (rf k) = true) :
    ∃ cap' rf', n < cap' ∧ 10 ≤ cap' ∧ cap' ≤ 75 ∧ (∀ k, k < n → rf' k = rf k) ∧ f_J2_grow N (some l) h = some (some h.2.1, xh_set (xh_push h (.inr (.inl (cap', rf')))) l (.inr (.inr (8, [.int mc, .ref h.2.1, .int (nI n)]))), 1, cap') := by
  have hll := w.1 _ _ a.1
  have w2 := w.2
  unfold f_J2_grow
  rw [xo_gI a.1 rfl]
  simp only [Option.bind_some, xo_chk a.1]
  unfold f_J2_grow_2
  rw [xo_gR (x := some e) a.1 rfl]
  simp only [Option.bind_some]
  rcases a.2.2.2 with ⟨c0, ce⟩ | ⟨ce, ea, c10⟩
  · have hlq : xh_lq h (some e) = some 0 := by unfold xh_lq; rw [if_pos (by rw [ce])]
    have n0 : n = 0 := by omega
    rw [hlq]
    simp only [Option.bind_some]
    rw [if_neg (by decide)]
    unfold xh_gs
    simp only [Option.bind_some]
    rw [if_pos (by rw [ce]), n0]
    unfold xh_nq
    have em : xh_mx (10 : Int32) (nI 0 + 1) = nI 10 := by decide
    rw [em, nI_clamp (by omega), if_pos ⟨nI_pos' (by omega), by omega⟩]
    have hl' : (xh_push h (.inr (.inl (10, fun _ => none)))).1 l = some (.inr (.inr (8, [.int mc, .ref e, .int (nI n)]))) := by rw [xp_ne (by omega)]; exact a.1
    dsimp only
    rw [xo_pR hl' (by exact (by decide : 1 < 3)), n0]
    exact ⟨10, fun _ => none, by omega, by omega, by omega, fun k hk => by omega, rfl⟩
  · rw [xo_lq ea ce]
    simp only [Option.bind_some]
    rw [if_pos (by rw [xl_0, nI_ltI (by omega) (by omega)]; omega)]
    unfold f_J2_grow_2_b20
    rw [← hc, jl_newLen c10 (by omega)]
    simp only [xc_0]
    rw [xo_gR (x := some e) a.1 rfl]
    simp only [Option.bind_some]
    unfold f_J6_copyOf
    rw [xo_cb ea]
    unfold xh_gs
    simp only [Option.bind_some]
    unfold f_J6_copyOf_2 xh_gs
    simp only [Option.bind_some]
    rw [if_pos trivial]
    unfold xh_nq
    rw [nI_clamp (by omega), if_pos ⟨nI_pos' (by omega), by omega⟩]
    dsimp only
    have hee := w.1 _ _ ea
    have ea' : (xh_push h (.inr (.inl (cap + cap / 2, fun _ => none)))).1 e = some (.inr (.inl (cap, rf))) := by rw [xp_ne (by omega)]; exact ea
    have eg : e ≠ (xh_push h (.inr (.inl (cap + cap / 2, fun _ => none)))).2.2 1 := ce
    rw [xo_lq ea' eg]
    simp only [Option.bind_some]
    have emn : xh_mn (nI cap) (nI (cap + cap / 2)) = nI cap := by
      unfold xh_mn
      rw [if_neg (by rw [nI_ltI (by omega) (by omega)]; omega)]
    have hst' : ∀ i, i < cap → xh_st (xh_push h (.inr (.inl (cap + cap / 2, fun _ => none)))) (rf (0 + i)) = true := by
      intro i hi
      rw [Nat.zero_add]
      exact xst_keep w XW.push (fun _ _ => id) (hst i (by omega))
    rw [emn, xl_0, xo_cpy (sp := 0) (dp := 0) (q := cap) ea' xp_eq (by omega) (by omega) (by omega) (by omega) hst']
    simp only [xc_k, xh_cal, xh_ad, Option.bind_some]
    have hl' : (xh_set (xh_push h (.inr (.inl (cap + cap / 2, fun _ => none)))) h.2.1 (.inr (.inl (cap + cap / 2, va_cpy rf (fun _ => none) 0 0 cap)))).1 l = some (.inr (.inr (8, [.int mc, .ref e, .int (nI n)]))) := by
      rw [xs_ne (by omega), xp_ne (by omega)]; exact a.1
    rw [xo_pR hl' (by exact (by decide : 1 < 3))]
    refine ⟨cap + cap / 2, va_cpy rf (fun _ => none) 0 0 cap, by omega, by omega, by omega, fun k hk => ?_, ?_⟩
    · unfold va_cpy
      rw [if_pos (by omega)]
      congr 1; omega
    · have eh : xh_set (xh_push h (.inr (.inl (cap + cap / 2, fun _ => none)))) h.2.1 (.inr (.inl (cap + cap / 2, va_cpy rf (fun _ => none) 0 0 cap))) = xh_push h (.inr (.inl (cap + cap / 2, va_cpy rf (fun _ => none) 0 0 cap))) := by
        refine Prod.ext (funext fun q => ?_) rfl
        by_cases z : q = h.2.1
        · rw [z, xs_eq, xp_eq]
        · rw [xs_ne z, xp_ne z, xp_ne z]
      rw [eh, ← hc]
      rfl
end JL
