/-! ROWS over the pure heap: each takes the pure step (hf) and goes on with what is left of it -/
set_option maxRecDepth 100000
theorem xb_some {α β : Type} {o : Option α} {F : α → Option β} {b : β} (h : o.bind F = some b) : ∃ a, o = some a ∧ F a = some b := Option.bind_eq_some_iff.mp h
theorem xb_ob {h : xh_H} {r : Option Nat} {c : Nat} {fs : List Value} (e : xh_ob h r c = some fs) : ∃ a, r = some a ∧ h.1 a = some (.inr (.inr (c, fs))) := by
  unfold xh_ob at e
  split at e
  · cases e
  · next a =>
    split at e
    · next c' fs' hc =>
      split at e
      · next hcc => cases e; subst hcc; exact ⟨a, rfl, hc⟩
      · cases e
    · cases e
theorem xb_ai {h : xh_H} {r : Option Nat} {k : Nat} {q : Nat × (Nat → Int32)} (e : xh_ai h r k = some q) : ∃ a, r = some a ∧ h.1 a = some (.inl (k, q.1, q.2)) := by
  unfold xh_ai at e
  split at e
  · cases e
  · next a =>
    split at e
    · next c' n f hc =>
      split at e
      · next hcc => cases e; subst hcc; exact ⟨a, rfl, hc⟩
      · cases e
    · cases e
theorem xb_aq {h : xh_H} {r : Option Nat} {q : Nat × (Nat → Option Nat)} (e : xh_aq h r = some q) : ∃ a, r = some a ∧ h.1 a = some (.inr (.inl (q.1, q.2))) := by
  unfold xh_aq at e
  split at e
  · cases e
  · next a =>
    split at e
    · next n f hc => cases e; exact ⟨a, rfl, hc⟩
    · cases e
theorem xb_vI {v : Option Value} {x : Int32} (h : xh_vI v = some x) : v = some (.int x) := by
  unfold xh_vI at h
  split at h
  · cases h; rfl
  · cases h
theorem xb_vR {v : Option Value} {x : Option Nat} (h : xh_vR v = some x) : v = some (va_rf x) := by
  unfold xh_vR at h
  split at h
  · cases h; rfl
  · cases h; rfl
  · cases h
theorem xb_if {α : Type} {c : Prop} [Decidable c] {x : Option α} {y : α} (h : (if c then x else none) = some y) : c ∧ x = some y := by
  by_cases hc : c
  · rw [if_pos hc] at h; exact ⟨hc, h⟩
  · rw [if_neg hc] at h; cases h
theorem xb_ad {ω : Type} {k n : Nat} {r : xh_R ω} {x : ω} {h : xh_H} {a b : Nat} (e : xh_ad k n r = some (x, h, a, b)) : ∃ a' b', r = some (x, h, a', b') ∧ a = k + a' ∧ b = n + b' := by
  unfold xh_ad at e
  split at e
  · cases e
  · next x' h' a' b' => cases e; exact ⟨a', b', rfl, rfl, rfl⟩
theorem xb_cal {ρ ω : Type} {r : xh_R ρ} {F : ρ → xh_H → xh_R ω} {x : ω} {h : xh_H} {a b : Nat} (e : xh_cal r F = some (x, h, a, b)) : ∃ y h1 a1 b1 a' b', r = some (y, h1, a1, b1) ∧ F y h1 = some (x, h, a', b') ∧ a = a1 + a' ∧ b = b1 + b' := by
  unfold xh_cal at e
  split at e
  · cases e
  · next y h1 a1 b1 =>
    obtain ⟨a', b', e1, e2, e3⟩ := xb_ad e
    exact ⟨y, h1, a1, b1, a', b', rfl, e1, e2, e3⟩
section XR
variable {p : Program} {l : Launch} {e : Env} {R : Room} {s : State} {m : MethodId} {args : Array Value} {below : List Frame} {meth : Method} {c : Code} {H : Heap} {locs : List Loc} {cells slots kc ks : Nat} {Q : State → Prop}
variable {cc : ByteArray} {pc nL : Nat} {own : String} {ls : Array Slot} {rest : List Value} {D : xh_D} {g : Nat → Nat} {h : xh_H} {α ω : Type} {out : α} {lv lv' : List (Nat × Value)}
theorem xr_aload_n (C : xh_C cc nL own D g p s m args meth c) {k : Fin 4} {i : Nat} {r : Option Nat} (hdg : decode cc pc = .ok (.aload_n k, 1)) (hi : (k : Nat) = i) (hl : ls[i]? = some (.val (va_rf r))) (kk : W p l e R s m args below meth c H locs cells slots Q (F0 m (pc + 1) ls (va_rf r :: rest))) : W p l e R s m args below meth c H locs cells slots Q (F0 m pc ls rest) := by
  cases r with
  | none => exact lv_aload_nN C.1 C.2.1 hdg hi hl kk
  | some a => exact lv_aload_n C.1 C.2.1 hdg hi hl kk
theorem xr_aload (C : xh_C cc nL own D g p s m args meth c) {i : Nat} {r : Option Nat} (hdg : decode cc pc = .ok (.aload i, 2)) (hl : ls[i]? = some (.val (va_rf r))) (kk : W p l e R s m args below meth c H locs cells slots Q (F0 m (pc + 2) ls (va_rf r :: rest))) : W p l e R s m args below meth c H locs cells slots Q (F0 m pc ls rest) := by
  cases r with
  | none => exact lv_aloadN C.1 C.2.1 hdg hl kk
  | some a => exact lv_aload C.1 C.2.1 hdg hl kk
theorem xr_astore_n (C : xh_C cc nL own D g p s m args meth c) {k : Fin 4} {i : Nat} {r : Option Nat} (hdg : decode cc pc = .ok (.astore_n k, 1)) (hi : (k : Nat) = i) (hl : xh_L ls nL lv) (hn : i < nL) (hl' : (i, va_rf r) :: lv.filter (fun q => !(q.1 == i)) = lv') (kk : ∀ ls : Array Slot, xh_L ls nL lv' → W p l e R s m args below meth c H locs cells slots Q (F0 m (pc + 1) ls rest)) : W p l e R s m args below meth c H locs cells slots Q (F0 m pc ls (va_rf r :: rest)) := by
  cases r with
  | none => exact lv_astore_nN C.1 C.2.1 hdg hi hl.1 hn rfl fun ls' h' => kk ls' (hl.put rfl h' hl')
  | some a => exact lv_astore_n C.1 C.2.1 hdg hi hl.1 hn rfl fun ls' h' => kk ls' (hl.put rfl h' hl')
theorem xr_astore (C : xh_C cc nL own D g p s m args meth c) {i : Nat} {r : Option Nat} (hdg : decode cc pc = .ok (.astore i, 2)) (hl : xh_L ls nL lv) (hn : i < nL) (hl' : (i, va_rf r) :: lv.filter (fun q => !(q.1 == i)) = lv') (kk : ∀ ls : Array Slot, xh_L ls nL lv' → W p l e R s m args below meth c H locs cells slots Q (F0 m (pc + 2) ls rest)) : W p l e R s m args below meth c H locs cells slots Q (F0 m pc ls (va_rf r :: rest)) := by
  cases r with
  | none => exact lv_astoreN C.1 C.2.1 hdg hl.1 hn rfl fun ls' h' => kk ls' (hl.put rfl h' hl')
  | some a => exact lv_astore C.1 C.2.1 hdg hl.1 hn rfl fun ls' h' => kk ls' (hl.put rfl h' hl')
theorem xr_istore_n (C : xh_C cc nL own D g p s m args meth c) {k : Fin 4} {i : Nat} {x : Int32} (hdg : decode cc pc = .ok (.istore_n k, 1)) (hi : (k : Nat) = i) (hl : xh_L ls nL lv) (hn : i < nL) (hl' : (i, .int x) :: lv.filter (fun q => !(q.1 == i)) = lv') (kk : ∀ ls : Array Slot, xh_L ls nL lv' → W p l e R s m args below meth c H locs cells slots Q (F0 m (pc + 1) ls rest)) : W p l e R s m args below meth c H locs cells slots Q (F0 m pc ls (.int x :: rest)) :=
  lv_istore_n C.1 C.2.1 hdg hi hl.1 hn rfl fun ls' h' => kk ls' (hl.put rfl h' hl')
theorem xr_istore (C : xh_C cc nL own D g p s m args meth c) {i : Nat} {x : Int32} (hdg : decode cc pc = .ok (.istore i, 2)) (hl : xh_L ls nL lv) (hn : i < nL) (hl' : (i, .int x) :: lv.filter (fun q => !(q.1 == i)) = lv') (kk : ∀ ls : Array Slot, xh_L ls nL lv' → W p l e R s m args below meth c H locs cells slots Q (F0 m (pc + 2) ls rest)) : W p l e R s m args below meth c H locs cells slots Q (F0 m pc ls (.int x :: rest)) :=
  lv_istore C.1 C.2.1 hdg hl.1 hn rfl fun ls' h' => kk ls' (hl.put rfl h' hl')
theorem xr_iinc (C : xh_C cc nL own D g p s m args meth c) {i k : Nat} {n : Int} {x v : Int32} (hdg : decode cc pc = .ok (.iinc i n, 3)) (hl : xh_L ls nL lv) (hk : lv[k]? = some (i, .int x)) (hv : x + Int32.ofInt n = v) (hn : i < nL) (hl' : (i, .int v) :: lv.filter (fun q => !(q.1 == i)) = lv') (kk : ∀ ls : Array Slot, xh_L ls nL lv' → W p l e R s m args below meth c H locs cells slots Q (F0 m (pc + 3) ls rest)) : W p l e R s m args below meth c H locs cells slots Q (F0 m pc ls rest) :=
  lv_iinc C.1 C.2.1 hdg hl.1 hk hv hn rfl fun ls' h' => kk ls' (hl.put rfl h' hl')
theorem xr_ifnonnull (C : xh_C cc nL own D g p s m args meth c) {r : Option Nat} {off : Int} {tgt : Nat} (hdg : decode cc pc = .ok (.ifnonnull off, 3)) (ht : (pc : Int) + off = (tgt : Int)) (k1 : r ≠ none → W p l e R s m args below meth c H locs cells slots Q (F0 m tgt ls rest)) (k2 : r = none → W p l e R s m args below meth c H locs cells slots Q (F0 m (pc + 3) ls rest)) : W p l e R s m args below meth c H locs cells slots Q (F0 m pc ls (va_rf r :: rest)) := by
  cases r with
  | none => exact lv_ifnonnullN C.1 C.2.1 hdg (k2 rfl)
  | some a => exact lv_ifnonnull C.1 C.2.1 hdg ht (k1 (fun q => by cases q))
theorem xr_idiv (C : xh_C cc nL own D g p s m args meth c) {x y : Int32} {F : Option α} (hf : (if y = 0 then none else F) = some out) (hdg : decode cc pc = .ok (.idiv, 1)) (kk : F = some out → W p l e R s m args below meth c H locs cells slots Q (F0 m (pc + 1) ls (.int (x / y) :: rest))) : W p l e R s m args below meth c H locs cells slots Q (F0 m pc ls (.int y :: .int x :: rest)) := by
  by_cases hy : y = 0
  · rw [if_pos hy] at hf; cases hf
  · rw [if_neg hy] at hf
    exact lv_idiv C.1 C.2.1 hdg hy (kk hf)
/-! fields -/
theorem xr_get0 (C : xh_C cc nL own D g p s m args meth c) (hS : xh_T D g s R h H locs cells slots kc ks) {ci N : Nat} {Cn ref : String} {T : u_T} {ty : Nat → FieldType} (kf : xh_F ci Cn T N ty) (k : Nat) (hk : k < N) {index : Nat} (hlink : Cond.fieldLink own index ref (T k).2.1 (T k).2.2.1 ∈ lw_all) (hsame : ∀ x, s.fieldFound? (T k).1 (T k).2.1 (T k).2.2.1 = some x → s.fieldFound? ref (T k).2.1 (T k).2.2.1 = some x) {a : Nat} {fs : List Value} {v : Value} (ha : h.1 a = some (.inr (.inr (ci, fs)))) (hv : fs[k]? = some v) (hdg : decode cc pc = .ok (.getfield index, 3))
    (kk : W p l e R s m args below meth c H locs cells slots Q (F0 m (pc + 3) ls (v :: rest))) : W p l e R s m args below meth c H locs cells slots Q (F0 m pc ls (.ref a :: rest)) :=
  va_get C.1 C.2.1 C.2.2.2.2.1 kf.2.1 C.2.2.2.1 C.2.2.2.2.2.1.1 (hS.2.1.one ha) 0 rfl kf.1 k hk (C.2.2.2.2.1 _ hlink) hsame hv hdg kk
theorem xr_get0N (C : xh_C cc nL own D g p s m args meth c) (hS : xh_T D g s R h H locs cells slots kc ks) {ci N : Nat} {Cn ref host : String} {T : u_T} {ty : Nat → FieldType} (kf : xh_F ci Cn T N ty) (k : Nat) (hk : k < N) {index : Nat} (hlink : (own, index, ref, (T k).2.1, (T k).2.2.1, host) ∈ xh_nwF) (hsame : ref = (T k).1) {a : Nat} {fs : List Value} {v : Value} (ha : h.1 a = some (.inr (.inr (ci, fs)))) (hv : fs[k]? = some v) (hdg : decode cc pc = .ok (.getfield index, 3))
    (kk : W p l e R s m args below meth c H locs cells slots Q (F0 m (pc + 3) ls (v :: rest))) : W p l e R s m args below meth c H locs cells slots Q (F0 m pc ls (.ref a :: rest)) :=
  va_getN C.1 C.2.1 C.2.2.2.2.1 kf.2.1 C.2.2.2.1 C.2.2.2.2.2.1.1 (hS.2.1.one ha) 0 rfl kf.1 k hk (va_Nw.use rfl (C.2.2.2.2.2.1.2.1 _ hlink)) (fun x hx => by subst hsame; exact hx) hv hdg kk
theorem xr_getI (C : xh_C cc nL own D g p s m args meth c) (hS : xh_T D g s R h H locs cells slots kc ks) {ci N : Nat} {Cn ref : String} {T : u_T} {ty : Nat → FieldType} (kf : xh_F ci Cn T N ty) (k : Nat) (hk : k < N) {index : Nat} (hlink : Cond.fieldLink own index ref (T k).2.1 (T k).2.2.1 ∈ lw_all) (hsame : ∀ x, s.fieldFound? (T k).1 (T k).2.1 (T k).2.2.1 = some x → s.fieldFound? ref (T k).2.1 (T k).2.2.1 = some x) {r : Option Nat} {F : Int32 → Option α} (hf : (xh_gI h r ci k).bind F = some out) (hdg : decode cc pc = .ok (.getfield index, 3))
    (kk : ∀ x : Int32, F x = some out → W p l e R s m args below meth c H locs cells slots Q (F0 m (pc + 3) ls (.int x :: rest))) : W p l e R s m args below meth c H locs cells slots Q (F0 m pc ls (va_rf r :: rest)) := by
  obtain ⟨x, e1, e2⟩ := xb_some hf
  obtain ⟨fs, e3, e4⟩ := xb_some e1
  obtain ⟨a, rfl, ha⟩ := xb_ob e3
  exact xr_get0 C hS kf k hk hlink hsame ha (xb_vI e4) hdg (kk x e2)
theorem xr_getR (C : xh_C cc nL own D g p s m args meth c) (hS : xh_T D g s R h H locs cells slots kc ks) {ci N : Nat} {Cn ref : String} {T : u_T} {ty : Nat → FieldType} (kf : xh_F ci Cn T N ty) (k : Nat) (hk : k < N) {index : Nat} (hlink : Cond.fieldLink own index ref (T k).2.1 (T k).2.2.1 ∈ lw_all) (hsame : ∀ x, s.fieldFound? (T k).1 (T k).2.1 (T k).2.2.1 = some x → s.fieldFound? ref (T k).2.1 (T k).2.2.1 = some x) {r : Option Nat} {F : Option Nat → Option α} (hf : (xh_gR h r ci k).bind F = some out) (hdg : decode cc pc = .ok (.getfield index, 3))
    (kk : ∀ x : Option Nat, F x = some out → W p l e R s m args below meth c H locs cells slots Q (F0 m (pc + 3) ls (va_rf x :: rest))) : W p l e R s m args below meth c H locs cells slots Q (F0 m pc ls (va_rf r :: rest)) := by
  obtain ⟨x, e1, e2⟩ := xb_some hf
  obtain ⟨fs, e3, e4⟩ := xb_some e1
  obtain ⟨a, rfl, ha⟩ := xb_ob e3
  exact xr_get0 C hS kf k hk hlink hsame ha (xb_vR e4) hdg (kk x e2)
theorem xr_getNI (C : xh_C cc nL own D g p s m args meth c) (hS : xh_T D g s R h H locs cells slots kc ks) {ci N : Nat} {Cn ref host : String} {T : u_T} {ty : Nat → FieldType} (kf : xh_F ci Cn T N ty) (k : Nat) (hk : k < N) {index : Nat} (hlink : (own, index, ref, (T k).2.1, (T k).2.2.1, host) ∈ xh_nwF) (hsame : ref = (T k).1) {r : Option Nat} {F : Int32 → Option α} (hf : (xh_gI h r ci k).bind F = some out) (hdg : decode cc pc = .ok (.getfield index, 3))
    (kk : ∀ x : Int32, F x = some out → W p l e R s m args below meth c H locs cells slots Q (F0 m (pc + 3) ls (.int x :: rest))) : W p l e R s m args below meth c H locs cells slots Q (F0 m pc ls (va_rf r :: rest)) := by
  obtain ⟨x, e1, e2⟩ := xb_some hf
  obtain ⟨fs, e3, e4⟩ := xb_some e1
  obtain ⟨a, rfl, ha⟩ := xb_ob e3
  exact xr_get0N C hS kf k hk hlink hsame ha (xb_vI e4) hdg (kk x e2)
theorem xr_getNR (C : xh_C cc nL own D g p s m args meth c) (hS : xh_T D g s R h H locs cells slots kc ks) {ci N : Nat} {Cn ref host : String} {T : u_T} {ty : Nat → FieldType} (kf : xh_F ci Cn T N ty) (k : Nat) (hk : k < N) {index : Nat} (hlink : (own, index, ref, (T k).2.1, (T k).2.2.1, host) ∈ xh_nwF) (hsame : ref = (T k).1) {r : Option Nat} {F : Option Nat → Option α} (hf : (xh_gR h r ci k).bind F = some out) (hdg : decode cc pc = .ok (.getfield index, 3))
    (kk : ∀ x : Option Nat, F x = some out → W p l e R s m args below meth c H locs cells slots Q (F0 m (pc + 3) ls (va_rf x :: rest))) : W p l e R s m args below meth c H locs cells slots Q (F0 m pc ls (va_rf r :: rest)) := by
  obtain ⟨x, e1, e2⟩ := xb_some hf
  obtain ⟨fs, e3, e4⟩ := xb_some e1
  obtain ⟨a, rfl, ha⟩ := xb_ob e3
  exact xr_get0N C hS kf k hk hlink hsame ha (xb_vR e4) hdg (kk x e2)
def xh_vok (ty : FieldType) (v : Value) : Prop := narrow ty v = v ∧ fits ty v = true
theorem xb_pf {h h1 : xh_H} {r : Option Nat} {c k : Nat} {v : Value} (e : xh_pf h r c k v = some h1) : ∃ a fs, r = some a ∧ h.1 a = some (.inr (.inr (c, fs))) ∧ k < fs.length ∧ h1 = xh_set h a (.inr (.inr (c, fs.set k v))) := by
  obtain ⟨fs, e1, e2⟩ := xb_some e
  obtain ⟨a, rfl, ha⟩ := xb_ob e1
  obtain ⟨e3, e4⟩ := xb_if e2
  cases e4
  exact ⟨a, fs, rfl, ha, e3, rfl⟩
theorem xr_put (C : xh_C cc nL own D g p s m args meth c) (hS : xh_T D g s R h H locs cells slots kc ks) {ci N : Nat} {Cn ref : String} {T : u_T} {ty : Nat → FieldType} (kf : xh_F ci Cn T N ty) (k : Nat) (hk : k < N) {index : Nat} (hlink : Cond.fieldLink own index ref (T k).2.1 (T k).2.2.1 ∈ lw_all) (hsame : ∀ x, s.fieldFound? (T k).1 (T k).2.1 (T k).2.2.1 = some x → s.fieldFound? ref (T k).2.1 (T k).2.2.1 = some x) (hfin : (T k).2.2.2 = false) {v : Value} (hv : xh_vok (ty k) v) {r : Option Nat} {F : xh_H → Option α} (hf : (xh_pf h r ci k v).bind F = some out) (hdg : decode cc pc = .ok (.putfield index, 3))
    (kk : ∀ (h1 : xh_H) (H1 : Heap) (locs1 : List Loc), xh_T D g s R h1 H1 locs1 cells slots kc ks → F h1 = some out → W p l e R s m args below meth c H1 locs1 cells slots Q (F0 m (pc + 3) ls rest)) : W p l e R s m args below meth c H locs cells slots Q (F0 m pc ls (v :: va_rf r :: rest)) := by
  obtain ⟨h1, e1, e2⟩ := xb_some hf
  obtain ⟨a, fs, rfl, ha, hl, rfl⟩ := xb_pf e1
  obtain ⟨hc, hin, hty, hnm⟩ := kf
  have hts := C.2.2.2.2.1
  have hK : va_K D.1 xh_cl (xh_ty D) s := C.2.2.2.2.2.1.1
  have hap := va_apart (own := own) hts hin ty hty hnm hK hc
  obtain ⟨r, h1, cell, q1, q2, q3, q4⟩ := (hS.2.1.2 a _ ha).2
  have hr : r = (Cn, T, N) := Option.some.inj (h1.symm.trans hc)
  subst hr
  obtain ⟨hS', hfc, kC, hkC, hkind⟩ := hK.1 ci _ hc
  obtain ⟨cf, kf, fi, f, hi, hsl⟩ := hS' k hk
  have hlay := hts _ (hin _ (u_in_lay hk))
  unfold u_lay at hlay
  rw [if_neg (by rw [hfin]; decide)] at hlay
  have hst := (u_facts hfc hkC (u_lays hts hin hk) hi).1
  have h6 := u_store hfc hkC hkind hlay hi (hty k hk) hv.1 hv.2
  refine W.putK C.1 C.2.1 (f := f) ⟨C.2.2.2.1, hts _ hlink, ⟨_, _, _, hsame _ hi⟩, hst⟩ (by rw [q2]; exact h6) q1 q3 (by rw [hsl]; exact k2_hasslot (q4 k hk)) rfl rfl hdg fun H' e1 e2' e3 => ?_
  rw [hsl] at e1 ⊢
  exact kk _ H' _ (hS.put (e := .inr (.inr (ci, fs.set k v))) ha ⟨_, hc, t_OB.to (V := updV (vp_V fs) k v) ⟨_, e1, q2, q3, t_set q4 hap hk v⟩ (fun j _ => vp_updV_set hl v j)⟩ e2' e3) e2
theorem xr_putF (C : xh_C cc nL own D g p s m args meth c) (hS : xh_T D g s R h H locs cells slots kc ks) (hin2 : meth.name = "<init>") {ci N : Nat} {Cn ref : String} {T : u_T} {ty : Nat → FieldType} (kf : xh_F ci Cn T N ty) (k : Nat) (hk : k < N) {index : Nat} (hlink : Cond.fieldLink own index ref (T k).2.1 (T k).2.2.1 ∈ lw_all) (hsame : ref = (T k).1) (hfin : (T k).2.2.2 = true) (hdecl : (T k).1 = own) {v : Value} (hv : xh_vok (ty k) v) {r : Option Nat} {F : xh_H → Option α} (hf : (xh_pf h r ci k v).bind F = some out) (hdg : decode cc pc = .ok (.putfield index, 3))
    (kk : ∀ (h1 : xh_H) (H1 : Heap) (locs1 : List Loc), xh_T D g s R h1 H1 locs1 cells slots kc ks → F h1 = some out → W p l e R s m args below meth c H1 locs1 cells slots Q (F0 m (pc + 3) ls rest)) : W p l e R s m args below meth c H locs cells slots Q (F0 m pc ls (v :: va_rf r :: rest)) := by
  obtain ⟨h1, e1, e2⟩ := xb_some hf
  obtain ⟨a, fs, rfl, ha, hl, rfl⟩ := xb_pf e1
  obtain ⟨hc, hin, hty, hnm⟩ := kf
  have hts := C.2.2.2.2.1
  have hK : va_K D.1 xh_cl (xh_ty D) s := C.2.2.2.2.2.1.1
  have hap := va_apart (own := own) hts hin ty hty hnm hK hc
  obtain ⟨r, h1, cell, q1, q2, q3, q4⟩ := (hS.2.1.2 a _ ha).2
  have hr : r = (Cn, T, N) := Option.some.inj (h1.symm.trans hc)
  subst hr
  obtain ⟨hS', hfc, kC, hkC, hkind⟩ := hK.1 ci _ hc
  obtain ⟨cf, kf, fi, f, hi, hsl⟩ := hS' k hk
  have hlay := hts _ (hin _ (u_in_lay hk))
  unfold u_lay at hlay
  rw [if_pos hfin] at hlay
  have hst := (u_facts hfc hkC (u_lays hts hin hk) hi).1
  have hcf : m.cls = cf := by
    obtain ⟨_, _, c', _, _, _, -, -, hf', -, -, -, hown2, -⟩ := Cond.laysFinal_spec hlay
    have e1 : c' = cf := by have := hi.symm.trans hf'; simp at this; exact this.1.symm
    rw [hdecl] at hown2
    rw [← e1]; exact Option.some.inj (C.2.2.2.1.symm.trans hown2)
  have h6 := u_fits hfc hkC hkind (Or.inr hlay) hi (hty k hk) hv.1 hv.2
  refine W.putFinK C.1 C.2.1 C.2.2.2.1 (hts _ hlink) (by rw [hsame]; exact hi) hst hcf hin2 (by rw [q2]; exact h6) q1 q3 (by rw [hsl]; exact k2_hasslot (q4 k hk)) rfl rfl hdg fun H' e1 e2' e3 => ?_
  rw [hsl] at e1 ⊢
  exact kk _ H' _ (hS.put (e := .inr (.inr (ci, fs.set k v))) ha ⟨_, hc, t_OB.to (V := updV (vp_V fs) k v) ⟨_, e1, q2, q3, t_set q4 hap hk v⟩ (fun j _ => vp_updV_set hl v j)⟩ e2' e3) e2
theorem xb_pZ {h : xh_H} {r : Option Nat} {c k : Nat} {x : Int32} {F : xh_H → Option α} (hf : (xh_pZ h r c k x).bind F = some out) : (x = 0 ∨ x = 1) ∧ (xh_pf h r c k (.int x)).bind F = some out := by
  unfold xh_pZ at hf
  by_cases hx : x = 0 ∨ x = 1
  · rw [if_pos hx] at hf; exact ⟨hx, hf⟩
  · rw [if_neg hx] at hf; cases hf
theorem xv_int {x : Int32} : xh_vok .int (.int x) := ⟨rfl, rfl⟩
theorem xv_obj {r : Option Nat} {n : String} : xh_vok (.object n) (va_rf r) := by cases r <;> exact ⟨rfl, rfl⟩
theorem xv_arr {r : Option Nat} {t : FieldType} : xh_vok (.array t) (va_rf r) := by cases r <;> exact ⟨rfl, rfl⟩
theorem xv_bool {x : Int32} (hx : x = 0 ∨ x = 1) : xh_vok .boolean (.int x) := by rcases hx with rfl | rfl <;> exact ⟨by decide, by decide⟩
/-! arrays -/
theorem xr_li0 (C : xh_C cc nL own D g p s m args meth c) (hS : xh_T D g s R h H locs cells slots kc ks) {r : Option Nat} {F : Int32 → Option α} (hf : (xh_li h r 0).bind F = some out) (hdg : decode cc pc = .ok (.arraylength, 1))
    (kk : ∀ x : Int32, F x = some out → W p l e R s m args below meth c H locs cells slots Q (F0 m (pc + 1) ls (.int x :: rest))) : W p l e R s m args below meth c H locs cells slots Q (F0 m pc ls (va_rf r :: rest)) := by
  obtain ⟨x, e1, e2⟩ := xb_some hf
  obtain ⟨q, e3, rfl⟩ := Option.map_eq_some_iff.mp e1
  obtain ⟨a, rfl, ha⟩ := xb_ai e3
  exact va_alen C.1 C.2.1 C.2.2.2.2.2.1.1 (hS.2.1.one ha) 0 0 rfl rfl rfl hdg (kk _ e2)
theorem xr_lq (C : xh_C cc nL own D g p s m args meth c) (hS : xh_T D g s R h H locs cells slots kc ks) {r : Option Nat} {F : Int32 → Option α} (hf : (xh_lq h r).bind F = some out) (hdg : decode cc pc = .ok (.arraylength, 1))
    (kk : ∀ x : Int32, F x = some out → W p l e R s m args below meth c H locs cells slots Q (F0 m (pc + 1) ls (.int x :: rest))) : W p l e R s m args below meth c H locs cells slots Q (F0 m pc ls (va_rf r :: rest)) := by
  obtain ⟨x, e1, e2⟩ := xb_some hf
  unfold xh_lq at e1
  by_cases hr : r = some (h.2.2 1)
  · rw [if_pos hr] at e1
    cases e1
    subst hr
    rw [hS.1]
    exact va_tlen C.1 C.2.1 C.2.2.2.2.2.1.2.2.2.2.2.2.2.2.2.2.1 hS.2.2.1 (v := 0) rfl hdg (kk _ e2)
  · rw [if_neg hr] at e1
    obtain ⟨q, e3, rfl⟩ := Option.map_eq_some_iff.mp e1
    obtain ⟨a, rfl, ha⟩ := xb_aq e3
    exact va_alen C.1 C.2.1 C.2.2.2.2.2.1.1 (hS.2.1.one ha) 0 2 rfl rfl rfl hdg (kk _ e2)
theorem xr_iald (C : xh_C cc nL own D g p s m args meth c) (hS : xh_T D g s R h H locs cells slots kc ks) {r : Option Nat} {i : Int32} {F : Int32 → Option α} (hf : (xh_ld h r 0 i).bind F = some out) (hdg : decode cc pc = .ok (.iaload, 1))
    (kk : ∀ x : Int32, F x = some out → W p l e R s m args below meth c H locs cells slots Q (F0 m (pc + 1) ls (.int x :: rest))) : W p l e R s m args below meth c H locs cells slots Q (F0 m pc ls (.int i :: va_rf r :: rest)) := by
  obtain ⟨x, e1, e2⟩ := xb_some hf
  obtain ⟨q, e3, e4⟩ := xb_some e1
  obtain ⟨a, rfl, ha⟩ := xb_ai e3
  obtain ⟨e5, e6⟩ := xb_if e4
  cases e6
  exact va_iald C.1 C.2.1 C.2.2.2.2.2.1.1 (hS.2.1.one ha) 0 0 rfl rfl (xh_ok_in e5) hdg (kk _ e2)
theorem xr_cald (C : xh_C cc nL own D g p s m args meth c) (hS : xh_T D g s R h H locs cells slots kc ks) {r : Option Nat} {i : Int32} {F : Int32 → Option α} (hf : (xh_ld h r 1 i).bind F = some out) (hdg : decode cc pc = .ok (.caload, 1))
    (kk : ∀ x : Int32, F x = some out → W p l e R s m args below meth c H locs cells slots Q (F0 m (pc + 1) ls (.int x :: rest))) : W p l e R s m args below meth c H locs cells slots Q (F0 m pc ls (.int i :: va_rf r :: rest)) := by
  obtain ⟨x, e1, e2⟩ := xb_some hf
  obtain ⟨q, e3, e4⟩ := xb_some e1
  obtain ⟨a, rfl, ha⟩ := xb_ai e3
  obtain ⟨e5, e6⟩ := xb_if e4
  cases e6
  exact va_cald C.1 C.2.1 C.2.2.2.2.2.1.1 (hS.2.1.one ha) 0 1 rfl rfl (xh_ok_in e5) hdg (kk _ e2)
theorem xr_aald (C : xh_C cc nL own D g p s m args meth c) (hS : xh_T D g s R h H locs cells slots kc ks) {r : Option Nat} {i : Int32} {F : Option Nat → Option α} (hf : (xh_lr h r i).bind F = some out) (hdg : decode cc pc = .ok (.aaload, 1))
    (kk : ∀ x : Option Nat, F x = some out → W p l e R s m args below meth c H locs cells slots Q (F0 m (pc + 1) ls (va_rf x :: rest))) : W p l e R s m args below meth c H locs cells slots Q (F0 m pc ls (.int i :: va_rf r :: rest)) := by
  obtain ⟨x, e1, e2⟩ := xb_some hf
  obtain ⟨q, e3, e4⟩ := xb_some e1
  obtain ⟨a, rfl, ha⟩ := xb_aq e3
  obtain ⟨e5, e6⟩ := xb_if e4
  cases e6
  exact va_aldq C.1 C.2.1 C.2.2.2.2.2.1.1 (hS.2.1.one ha) 0 2 rfl rfl (xh_ok_in e5) hdg (kk _ e2)
theorem xr_ils (C : xh_C cc nL own D g p s m args meth c) (hS : xh_T D g s R h H locs cells slots kc ks) {a : Nat} {i : Int32} {f : Nat → Int32} {F : Int32 → Option α} (hT : va_T .int a 5 (fun j => .int (f j)) (xh_A g) s s.heap) (hf : (xh_ls i f).bind F = some out) (hdg : decode cc pc = .ok (.iaload, 1))
    (kk : ∀ x : Int32, F x = some out → W p l e R s m args below meth c H locs cells slots Q (F0 m (pc + 1) ls (.int x :: rest))) : W p l e R s m args below meth c H locs cells slots Q (F0 m pc ls (.int i :: .ref a :: rest)) := by
  obtain ⟨x, e1, e2⟩ := xb_some hf
  obtain ⟨e5, e6⟩ := xb_if e1
  cases e6
  exact va_ti C.1 C.2.1 hT hS.2.2.1 (xh_ok_in e5) rfl hdg (kk _ e2)
theorem xb_sv {h h1 : xh_H} {r : Option Nat} {k : Nat} {i x : Int32} (e : xh_sv h r k i x = some h1) : ∃ a n f, r = some a ∧ h.1 a = some (.inl (k, n, f)) ∧ xh_ok i n ∧ h1 = xh_set h a (.inl (k, n, upd f i.toNatClampNeg x)) := by
  obtain ⟨q, e1, e2⟩ := xb_some e
  obtain ⟨a, rfl, ha⟩ := xb_ai e1
  obtain ⟨e3, e4⟩ := xb_if e2
  cases e4
  exact ⟨a, q.1, q.2, rfl, ha, e3, rfl⟩
theorem xr_iast (C : xh_C cc nL own D g p s m args meth c) (hS : xh_T D g s R h H locs cells slots kc ks) {r : Option Nat} {i x : Int32} {F : xh_H → Option α} (hf : (xh_sv h r 0 i x).bind F = some out) (hdg : decode cc pc = .ok (.iastore, 1))
    (kk : ∀ (h1 : xh_H) (H1 : Heap) (locs1 : List Loc), xh_T D g s R h1 H1 locs1 cells slots kc ks → F h1 = some out → W p l e R s m args below meth c H1 locs1 cells slots Q (F0 m (pc + 1) ls rest)) : W p l e R s m args below meth c H locs cells slots Q (F0 m pc ls (.int x :: .int i :: va_rf r :: rest)) := by
  obtain ⟨h1, e1, e2⟩ := xb_some hf
  obtain ⟨a, n, f, rfl, ha, hin, rfl⟩ := xb_sv e1
  refine W.iast C.1 C.2.1 (hS.2.1.2 a _ ha).2 ((C.2.2.2.2.2.1.1.2 0 _ rfl).1 n (fun j => .int (f j))) (fun q => by cases q) (by show ¬ (i < 0 ∨ (arrV _ _ _).slots.size ≤ _); rw [arrV_size]; exact xh_ok_in hin) rfl rfl hdg fun H1 e z oq => ?_
  refine kk _ H1 _ (hS.put ha ?_ z oq) e2
  show H1[a]? = some (vp_cell _ _)
  rw [e]
  show some (Cell.setSlot (vp_cell _ _) _ _) = _
  rw [vp_cell_i, vp_cell_i, arrV_store]
  congr 2
  funext q
  by_cases hq : q = i.toNatClampNeg
  · subst hq
    simp [updV, upd]
  · simp [updV, upd, hq]
theorem xr_cast (C : xh_C cc nL own D g p s m args meth c) (hS : xh_T D g s R h H locs cells slots kc ks) {r : Option Nat} {i x : Int32} {F : xh_H → Option α} (hf : (xh_sv h r 1 i (vp_nar .char x)).bind F = some out) (hdg : decode cc pc = .ok (.castore, 1))
    (kk : ∀ (h1 : xh_H) (H1 : Heap) (locs1 : List Loc), xh_T D g s R h1 H1 locs1 cells slots kc ks → F h1 = some out → W p l e R s m args below meth c H1 locs1 cells slots Q (F0 m (pc + 1) ls rest)) : W p l e R s m args below meth c H locs cells slots Q (F0 m pc ls (.int x :: .int i :: va_rf r :: rest)) := by
  obtain ⟨h1, e1, e2⟩ := xb_some hf
  obtain ⟨a, n, f, rfl, ha, hin, rfl⟩ := xb_sv e1
  refine W.cast C.1 C.2.1 (hS.2.1.2 a _ ha).2 ((C.2.2.2.2.2.1.1.2 1 _ rfl).1 n (fun j => .int (f j))) (fun q => by cases q) (by show ¬ (i < 0 ∨ (arrV _ _ _).slots.size ≤ _); rw [arrV_size]; exact xh_ok_in hin) rfl rfl hdg fun H1 e z oq => ?_
  refine kk _ H1 _ (hS.put ha ?_ z oq) e2
  show H1[a]? = some (vp_cell _ _)
  rw [e]
  show some (Cell.setSlot (vp_cell _ _) _ _) = _
  rw [vp_cell_i, vp_cell_i, arrV_store]
  congr 2
  funext q
  by_cases hq : q = i.toNatClampNeg
  · subst hq
    simp [updV, upd, vp_nar]
    try rfl
  · simp [updV, upd, hq]
theorem xb_sr {h h1 : xh_H} {r v : Option Nat} {i : Int32} (e : xh_sr h r i v = some h1) : ∃ a n f, r = some a ∧ h.1 a = some (.inr (.inl (n, f))) ∧ xh_ok i n ∧ xh_st h v = true ∧ h1 = xh_set h a (.inr (.inl (n, va_up f i.toNatClampNeg v))) := by
  obtain ⟨q, e1, e2⟩ := xb_some e
  obtain ⟨a, rfl, ha⟩ := xb_aq e1
  obtain ⟨e3, e4⟩ := xb_if e2
  cases e4
  exact ⟨a, q.1, q.2, rfl, ha, e3.1, e3.2, rfl⟩
theorem xb_st {h : xh_H} {b : Nat} (e : xh_st h (some b) = true) : ∃ ci fs, h.1 b = some (.inr (.inr (ci, fs))) ∧ (ci = 1 ∨ ci = 3 ∨ ci = 5) := by
  have e' : (match h.1 b with | some (.inr (.inr (c, _))) => c == 1 || c == 3 || c == 5 | _ => false) = true := e
  split at e'
  · next c fs hc =>
    refine ⟨c, fs, hc, ?_⟩
    simp only [Bool.or_eq_true, beq_iff_eq] at e'
    omega
  · cases e'
/-- an object of the list, in the machine's heap -/
theorem xb_obj (C : xh_C cc nL own D g p s m args meth c) (hS : xh_T D g s R h H locs cells slots kc ks) {ci N a : Nat} {Cn : String} {T : u_T} {ty : Nat → FieldType} (kf : xh_F ci Cn T N ty) {fs : List Value} (ha : h.1 a = some (.inr (.inr (ci, fs)))) : ∃ cell : Cell, H[a]? = some cell ∧ cell.vm.isStatics = false ∧ s.vm.findClass Cn = some cell.cls :=
  va_recv C.2.2.2.2.2.1.1 (hS.2.1.one ha) (q0 := 0) kf.1 rfl
theorem xb_asg (C : xh_C cc nL own D g p s m args meth c) (hS : xh_T D g s R h H locs cells slots kc ks) {b : Nat} (e : xh_st h (some b) = true) : ∃ (cell : Cell) (kC : Class), H[b]? = some cell ∧ cell.vm.isStatics = false ∧ s.vm.classes[cell.cls]? = some kC ∧ ∃ (cC comp : ClassId), cell.cls = cC ∧ s.vm.findClass "java/lang/Object" = some comp ∧ s.vm.assignable cC comp = true ∧ ∃ Cn, s.vm.findClass Cn = some cC := by
  obtain ⟨ci, fs, hb, hci⟩ := xb_st e
  have hK := C.2.2.2.2.2.1
  have key : ∀ {ci N : Nat} {Cn : String} {T : u_T} {ty : Nat → FieldType}, xh_F ci Cn T N ty → h.1 b = some (.inr (.inr (ci, fs))) → (Cn, "java/lang/Object") ∈ xh_nwC → ∃ (cell : Cell) (kC : Class), H[b]? = some cell ∧ cell.vm.isStatics = false ∧ s.vm.classes[cell.cls]? = some kC ∧ ∃ (cC comp : ClassId), cell.cls = cC ∧ s.vm.findClass "java/lang/Object" = some comp ∧ s.vm.assignable cC comp = true ∧ ∃ Cn, s.vm.findClass Cn = some cC := by
    intro ci N Cn T ty kf hb hm
    obtain ⟨cell, q1, q2, q3⟩ := xb_obj C hS kf hb
    obtain ⟨c0, t0, f1, f2, f3⟩ := Cond.castable_spec (va_Nw.use (A := args) rfl (hK.2.2.2.1 _ hm))
    have e1 : c0 = cell.cls := Option.some.inj (f1.symm.trans q3)
    obtain ⟨hfc, kC, hkC, -⟩ := (hK.1.1 ci _ kf.1).2
    have e2 : D.1.1 ci = cell.cls := Option.some.inj (hfc.symm.trans q3)
    exact ⟨cell, kC, q1, q2, by rw [← e2]; exact hkC, c0, t0, e1.symm, f2, f3, Cn, f1⟩
  rcases hci with rfl | rfl | rfl
  · exact key xf_X1 hb (by decide)
  · exact key xf_X3 hb (by decide)
  · exact key xf_X5 hb (by decide)
theorem xr_aast (C : xh_C cc nL own D g p s m args meth c) (hS : xh_T D g s R h H locs cells slots kc ks) {r v : Option Nat} {i : Int32} {F : xh_H → Option α} (hf : (xh_sr h r i v).bind F = some out) (hdg : decode cc pc = .ok (.aastore, 1))
    (kk : ∀ (h1 : xh_H) (H1 : Heap) (locs1 : List Loc), xh_T D g s R h1 H1 locs1 cells slots kc ks → F h1 = some out → W p l e R s m args below meth c H1 locs1 cells slots Q (F0 m (pc + 1) ls rest)) : W p l e R s m args below meth c H locs cells slots Q (F0 m pc ls (va_rf v :: .int i :: va_rf r :: rest)) := by
  obtain ⟨h1, e1, e2⟩ := xb_some hf
  obtain ⟨a, n, f, rfl, ha, hin, hst, rfl⟩ := xb_sr e1
  have hlt : i.toNatClampNeg < n := hin.2
  have h0 : ¬ i < 0 := Int32.not_lt.mpr hin.1
  have fin : ∀ (H1 : Heap), H1[a]? = some ((arrV (D.2 2) n (fun j => va_rf (f j))).setSlot i.toNatClampNeg (va_rf v)) → H1.size = H.size → (∀ q, q ≠ a → H1[q]? = H[q]?) → W p l e R s m args below meth c H1 (locs ++ [⟨a, i.toNatClampNeg⟩]) cells slots Q (F0 m (pc + 1) ls rest) := by
    intro H1 e z oq
    refine kk _ H1 _ (hS.put ha ?_ z oq) e2
    show H1[a]? = some (vp_cell _ _)
    rw [e, vp_cell_q, arrV_store]
    congr 2
    funext q
    by_cases hq : q = i.toNatClampNeg
    · subst hq
      simp [updV, va_up]
    · simp [updV, va_up, hq]
  have hK := C.2.2.2.2.2.1.1
  cases v with
  | none =>
    exact va_WaastN C.1 C.2.1 (hS.2.1.2 a _ ha).2 ((hK.2 2 _ rfl).1 n (fun j => va_rf (f j))) (fun q => by cases q) (by show ¬ (i < 0 ∨ (arrV _ _ _).slots.size ≤ _); rw [arrV_size]; exact xh_ok_in hin) rfl rfl hdg fin
  | some b =>
    obtain ⟨cellV, kC, g1, g2, g3, cC, comp0, g4, g5, g6, Cn, g7⟩ := xb_asg C hS hst
    subst g4
    obtain ⟨kA, comp, k1, k2, k3, -⟩ := (hK.2 2 _ rfl).2
    have hcomp : comp = comp0 := Option.some.inj (k3.symm.trans g5)
    subst hcomp
    obtain ⟨kE, hkE, -⟩ := Vm.findClass_spec k3
    exact W.aast C.1 C.2.1 (hS.2.1.2 a _ ha).2 (fun q h => by cases h) (fun h => by cases h) k1 k2 rfl hkE ⟨h0, by show _ < (arrV _ _ _).slots.size; rw [arrV_size]; exact hlt⟩ g1 (fun q h => by rw [h] at g2; cases g2) g3 g6 rfl rfl hdg fin
/-! what is made -/
theorem xr_new (C : xh_C cc nL own D g p s m args meth c) (hS : xh_T D g s R h H locs cells slots kc ks) {ci N : Nat} {Cn : String} {T : u_T} {ty : Nat → FieldType} (kf : xh_F ci Cn T N ty) {index : Nat} (hcl : Cond.classLink own index Cn ∈ lw_all) (hinst : Cond.instantiable Cn N ∈ lw_all) (hini : Cond.initialized Cn ∈ lw_all) {fs : List Value} (hN : fs.length = N) (hfs : ∀ j, j < N → defaultValue (ty j) = vp_V fs j)
    {F : Option Nat → xh_H → xh_R ω} {x : ω} {hF : xh_H} (hf : xh_new h ci fs F = some (x, hF, kc, ks)) (hdg : decode cc pc = .ok (.new index, 3))
    (kk : ∀ (a : Option Nat) (h1 : xh_H) (H1 : Heap) (cells1 slots1 kc1 ks1 : Nat), xh_T D g s R h1 H1 locs cells1 slots1 kc1 ks1 → F a h1 = some (x, hF, kc1, ks1) → W p l e R s m args below meth c H1 locs cells1 slots1 Q (F0 m (pc + 3) ls (va_rf a :: rest))) : W p l e R s m args below meth c H locs cells slots Q (F0 m pc ls rest) := by
  obtain ⟨kc1, ks1, e1, rfl, rfl⟩ := xb_ad hf
  subst hN
  obtain ⟨t1, ⟨t2, t3⟩, t4, t5, t6, t7⟩ := id hS
  have hts := C.2.2.2.2.1
  have hK : va_K D.1 xh_cl (xh_ty D) s := C.2.2.2.2.2.1.1
  have hKn := hK.1 ci _ kf.1
  refine W.newcK C.1 C.2.1 C.2.2.2.1 (hts _ hcl) (hts _ hinst) (hts _ hini) rfl hdg (by omega) (by omega) hKn.2.1 rfl fun H1 kC hkC e2 z1 o1 => ?_
  refine kk (some H.size) (xh_push h (.inr (.inr (ci, fs)))) H1 _ _ kc1 ks1 (hS.push (e := .inr (.inr (ci, fs))) ⟨_, kf.1, (u_born ty hts kf.2.1 hKn hkC e2 kf.2.2.1).to hfs⟩ z1 o1) ?_
  rw [t2]
  exact e1
theorem xr_na (C : xh_C cc nL own D g p s m args meth c) (hS : xh_T D g s R h H locs cells slots kc ks) {k : Nat} {atype : ArrayType} {ty : FieldType} (hty : newarray.typeOf atype = ty) (hat : (xh_ty D)[k]? = some (D.2 k, ty)) (hb4 : componentBytes ty ≤ 4) (hd : defaultValue ty = .int 0) (hnm : ∀ cA : ClassId, va_RA s cA ty → s.vm.findClass ("[" ++ ty.toString) = some cA) (harr : Cond.arrayClass ty ∈ lw_all) {n : Int32}
    {F : Option Nat → xh_H → xh_R ω} {x : ω} {hF : xh_H} (hf : xh_na h k n F = some (x, hF, kc, ks)) (hdg : decode cc pc = .ok (.newarray atype, 2))
    (kk : ∀ (a : Option Nat) (h1 : xh_H) (H1 : Heap) (cells1 slots1 kc1 ks1 : Nat), xh_T D g s R h1 H1 locs cells1 slots1 kc1 ks1 → F a h1 = some (x, hF, kc1, ks1) → W p l e R s m args below meth c H1 locs cells1 slots1 Q (F0 m (pc + 2) ls (va_rf a :: rest))) : W p l e R s m args below meth c H locs cells slots Q (F0 m pc ls (.int n :: rest)) := by
  subst hty
  obtain ⟨⟨n0, n1⟩, e0⟩ := xb_if hf
  obtain ⟨kc1, ks1, e1, rfl, rfl⟩ := xb_ad e0
  obtain ⟨t1, ⟨t2, t3⟩, t4, t5, t6, t7⟩ := id hS
  have hts := C.2.2.2.2.1
  have hK : va_K D.1 xh_cl (xh_ty D) s := C.2.2.2.2.2.1.1
  have hbytes : n.toNatClampNeg * componentBytes (newarray.typeOf atype) ≤ 536870912 := Nat.le_trans (Nat.mul_le_mul n1 hb4) (by decide)
  refine va_newaK C.1 C.2.1 (hts _ harr) rfl hdg rfl (Int32.not_lt.mpr n0) rfl hbytes (by omega) (by omega) rfl fun H1 cA e2 z1 o1 hAr hNm => ?_
  have hcA : cA = D.2 k := by
    have h1 := hnm _ (hK.2 k _ hat).2
    exact Option.some.inj (hNm.symm.trans h1)
  subst hcA
  refine kk (some H.size) (xh_push h (.inl (k, n.toNatClampNeg, fun _ => 0))) H1 _ _ kc1 ks1 (hS.push (e := .inl (k, n.toNatClampNeg, fun _ => 0)) ?_ z1 o1) ?_
  · show H1[H.size]? = some (vp_cell _ _)
    rw [vp_cell_i, e2, hd]
  · rw [t2]
    exact e1
theorem xr_nq (C : xh_C cc nL own D g p s m args meth c) (hS : xh_T D g s R h H locs cells slots kc ks) {index : Nat} (hcl : Cond.classLink own index "java/lang/Object" ∈ lw_all) {n : Int32}
    {F : Option Nat → xh_H → xh_R ω} {x : ω} {hF : xh_H} (hf : xh_nq h n F = some (x, hF, kc, ks)) (hdg : decode cc pc = .ok (.anewarray index, 3))
    (kk : ∀ (a : Option Nat) (h1 : xh_H) (H1 : Heap) (cells1 slots1 kc1 ks1 : Nat), xh_T D g s R h1 H1 locs cells1 slots1 kc1 ks1 → F a h1 = some (x, hF, kc1, ks1) → W p l e R s m args below meth c H1 locs cells1 slots1 Q (F0 m (pc + 3) ls (va_rf a :: rest))) : W p l e R s m args below meth c H locs cells slots Q (F0 m pc ls (.int n :: rest)) := by
  obtain ⟨⟨n0, n1⟩, e0⟩ := xb_if hf
  obtain ⟨kc1, ks1, e1, rfl, rfl⟩ := xb_ad e0
  obtain ⟨t1, ⟨t2, t3⟩, t4, t5, t6, t7⟩ := id hS
  have hts := C.2.2.2.2.1
  have hK : va_K D.1 xh_cl (xh_ty D) s := C.2.2.2.2.2.1.1
  have hbytes : n.toNatClampNeg * 4 ≤ 536870912 := Nat.le_trans (Nat.mul_le_mul n1 (Nat.le_refl 4)) (by decide)
  refine W.anew C.1 C.2.1 C.2.2.2.1 (hts _ hcl) (va_AO.use C.2.2.2.2.2.1.2.2.2.2.1) rfl hdg rfl (Int32.not_lt.mpr n0) hbytes (by omega) (by omega) fun cA kA comp f1 f2 f3 f4 => ?_
  obtain ⟨kA', comp', r1, r2, r3, r4⟩ := (hK.2 2 _ rfl).2
  generalize hH1 : H.push ({ cls := cA, slots := Array.replicate n.toNatClampNeg .null, vm := .none } : Cell) = H1
  have z1 : H1.size = H.size + 1 := by rw [← hH1, Array.size_push]
  have e2 : H1[H.size]? = some (arrV cA n.toNatClampNeg (fun _ => .null)) := by rw [← hH1, Array.getElem?_push_size, ← arrV_new]
  have o1 : ∀ q : Nat, q < H.size → H1[q]? = H[q]? := fun q hq => by rw [← hH1, Array.getElem?_push, if_neg (Nat.ne_of_lt hq)]
  have hcA : cA = D.2 2 := Option.some.inj (f1.symm.trans r4)
  subst hcA
  refine kk (some H.size) (xh_push h (.inr (.inl (n.toNatClampNeg, fun _ => none)))) H1 _ _ kc1 ks1 (hS.push (e := .inr (.inl (n.toNatClampNeg, fun _ => none))) ?_ z1 o1) ?_
  · show H1[H.size]? = some (vp_cell _ _)
    rw [vp_cell_q, e2]
    rfl
  · rw [t2]
    exact e1
end XR
