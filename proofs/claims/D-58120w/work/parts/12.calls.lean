/-! ROWS: casts, statics, clone, arraycopy, calls, ends -/
set_option maxRecDepth 100000
section XS
variable {p : Program} {l : Launch} {e : Env} {R : Room} {s : State} {m : MethodId} {args : Array Value} {below : List Frame} {meth : Method} {c : Code} {H : Heap} {locs : List Loc} {cells slots kc ks : Nat} {Q : State → Prop}
variable {cc : ByteArray} {pc nL : Nat} {own : String} {ls : Array Slot} {rest : List Value} {D : xh_D} {g : Nat → Nat} {h : xh_H} {α ω : Type} {out : α} {lv lv' : List (Nat × Value)}
theorem xr_ccS (C : xh_C cc nL own D g p s m args meth c) (hS : xh_T D g s R h H locs cells slots kc ks) {ci N : Nat} {Cn : String} {T : u_T} {ty : Nat → FieldType} (kf : xh_F ci Cn T N ty) {index : Nat} (hlink : Cond.classLink own index Cn ∈ lw_all) {r : Option Nat} {F : Option α} (hf : (xh_cc h r ci).bind (fun _ => F) = some out) (hdg : decode cc pc = .ok (.checkcast index, 3))
    (kk : F = some out → W p l e R s m args below meth c H locs cells slots Q (F0 m (pc + 3) ls (va_rf r :: rest))) : W p l e R s m args below meth c H locs cells slots Q (F0 m pc ls (va_rf r :: rest)) := by
  obtain ⟨x, e1, e2⟩ := xb_some hf
  cases r with
  | none => exact lv_castN C.1 C.2.1 hdg (kk e2)
  | some a =>
    have e3 : xh_chk h (some a) ci = some x := by
      unfold xh_cc at e1
      rwa [if_neg (by intro q; cases q)] at e1
    obtain ⟨fs, e4, -⟩ := Option.map_eq_some_iff.mp e3
    obtain ⟨b, hb, ha⟩ := xb_ob e4
    cases hb
    exact va_castS C.1 C.2.1 C.2.2.2.1 (C.2.2.2.2.1 _ hlink) (C.2.2.2.2.2.1.1.1 ci _ kf.1).2 (xb_obj C hS kf ha) hdg (kk e2)
theorem xr_ca (C : xh_C cc nL own D g p s m args meth c) (hS : xh_T D g s R h H locs cells slots kc ks) {index : Nat} (hlink : Cond.classLink own index "[I" ∈ lw_all) {r : Option Nat} {F : Option α} (hf : (xh_ca h r).bind (fun _ => F) = some out) (hdg : decode cc pc = .ok (.checkcast index, 3))
    (kk : F = some out → W p l e R s m args below meth c H locs cells slots Q (F0 m (pc + 3) ls (va_rf r :: rest))) : W p l e R s m args below meth c H locs cells slots Q (F0 m pc ls (va_rf r :: rest)) := by
  obtain ⟨x, e1, e2⟩ := xb_some hf
  obtain ⟨q, e3, -⟩ := Option.map_eq_some_iff.mp e1
  obtain ⟨a, rfl, ha⟩ := xb_ai e3
  exact va_castA C.1 C.2.1 C.2.2.2.1 (C.2.2.2.2.1 _ hlink) (hS.2.1.one ha) 0 rfl (C.2.2.2.2.2.1.1.2 0 _ rfl).2 hdg (kk e2)
theorem xr_cb (C : xh_C cc nL own D g p s m args meth c) (hS : xh_T D g s R h H locs cells slots kc ks) {index : Nat} (hlink : Cond.classLink own index "[Ljava/lang/Object;" ∈ lw_all) {r : Option Nat} {F : Option α} (hf : (xh_cb h r).bind (fun _ => F) = some out) (hdg : decode cc pc = .ok (.checkcast index, 3))
    (kk : F = some out → W p l e R s m args below meth c H locs cells slots Q (F0 m (pc + 3) ls (va_rf r :: rest))) : W p l e R s m args below meth c H locs cells slots Q (F0 m pc ls (va_rf r :: rest)) := by
  obtain ⟨x, e1, e2⟩ := xb_some hf
  obtain ⟨q, e3, -⟩ := Option.map_eq_some_iff.mp e1
  obtain ⟨a, rfl, ha⟩ := xb_aq e3
  obtain ⟨kA, comp, -, -, -, h4⟩ := (C.2.2.2.2.2.1.1.2 2 _ rfl).2
  exact va_castA C.1 C.2.1 C.2.2.2.1 (C.2.2.2.2.1 _ hlink) (hS.2.1.one ha) 0 rfl h4 hdg (kk e2)
/-- the static fields: ArrayList's empty array, LEAST, GREATEST -/
theorem xr_gs1 (C : xh_C cc nL own D g p s m args meth c) (hS : xh_T D g s R h H locs cells slots kc ks) {index : Nat} (hlink : Cond.fieldLink own index "java/util/ArrayList" "DEFAULTCAPACITY_EMPTY_ELEMENTDATA" "[Ljava/lang/Object;" ∈ lw_all) (hdg : decode cc pc = .ok (.getstatic index, 3))
    (kk : W p l e R s m args below meth c H locs cells slots Q (F0 m (pc + 3) ls (va_rf (some (h.2.2 1)) :: rest))) : W p l e R s m args below meth c H locs cells slots Q (F0 m pc ls rest) := by
  rw [hS.1] at kk
  exact va_gets C.1 C.2.1 C.2.2.2.2.2.1.2.2.2.2.2.2.2.2.2.1 hS.2.2.1 C.2.2.2.1 (C.2.2.2.2.1 _ hlink) (fun _ h => h) hdg kk
theorem xr_gs2 (C : xh_C cc nL own D g p s m args meth c) (hS : xh_T D g s R h H locs cells slots kc ks) {index : Nat} (hlink : Cond.fieldLink own index "SungSlides" "LEAST" "[I" ∈ lw_all) (hdg : decode cc pc = .ok (.getstatic index, 3))
    (kk : W p l e R s m args below meth c H locs cells slots Q (F0 m (pc + 3) ls (.ref (g 2) :: rest))) : W p l e R s m args below meth c H locs cells slots Q (F0 m pc ls rest) :=
  va_gets C.1 C.2.1 C.2.2.2.2.2.1.2.2.2.2.2.2.2.2.2.2.2.1 hS.2.2.1 C.2.2.2.1 (C.2.2.2.2.1 _ hlink) (fun _ h => h) hdg kk
theorem xr_gs3 (C : xh_C cc nL own D g p s m args meth c) (hS : xh_T D g s R h H locs cells slots kc ks) {index : Nat} (hlink : Cond.fieldLink own index "SungSlides" "GREATEST" "[I" ∈ lw_all) (hdg : decode cc pc = .ok (.getstatic index, 3))
    (kk : W p l e R s m args below meth c H locs cells slots Q (F0 m (pc + 3) ls (.ref (g 3) :: rest))) : W p l e R s m args below meth c H locs cells slots Q (F0 m pc ls rest) :=
  va_gets C.1 C.2.1 C.2.2.2.2.2.1.2.2.2.2.2.2.2.2.2.2.2.2.2.1 hS.2.2.1 C.2.2.2.1 (C.2.2.2.2.1 _ hlink) (fun _ h => h) hdg kk
theorem xr_ld2 (C : xh_C cc nL own D g p s m args meth c) (hS : xh_T D g s R h H locs cells slots kc ks) {i : Int32} {F : Int32 → Option α} (hf : (xh_ls i xh_least).bind F = some out) (hdg : decode cc pc = .ok (.iaload, 1))
    (kk : ∀ x : Int32, F x = some out → W p l e R s m args below meth c H locs cells slots Q (F0 m (pc + 1) ls (.int x :: rest))) : W p l e R s m args below meth c H locs cells slots Q (F0 m pc ls (.int i :: .ref (g 2) :: rest)) :=
  xr_ils C hS C.2.2.2.2.2.1.2.2.2.2.2.2.2.2.2.2.2.2.1 hf hdg kk
theorem xr_ld3 (C : xh_C cc nL own D g p s m args meth c) (hS : xh_T D g s R h H locs cells slots kc ks) {i : Int32} {F : Int32 → Option α} (hf : (xh_ls i xh_great).bind F = some out) (hdg : decode cc pc = .ok (.iaload, 1))
    (kk : ∀ x : Int32, F x = some out → W p l e R s m args below meth c H locs cells slots Q (F0 m (pc + 1) ls (.int x :: rest))) : W p l e R s m args below meth c H locs cells slots Q (F0 m pc ls (.int i :: .ref (g 3) :: rest)) :=
  xr_ils C hS C.2.2.2.2.2.1.2.2.2.2.2.2.2.2.2.2.2.2.2.2.1 hf hdg kk
/-- the class of Object[] -/
theorem xr_ldM (C : xh_C cc nL own D g p s m args meth c) (hS : xh_T D g s R h H locs cells slots kc ks) {index : Nat} (hlink : Cond.classLink own index "[Ljava/lang/Object;" ∈ lw_all) (hdg : decode cc pc = .ok (.ldc index, 2))
    (kk : W p l e R s m args below meth c H locs cells slots Q (F0 m (pc + 2) ls (va_rf (some (h.2.2 4)) :: rest))) : W p l e R s m args below meth c H locs cells slots Q (F0 m pc ls rest) := by
  rw [hS.1] at kk
  exact va_ldcM C.1 C.2.1 C.2.2.2.1 (C.2.2.2.2.1 _ hlink) C.2.2.2.2.2.1.2.2.2.2.2.2.1 hdg kk
theorem xr_gc (C : xh_C cc nL own D g p s m args meth c) (hS : xh_T D g s R h H locs cells slots kc ks) {r : Option Nat} {F : Option α} (hf : (xh_cb h r).bind (fun _ => F) = some out) (hml : nL = ls.size) {index : Nat} (hlink : Cond.methodLink own index ⟨"java/lang/Object", "getClass", "()Ljava/lang/Class;"⟩ ∈ lw_all)
    (hsel : Cond.selects "[Ljava/lang/Object;" ⟨"java/lang/Object", "getClass", "()Ljava/lang/Class;"⟩ ⟨"java/lang/Object", "getClass", "()Ljava/lang/Class;"⟩ ∈ lw_all) (hinst : Cond.instanceMethod ⟨"java/lang/Object", "getClass", "()Ljava/lang/Class;"⟩ ∈ lw_all) (hnat : Cond.native ⟨"java/lang/Object", "getClass", "()Ljava/lang/Class;"⟩ ∈ lw_all)
    (hframes : 1 ≤ R.frames) (hlocals : (rest.map fun v => v.category).sum + 14 ≤ R.locals) (hdg : decode cc pc = .ok (.invokevirtual index, 3))
    (kk : F = some out → W p l e R s m args below meth c H locs cells slots Q (F0 m (pc + 3) ls (va_rf (some (h.2.2 4)) :: rest))) : W p l e R s m args below meth c H locs cells slots Q (F0 m pc ls (va_rf r :: rest)) := by
  rw [hS.1] at kk
  obtain ⟨x, e1, e2⟩ := xb_some hf
  obtain ⟨q, e3, -⟩ := Option.map_eq_some_iff.mp e1
  obtain ⟨a, rfl, ha⟩ := xb_aq e3
  obtain ⟨kA, comp, -, -, -, h4⟩ := (C.2.2.2.2.2.1.1.2 2 _ rfl).2
  exact va_getC C.1 C.2.1 (C.2.2.1.trans hml) C.2.2.2.1 (C.2.2.2.2.1 _ hlink) (va_Dc.use C.2.2.2.2.2.1.2.2.2.2.2.2.2.1) (C.2.2.2.2.1 _ hsel) (C.2.2.2.2.1 _ hinst) (C.2.2.2.2.1 _ hnat) C.2.2.2.2.2.1.2.2.2.2.2.2.1 ⟨_, (hS.2.1.2 a _ ha).2, rfl, h4⟩ hframes hlocals hdg (kk e2)
theorem xr_cln (C : xh_C cc nL own D g p s m args meth c) (hS : xh_T D g s R h H locs cells slots kc ks) (hml : nL = ls.size) {index : Nat} (hlink : Cond.methodLink own index ⟨"[I", "clone", "()Ljava/lang/Object;"⟩ ∈ lw_all) (hsame : Cond.sameMethod "[I" "java/lang/Object" "clone" "()Ljava/lang/Object;" ∈ lw_all)
    (hnat : Cond.native ⟨"java/lang/Object", "clone", "()Ljava/lang/Object;"⟩ ∈ lw_all) (hinst : Cond.instanceMethod ⟨"java/lang/Object", "clone", "()Ljava/lang/Object;"⟩ ∈ lw_all) (hsel : Cond.selects "[I" ⟨"[I", "clone", "()Ljava/lang/Object;"⟩ ⟨"java/lang/Object", "clone", "()Ljava/lang/Object;"⟩ ∈ lw_all)
    (hframes : 1 ≤ R.frames) (hlocals : (rest.map fun v => v.category).sum + 14 ≤ R.locals) {r : Option Nat} {F : Option Nat → xh_H → xh_R ω} {x : ω} {hF : xh_H} (hf : xh_cln h r F = some (x, hF, kc, ks)) (hdg : decode cc pc = .ok (.invokevirtual index, 3))
    (kk : ∀ (a : Option Nat) (h1 : xh_H) (H1 : Heap) (cells1 slots1 kc1 ks1 : Nat), xh_T D g s R h1 H1 locs cells1 slots1 kc1 ks1 → F a h1 = some (x, hF, kc1, ks1) → W p l e R s m args below meth c H1 locs cells1 slots1 Q (F0 m (pc + 3) ls (va_rf a :: rest))) : W p l e R s m args below meth c H locs cells slots Q (F0 m pc ls (va_rf r :: rest)) := by
  obtain ⟨q, e0, e1⟩ := xb_some hf
  obtain ⟨a, rfl, ha⟩ := xb_ai e0
  obtain ⟨kc1, ks1, e2, rfl, rfl⟩ := xb_ad e1
  obtain ⟨n, f⟩ := q
  obtain ⟨t1, ⟨t2, t3⟩, t4, t5, t6, t7⟩ := id hS
  have hts := C.2.2.2.2.1
  have hK : va_K D.1 xh_cl (xh_ty D) s := C.2.2.2.2.2.1.1
  have hnm : s.vm.findClass "[I" = some (D.2 0) := (hK.2 0 _ rfl).2
  have hcl : va_Nw (.castable "[I" "java/lang/Cloneable") s := C.2.2.2.2.2.1.2.2.2.1 _ (show ("[I", "java/lang/Cloneable") ∈ xh_nwC by decide)
  have hc0 : H[a]? = some (arrV (D.2 0) n (fun j => .int (f j))) := (hS.2.1.2 a _ ha).2
  have hsz : (arrV (D.2 0) n (fun j => .int (f j))).slots.size = n := arrV_size _ _ _
  obtain ⟨c0, t0', f1, f2, f3⟩ := Cond.castable_spec (va_Nw.use (A := args) rfl hcl)
  cases hnm.symm.trans f1
  intro T hT X
  have hcellT : T.heap[a]? = some (arrV (D.2 0) n (fun j => .int (f j))) := by rw [hT]; exact hc0
  obtain ⟨-, kA, hkA, comp, hkind⟩ := State.isArrayOf_alike X.warmed.alike ((hK.2 0 _ rfl).1 0 (fun _ => .null))
  obtain ⟨-, kS, hkS, compS, hkindS⟩ := (hK.2 0 _ rfl).1 0 (fun _ => .null)
  obtain ⟨vm', X', st⟩ := X.cloneArray C.1 C.2.2.2.1 (hts _ hlink) (hts _ hsame) (hts _ hnat) (hts _ hinst) (hts _ hsel) (a := a) (cell := arrV (D.2 0) n (fun j => .int (f j))) hcellT (fun k h => by cases h) (fun h => by cases h) hnm f2 f3
    (fun i v hv => by
      have hk' : T.vm.classes[D.2 0]? = some kA := hkA
      have hfit : fits .int v = true := va_fit (ty := .int) (cA := D.2 0) (n := n) (F := fun j => .int (f j)) (fun i _ => rfl) i v hv
      have hk2 : T.vm.classes[(arrV (D.2 0) n (fun j => .int (f j))).cls]? = some kA := hk'
      simpa [State.fitsSlot, State.slotType?, hk2, hkind] using hfit)
    (g := F0 m pc ls (va_rf (some a) :: rest)) rfl (by rw [C.2.2.1]; exact hml.symm) rfl (by rw [C.2.1]; exact hdg) hframes (by show 2 * 0 + _ + 14 ≤ _; omega) (by omega) (by rw [hsz]; show slots + n ≤ _; simp only at t7; omega) (hloader := Vm.clonesLoader_of_array hkS hkindS)
  rw [hsz] at X'
  generalize hH1 : H.push (arrV (D.2 0) n (fun j => .int (f j))) = H1
  have z1 : H1.size = H.size + 1 := by rw [← hH1, Array.size_push]
  have e3 : H1[H.size]? = some (arrV (D.2 0) n (fun j => .int (f j))) := by rw [← hH1, Array.getElem?_push_size]
  have o1 : ∀ q : Nat, q < H.size → H1[q]? = H[q]? := fun q hq => by rw [← hH1, Array.getElem?_push, if_neg (Nat.ne_of_lt hq)]
  obtain ⟨t, b1, b2⟩ := kk (some H.size) (xh_push h (.inl (0, n, f))) H1 _ _ kc1 ks1 (hS.push (e := .inl (0, n, f)) e3 z1 o1) (by rw [t2]; exact e2)
    ((T.setVm vm').pushCell (arrV (D.2 0) n (fun j => .int (f j)))) (by rw [← hH1, ← hT]; rfl) X'
  refine ⟨t, st t ?_, b2⟩
  rw [hT]
  exact b1
theorem xr_cpy (C : xh_C cc nL own D g p s m args meth c) (hS : xh_T D g s R h H locs cells slots kc ks) (hml : nL = ls.size) {index : Nat} (hlink : Cond.methodLink own index arraycopyName ∈ lw_all) (hnat : Cond.native arraycopyName ∈ lw_all) (hstat : Cond.static arraycopyName ∈ lw_all) (hini : Cond.initialized "java/lang/System" ∈ lw_all)
    (hframes : 1 ≤ R.frames) (hlocals : (rest.map fun v => v.category).sum + (nativeFrameWords "java/lang/System" "arraycopy" 5 + 11) ≤ R.locals) {r t : Option Nat} {sp dp n : Int32} {F : xh_H → Option α} (hf : (xh_cpy h r sp t dp n).bind F = some out) (hdg : decode cc pc = .ok (.invokestatic index, 3))
    (kk : ∀ (h1 : xh_H) (H1 : Heap) (locs1 : List Loc), xh_T D g s R h1 H1 locs1 cells slots kc ks → F h1 = some out → W p l e R s m args below meth c H1 locs1 cells slots Q (F0 m (pc + 3) ls rest)) : W p l e R s m args below meth c H locs cells slots Q (F0 m pc ls (.int n :: .int dp :: va_rf t :: .int sp :: va_rf r :: rest)) := by
  obtain ⟨h1, e1, e2⟩ := xb_some hf
  obtain ⟨⟨n0, f⟩, e3, e4⟩ := xb_some e1
  obtain ⟨⟨n1, f1⟩, e5, e6⟩ := xb_some e4
  obtain ⟨a0, rfl, ha0⟩ := xb_aq e3
  obtain ⟨a, rfl, ha⟩ := xb_aq e5
  obtain ⟨⟨⟨b1, b2, b3⟩, ⟨h4, h5⟩, hel⟩, e7⟩ := xb_if e6
  cases e7
  simp only at h4 h5 hel ha0 ha
  have hK : va_K D.1 xh_cl (xh_ty D) s := C.2.2.2.2.2.1.1
  have hts := C.2.2.2.2.1
  have g1 : ¬ sp < 0 := Int32.not_lt.mpr b1
  have g2 : ¬ dp < 0 := Int32.not_lt.mpr b2
  have g3 : ¬ n < 0 := Int32.not_lt.mpr b3
  have nn : ∀ z : Int32, ¬ z < 0 → z.toInt = (z.toNatClampNeg : Int) := by
    intro z hz
    have hz0 : (0 : Int) ≤ z.toInt := by
      have := Int32.not_lt.mp hz
      simpa using Int32.le_iff_toInt_le.mp this
    show z.toInt = ((z.toInt.toNat : Nat) : Int)
    omega
  intro T hT X
  have hc0 : H[a0]? = some (arrV (D.2 2) n0 (fun j => va_rf (f j))) := (hS.2.1.2 a0 _ ha0).2
  have hc1 : H[a]? = some (arrV (D.2 2) n1 (fun j => va_rf (f1 j))) := (hS.2.1.2 a _ ha).2
  obtain ⟨-, k0, hk0, cm0, hkk0⟩ := (hK.2 2 _ rfl).1 n0 (fun j => va_rf (f j))
  obtain ⟨-, k1, hk1, cm1, hkk1⟩ := (hK.2 2 _ rfl).1 n1 (fun j => va_rf (f1 j))
  obtain ⟨vm', X', step⟩ := X.arraycopy C.1 C.2.2.2.1 (hts _ hlink) (hts _ hnat) (hts _ hstat) (hts _ hini) (src := a0) (dst := a) (cs := arrV (D.2 2) n0 (fun j => va_rf (f j))) (cd := arrV (D.2 2) n1 (fun j => va_rf (f1 j))) (srcPos := sp) (destPos := dp) (n := n) (by rw [hT]; exact hc0) (by rw [hT]; exact hc1)
    (fun _ h => by cases h) (fun _ h => by cases h) (fun h => by cases h) (fun h => by cases h) hk0 hk1 hkk0 hkk1 rfl g1 g2 g3
    (by rw [nn sp g1, nn n g3, arrV_size]; omega)
    (by rw [nn dp g2, nn n g3, arrV_size]; omega)
    (fun vm₁ hal i hi => by
      have e : (arrV (D.2 2) n0 (fun j => va_rf (f j))).slots.getD (sp.toNatClampNeg + i) .null = va_rf (f (sp.toNatClampNeg + i)) := by
        rw [Array.getD_eq_getD_getElem?, arrV_read _ _ (by omega)]
        rfl
      rw [e]
      cases hy : f (sp.toNatClampNeg + i) with
      | none => exact ⟨rfl, trivial⟩
      | some y =>
        have hst : xh_st h (some y) = true := by
          have := List.all_eq_true.mp hel i (List.mem_range.mpr hi)
          rwa [hy] at this
        obtain ⟨cellV, kC, q1, q2, q3, cC, comp0, q4, q5, q6, Cn, q7⟩ := xb_asg C hS hst
        subst q4
        obtain ⟨kA, comp, r1, r2, r3, -⟩ := (hK.2 2 _ rfl).2
        cases hk1.symm.trans r1
        cases hkk1.symm.trans r2
        have hcomp : cm1 = comp0 := Option.some.inj (r3.symm.trans q5)
        subst hcomp
        obtain ⟨kE, hkE, -⟩ := Vm.findClass_spec r3
        obtain ⟨kC', hkC', -⟩ := hal.2.2 _ _ q3
        obtain ⟨kE', hkE', -⟩ := hal.2.2 _ _ hkE
        refine ⟨rfl, cellV, (show T.heap[y]? = some cellV by rw [hT]; exact q1), (fun q h => by rw [h] at q2; cases q2), ⟨kC', hkC'⟩, ?_, ?_⟩
        · exact ⟨kE', hkE'⟩
        · show vm₁.assignable _ _ = true
          rw [hal.assignable]
          exact q6)
    (g := F0 m pc ls (.int n :: .int dp :: va_rf (some a) :: .int sp :: va_rf (some a0) :: rest)) rfl (by rw [C.2.2.1]; exact hml.symm) (rest := rest) rfl (by rw [C.2.1]; exact hdg) hframes (by show 2 * 0 + _ + _ ≤ _; omega)
  have e8 : copied (arrV (D.2 2) n0 (fun j => va_rf (f j))) (arrV (D.2 2) n1 (fun j => va_rf (f1 j))) sp dp n = arrV (D.2 2) n1 (fun j => va_rf (va_cpy f f1 sp.toNatClampNeg dp.toNatClampNeg n.toNatClampNeg j)) :=
    va_copied (fun z => va_rf z) (D.2 2) (D.2 2) f f1 h4
  rw [e8] at X' step
  have hl : a < H.size := (Array.getElem?_eq_some_iff.mp hc1).1
  obtain ⟨b4, b5, b6, b7, b8⟩ := id hS
  have oq : ∀ q : Nat, q ≠ a → (H.setIfInBounds a (arrV (D.2 2) n1 (fun j => va_rf (va_cpy f f1 sp.toNatClampNeg dp.toNatClampNeg n.toNatClampNeg j))))[q]? = H[q]? := fun q hq => by simp [Array.getElem?_setIfInBounds, Ne.symm hq]
  have hS1 := hS.put (k := 0) (e := .inr (.inl (n1, va_cpy f f1 sp.toNatClampNeg dp.toNatClampNeg n.toNatClampNeg))) (H1 := H.setIfInBounds a (arrV (D.2 2) n1 (fun j => va_rf (va_cpy f f1 sp.toNatClampNeg dp.toNatClampNeg n.toNatClampNeg j)))) ha (show (H.setIfInBounds a _)[a]? = some _ by simp [Array.getElem?_setIfInBounds, hl]; rfl) (by simp) oq
  have hA : xh_A g a := by
    have := (b5.2 a _ ha).1
    rw [b4] at this
    exact this
  obtain ⟨t, a1, b1⟩ := kk _ _ _ ⟨hS1.1, hS1.2.1, ⟨hS1.2.2.1.1, hS1.2.2.1.2.1, fun q hq => by
      rcases List.mem_append.mp hq with h | h
      · exact b6.2.2 q h
      · obtain ⟨z, -, hz⟩ := List.mem_map.mp h
        rw [← hz]
        exact hA⟩, hS1.2.2.2⟩ e2 _ (by rw [← hT]; rfl) X'
  exact ⟨t, step t a1, b1⟩
/-! calls -/
/-- the contract of a method: from the pure heap h it returns rv, and the pure heap is h'; kc cells of ks slots are made -/
def xh_Ct (l : Launch) (D : xh_D) (y : MethodName) (ws : List Cond) (fr lo : Nat) (av : List Value) (h : xh_H) (rv : Option Value) (h' : xh_H) (kc ks : Nat) : Prop :=
  Met l y ws ({ frames := fr, cells := kc, slots := ks, locals := lo }) (va_Pc av (fun U => xh_K D h.2.2 U ∧ xh_Rep D h U.heap)) (fun _ st oc t => oc = .returned rv ∧ h'.2.2 = h.2.2 ∧ xh_Rep D h' t.heap ∧ va_F (xh_A h.2.2) st t) kc ks (xh_A h.2.2)
theorem xh_back {A : Nat → Prop} {H0 H1 : Heap} {locs L : List Loc} {st t : State} (hS : va_S A H0 H locs) (h0 : st.heap = H) (e1 : H1 = t.heap) (hF : va_F A st t) (hL : ∀ q ∈ L, A q.base) : va_S A H0 H1 (locs ++ L) := by
  obtain ⟨hz, hk⟩ := hF
  rw [h0] at hz hk
  subst e1
  refine ⟨Nat.le_trans hS.1 hz, fun q h1 h2 => ?_, fun q hq => ?_⟩
  · rw [hk q (Nat.lt_of_lt_of_le h1 hS.1) h2]
    exact hS.2.1 q h1 h2
  · rcases List.mem_append.mp hq with h | h
    · exact hS.2.2 q h
    · exact hL q h
theorem xh_call {st0 : List Value} {rv : Option Value} {h' : xh_H} {a : Array Value} {mc ms kc1 ks1 : Nat} (hr : va_Run p l e R s m args below meth c H locs cells slots mc ms (F0 m pc ls st0) rest (fun st oc t => oc = .returned rv ∧ h'.2.2 = h.2.2 ∧ xh_Rep D h' t.heap ∧ va_F (xh_A h.2.2) st t) (xh_A h.2.2)) (hS : xh_T D g s R h H locs cells slots (mc + kc1) (ms + ks1))
    (kk : ∀ (H1 : Heap) (locs1 : List Loc), xh_T D g s R h' H1 locs1 (cells + mc) (slots + ms) kc1 ks1 → W p l e R s m args below meth c H1 locs1 (cells + mc) (slots + ms) Q (F0 m (pc + 3) ls (rv.toList ++ rest))) : W p l e R s m args below meth c H locs cells slots Q (F0 m pc ls st0) := by
  obtain ⟨t1, t2, t4, t5, t6, t7⟩ := hS
  intro T hT X
  obtain ⟨v, st₀, t, T', L, h0, X', hL, e1, e2, ⟨hv, hg, hR, hF⟩, st⟩ := hr T hT X
  cases hv
  rw [t1] at hF hL hg
  obtain ⟨t2, a1, b1⟩ := kk T'.heap (locs ++ L) ⟨hg, by rw [e1]; exact hR, xh_back t4 h0 e1 hF hL, t5, by omega, by omega⟩ T' rfl X'
  exact ⟨t2, st t2 a1, b1⟩
theorem xh_call5 {st0 : List Value} {rv : Option Value} {h' : xh_H} {a : Array Value} {mc ms kc1 ks1 : Nat} (hr : va_Run5 p l e R s m args below meth c H locs cells slots mc ms (F0 m pc ls st0) rest (fun st oc t => oc = .returned rv ∧ h'.2.2 = h.2.2 ∧ xh_Rep D h' t.heap ∧ va_F (xh_A h.2.2) st t) (xh_A h.2.2)) (hS : xh_T D g s R h H locs cells slots (mc + kc1) (ms + ks1))
    (kk : ∀ (H1 : Heap) (locs1 : List Loc), xh_T D g s R h' H1 locs1 (cells + mc) (slots + ms) kc1 ks1 → W p l e R s m args below meth c H1 locs1 (cells + mc) (slots + ms) Q (F0 m (pc + 5) ls (rv.toList ++ rest))) : W p l e R s m args below meth c H locs cells slots Q (F0 m pc ls st0) := by
  obtain ⟨t1, t2, t4, t5, t6, t7⟩ := hS
  intro T hT X
  obtain ⟨v, st₀, t, T', L, h0, X', hL, e1, e2, ⟨hv, hg, hR, hF⟩, st⟩ := hr T hT X
  cases hv
  rw [t1] at hF hL hg
  obtain ⟨t2, a1, b1⟩ := kk T'.heap (locs ++ L) ⟨hg, by rw [e1]; exact hR, xh_back t4 h0 e1 hF hL, t5, by omega, by omega⟩ T' rfl X'
  exact ⟨t2, st t2 a1, b1⟩
theorem xh_blind {av : List Value} : FrameBlind (va_Pc av (fun U => xh_K D h.2.2 U ∧ xh_Rep D h U.heap)) := fun a U g mk q => ⟨q.1, q.2.1.blind g mk a, q.2.2⟩
theorem xh_pre (C : xh_C cc nL own D g p s m args meth c) (hS : xh_T D g s R h H locs cells slots kc ks) {av : List Value} : ∀ U : State, U.heap = H → s.WarmedH U.vm → va_Pc av (fun U => xh_K D h.2.2 U ∧ xh_Rep D h U.heap) av.toArray U := by
  intro U hU hW
  refine ⟨rfl, ?_, by rw [hU]; exact hS.2.1⟩
  rw [hS.1]
  exact C.2.2.2.2.2.1.next hS.2.2.1 hW hU
theorem xh_fix (C : xh_C cc nL own D g p s m args meth c) : CallFix p m c cc nL s args lw_all own := ⟨C.1, C.2.1, C.2.2.1, C.2.2.2.1, C.2.2.2.2.1⟩
theorem xb_chk {h : xh_H} {r : Option Nat} {c : Nat} {u : Unit} (e : xh_chk h r c = some u) : ∃ a fs, r = some a ∧ h.1 a = some (.inr (.inr (c, fs))) := by
  obtain ⟨fs, e4, -⟩ := Option.map_eq_some_iff.mp e
  obtain ⟨a, e5, ha⟩ := xb_ob e4
  exact ⟨a, fs, e5, ha⟩
/-- a call through an object: what is asked of the tables (cw), of the room (rm) -/
theorem xr_V {ρ : Type} {V : ρ → Option Value} (C : xh_C cc nL own D g p s m args meth c) (hS : xh_T D g s R h H locs cells slots kc ks) {ci N : Nat} {Cn : String} {T : u_T} {ty : Nat → FieldType} (kf : xh_F ci Cn T N ty) {y : MethodName} {bytes : ByteArray} {maxL n index fr lo : Nat} {ret : Option FieldType} (hG : GoodIn lw_all (wsV own index Cn y (ws_ y bytes maxL ret)))
    (hd : y.cls = Cn ∧ y.cls ≠ "java/lang/invoke/MethodHandle" ∧ y.cls ≠ "java/lang/invoke/VarHandle" ∧ (parseMethodDescriptor y.desc).map (fun d => d.parameters.length) = some n) (hR : fr + 1 ≤ R.frames ∧ 8 + (maxL + 11) + lo ≤ R.locals) {r : Option Nat} {As : List Value} (hn : As.length = n) (hsize : ls.size = nL) {st0 : List Value} (hstack : st0 = As.reverse ++ va_rf r :: rest) (hrest : (rest.map fun v => v.category).sum ≤ 8)
    {fc : xh_R ρ} {F : ρ → xh_H → xh_R ω} {x : ω} {hF : xh_H} (hf : (xh_chk h r ci).bind (fun _ => xh_cal fc F) = some (x, hF, kc, ks)) (hM : ∀ (v : ρ) (h1 : xh_H) (k1 n1 : Nat), fc = some (v, h1, k1, n1) → xh_Ct l D y (ws_ y bytes maxL ret) fr lo (va_rf r :: As) h (V v) h1 k1 n1)
    (hdg : decode cc pc = .ok (.invokevirtual index, 3))
    (kk : ∀ (v : ρ) (h1 : xh_H) (H1 : Heap) (locs1 : List Loc) (cells1 slots1 kc1 ks1 : Nat), xh_T D g s R h1 H1 locs1 cells1 slots1 kc1 ks1 → F v h1 = some (x, hF, kc1, ks1) → W p l e R s m args below meth c H1 locs1 cells1 slots1 Q (F0 m (pc + 3) ls ((V v).toList ++ rest))) : W p l e R s m args below meth c H locs cells slots Q (F0 m pc ls st0) := by
  obtain ⟨u, e1, e2⟩ := xb_some hf
  obtain ⟨a, fs, rfl, ha⟩ := xb_chk e1
  obtain ⟨v, h1, k1, n1, kc1, ks1, e3, e4, rfl, rfl⟩ := xb_cal e2
  have hrm : cells + k1 ≤ R.cells ∧ slots + n1 ≤ R.slots := ⟨by have := hS.2.2.2.2.1; omega, by have := hS.2.2.2.2.2; omega⟩
  refine xh_call (va_runV (As := As) (rest := rest) (xh_fix C) (hM v h1 k1 n1 e3) (cwV n C.2.2.2.2.1 hG rfl rfl rfl hd hR) ⟨xh_blind, xb_obj C hS kf ha, xh_pre C hS⟩ rfl hn hsize hstack (lv_room hrest) hdg hrm) hS (a := #[]) fun H1 locs1 hS1 => kk v h1 H1 locs1 _ _ kc1 ks1 hS1 e4
theorem xr_I {ρ : Type} (C : xh_C cc nL own D g p s m args meth c) (hS : xh_T D g s R h H locs cells slots kc ks) {y : MethodName} {bytes : ByteArray} {maxL n index fr lo : Nat} (q1 : Cond.methodLink own index y ∈ lw_all) (q2 : Cond.instanceMethod y ∈ lw_all) (q3 : Cond.initialized y.cls ∈ lw_all) (q4 : Cond.code y bytes maxL none ∈ lw_all) (hy1 : y.name = "<init>")
    (hd : y.cls ≠ "java/lang/invoke/MethodHandle" ∧ y.cls ≠ "java/lang/invoke/VarHandle" ∧ (parseMethodDescriptor y.desc).map (fun d => d.parameters.length) = some n) (hR : fr + 1 ≤ R.frames ∧ 8 + (maxL + 11) + lo ≤ R.locals) {r : Option Nat} {As : List Value} (hn : As.length = n) (hsize : ls.size = nL) {st0 : List Value} (hstack : st0 = As.reverse ++ va_rf r :: rest) (hrest : (rest.map fun v => v.category).sum ≤ 8) {ci : Nat}
    {fc : xh_R ρ} {F : ρ → xh_H → xh_R ω} {x : ω} {hF : xh_H} (hf : (xh_chk h r ci).bind (fun _ => xh_cal fc F) = some (x, hF, kc, ks)) (hM : ∀ (v : ρ) (h1 : xh_H) (k1 n1 : Nat), fc = some (v, h1, k1, n1) → xh_Ct l D y (ws_ y bytes maxL none) fr lo (va_rf r :: As) h none h1 k1 n1)
    (hdg : decode cc pc = .ok (.invokespecial index, 3))
    (kk : ∀ (v : ρ) (h1 : xh_H) (H1 : Heap) (locs1 : List Loc) (cells1 slots1 kc1 ks1 : Nat), xh_T D g s R h1 H1 locs1 cells1 slots1 kc1 ks1 → F v h1 = some (x, hF, kc1, ks1) → W p l e R s m args below meth c H1 locs1 cells1 slots1 Q (F0 m (pc + 3) ls rest)) : W p l e R s m args below meth c H locs cells slots Q (F0 m pc ls st0) := by
  obtain ⟨u, e1, e2⟩ := xb_some hf
  obtain ⟨a, fs, rfl, ha⟩ := xb_chk e1
  obtain ⟨v, h1, k1, n1, kc1, ks1, e3, e4, rfl, rfl⟩ := xb_cal e2
  have hts := C.2.2.2.2.1
  have hrm : cells + k1 ≤ R.cells ∧ slots + n1 ≤ R.slots := ⟨by have := hS.2.2.2.2.1; omega, by have := hS.2.2.2.2.2; omega⟩
  refine xh_call (va_runI (As := As) (rest := rest) (xh_fix C) (hM v h1 k1 n1 e3) (cwI n hts (lw_meth q4) rfl rfl rfl (hts _ q3) (hts _ q1) (hts _ q2) hy1 hd hR) ⟨xh_blind, xh_pre C hS⟩ rfl hn hsize hstack (lv_room hrest) hdg hrm) hS (a := #[]) fun H1 locs1 hS1 => kk v h1 H1 locs1 _ _ kc1 ks1 hS1 e4
theorem xr_IN {ρ : Type} {host : String} (C : xh_C cc nL own D g p s m args meth c) (hS : xh_T D g s R h H locs cells slots kc ks) {y : MethodName} {bytes : ByteArray} {maxL n index fr lo : Nat} (q1 : (own, index, y, host) ∈ xh_nwM) (q2 : Cond.instanceMethod y ∈ lw_all) (q3 : Cond.initialized y.cls ∈ lw_all) (q4 : Cond.code y bytes maxL none ∈ lw_all) (hy1 : y.name = "<init>")
    (hd : y.cls ≠ "java/lang/invoke/MethodHandle" ∧ y.cls ≠ "java/lang/invoke/VarHandle" ∧ (parseMethodDescriptor y.desc).map (fun d => d.parameters.length) = some n) (hR : fr + 1 ≤ R.frames ∧ 8 + (maxL + 11) + lo ≤ R.locals) {r : Option Nat} {As : List Value} (hn : As.length = n) (hsize : ls.size = nL) {st0 : List Value} (hstack : st0 = As.reverse ++ va_rf r :: rest) (hrest : (rest.map fun v => v.category).sum ≤ 8) {ci : Nat}
    {fc : xh_R ρ} {F : ρ → xh_H → xh_R ω} {x : ω} {hF : xh_H} (hf : (xh_chk h r ci).bind (fun _ => xh_cal fc F) = some (x, hF, kc, ks)) (hM : ∀ (v : ρ) (h1 : xh_H) (k1 n1 : Nat), fc = some (v, h1, k1, n1) → xh_Ct l D y (ws_ y bytes maxL none) fr lo (va_rf r :: As) h none h1 k1 n1)
    (hdg : decode cc pc = .ok (.invokespecial index, 3))
    (kk : ∀ (v : ρ) (h1 : xh_H) (H1 : Heap) (locs1 : List Loc) (cells1 slots1 kc1 ks1 : Nat), xh_T D g s R h1 H1 locs1 cells1 slots1 kc1 ks1 → F v h1 = some (x, hF, kc1, ks1) → W p l e R s m args below meth c H1 locs1 cells1 slots1 Q (F0 m (pc + 3) ls rest)) : W p l e R s m args below meth c H locs cells slots Q (F0 m pc ls st0) := by
  obtain ⟨u, e1, e2⟩ := xb_some hf
  obtain ⟨a, fs, rfl, ha⟩ := xb_chk e1
  obtain ⟨v, h1, k1, n1, kc1, ks1, e3, e4, rfl, rfl⟩ := xb_cal e2
  have hts := C.2.2.2.2.1
  have hrm : cells + k1 ≤ R.cells ∧ slots + n1 ≤ R.slots := ⟨by have := hS.2.2.2.2.1; omega, by have := hS.2.2.2.2.2; omega⟩
  refine xh_call (va_runIN (As := As) (rest := rest) (xh_fix C) (hM v h1 k1 n1 e3) ⟨va_cnB n hts (lw_meth q4) rfl rfl rfl (C.2.2.2.2.2.1.2.2.1 _ q1) (hts _ q3) hd hR, hy1, hts _ q2⟩ ⟨xh_blind, xh_pre C hS⟩ rfl hn hsize hstack (lv_room hrest) hdg hrm) hS (a := #[]) fun H1 locs1 hS1 => kk v h1 H1 locs1 _ _ kc1 ks1 hS1 e4
theorem xr_VN {ρ : Type} {V : ρ → Option Value} {host : String} (C : xh_C cc nL own D g p s m args meth c) (hS : xh_T D g s R h H locs cells slots kc ks) {ci N : Nat} {Cn : String} {T : u_T} {ty : Nat → FieldType} (kf : xh_F ci Cn T N ty) {y : MethodName} {bytes : ByteArray} {maxL n index fr lo : Nat} {ret : Option FieldType} (q1 : (own, index, y, host) ∈ xh_nwM) (q2 : Cond.instanceMethod y ∈ lw_all) (qs : Cond.selects Cn y y ∈ lw_all) (q3 : Cond.initialized y.cls ∈ lw_all) (q4 : Cond.code y bytes maxL ret ∈ lw_all)
    (hd : y.cls ≠ "java/lang/invoke/MethodHandle" ∧ y.cls ≠ "java/lang/invoke/VarHandle" ∧ (parseMethodDescriptor y.desc).map (fun d => d.parameters.length) = some n) (hR : fr + 1 ≤ R.frames ∧ 8 + (maxL + 11) + lo ≤ R.locals) {r : Option Nat} {As : List Value} (hn : As.length = n) (hsize : ls.size = nL) {st0 : List Value} (hstack : st0 = As.reverse ++ va_rf r :: rest) (hrest : (rest.map fun v => v.category).sum ≤ 8)
    {fc : xh_R ρ} {F : ρ → xh_H → xh_R ω} {x : ω} {hF : xh_H} (hf : (xh_chk h r ci).bind (fun _ => xh_cal fc F) = some (x, hF, kc, ks)) (hM : ∀ (v : ρ) (h1 : xh_H) (k1 n1 : Nat), fc = some (v, h1, k1, n1) → xh_Ct l D y (ws_ y bytes maxL ret) fr lo (va_rf r :: As) h (V v) h1 k1 n1)
    (hdg : decode cc pc = .ok (.invokevirtual index, 3))
    (kk : ∀ (v : ρ) (h1 : xh_H) (H1 : Heap) (locs1 : List Loc) (cells1 slots1 kc1 ks1 : Nat), xh_T D g s R h1 H1 locs1 cells1 slots1 kc1 ks1 → F v h1 = some (x, hF, kc1, ks1) → W p l e R s m args below meth c H1 locs1 cells1 slots1 Q (F0 m (pc + 3) ls ((V v).toList ++ rest))) : W p l e R s m args below meth c H locs cells slots Q (F0 m pc ls st0) := by
  obtain ⟨u, e1, e2⟩ := xb_some hf
  obtain ⟨a, fs, rfl, ha⟩ := xb_chk e1
  obtain ⟨v, h1, k1, n1, kc1, ks1, e3, e4, rfl, rfl⟩ := xb_cal e2
  have hts := C.2.2.2.2.1
  have hrm : cells + k1 ≤ R.cells ∧ slots + n1 ≤ R.slots := ⟨by have := hS.2.2.2.2.1; omega, by have := hS.2.2.2.2.2; omega⟩
  refine xh_call (va_runVN (As := As) (rest := rest) (xh_fix C) (hM v h1 k1 n1 e3) ⟨va_cnB n hts (lw_meth q4) rfl rfl rfl (C.2.2.2.2.2.1.2.2.1 _ q1) (hts _ q3) hd hR, hts _ q2, hts _ qs⟩ ⟨xh_blind, xb_obj C hS kf ha, xh_pre C hS⟩ rfl hn hsize hstack (lv_room hrest) hdg hrm) hS (a := #[]) fun H1 locs1 hS1 => kk v h1 H1 locs1 _ _ kc1 ks1 hS1 e4
theorem xr_S {ρ : Type} {V : ρ → Option Value} (C : xh_C cc nL own D g p s m args meth c) (hS : xh_T D g s R h H locs cells slots kc ks) {y : MethodName} {bytes : ByteArray} {maxL n index fr lo : Nat} {ret : Option FieldType} (hG : GoodIn lw_all (va_wsS own index y (ws_ y bytes maxL ret)))
    (hd : y.cls ≠ "java/lang/invoke/MethodHandle" ∧ y.cls ≠ "java/lang/invoke/VarHandle" ∧ (parseMethodDescriptor y.desc).map (fun d => d.parameters.length) = some n) (hR : fr + 1 ≤ R.frames ∧ 8 + (maxL + 11) + lo ≤ R.locals) {As : List Value} (hn : As.length = n) (hsize : ls.size = nL) {st0 : List Value} (hstack : st0 = As.reverse ++ rest) (hrest : (rest.map fun v => v.category).sum ≤ 8)
    {fc : xh_R ρ} {F : ρ → xh_H → xh_R ω} {x : ω} {hF : xh_H} (hf : xh_cal fc F = some (x, hF, kc, ks)) (hM : ∀ (v : ρ) (h1 : xh_H) (k1 n1 : Nat), fc = some (v, h1, k1, n1) → xh_Ct l D y (ws_ y bytes maxL ret) fr lo As h (V v) h1 k1 n1)
    (hdg : decode cc pc = .ok (.invokestatic index, 3))
    (kk : ∀ (v : ρ) (h1 : xh_H) (H1 : Heap) (locs1 : List Loc) (cells1 slots1 kc1 ks1 : Nat), xh_T D g s R h1 H1 locs1 cells1 slots1 kc1 ks1 → F v h1 = some (x, hF, kc1, ks1) → W p l e R s m args below meth c H1 locs1 cells1 slots1 Q (F0 m (pc + 3) ls ((V v).toList ++ rest))) : W p l e R s m args below meth c H locs cells slots Q (F0 m pc ls st0) := by
  obtain ⟨v, h1, k1, n1, kc1, ks1, e3, e4, rfl, rfl⟩ := xb_cal hf
  have hrm : cells + k1 ≤ R.cells ∧ slots + n1 ≤ R.slots := ⟨by have := hS.2.2.2.2.1; omega, by have := hS.2.2.2.2.2; omega⟩
  refine xh_call (va_runS (As := As) (rest := rest) (xh_fix C) (hM v h1 k1 n1 e3) (va_cwS n C.2.2.2.2.1 hG rfl rfl rfl hd hR) ⟨xh_blind, xh_pre C hS⟩ rfl hn hsize hstack (lv_room hrest) hdg hrm) hS (a := #[]) fun H1 locs1 hS1 => kk v h1 H1 locs1 _ _ kc1 ks1 hS1 e4
theorem xr_SN {ρ : Type} {V : ρ → Option Value} {host : String} (C : xh_C cc nL own D g p s m args meth c) (hS : xh_T D g s R h H locs cells slots kc ks) {y : MethodName} {bytes : ByteArray} {maxL n index fr lo : Nat} {ret : Option FieldType} (q1 : (own, index, y, host) ∈ xh_nwM) (q2 : Cond.static y ∈ lw_all) (q3 : Cond.initialized y.cls ∈ lw_all) (q4 : Cond.code y bytes maxL ret ∈ lw_all)
    (hd : y.cls ≠ "java/lang/invoke/MethodHandle" ∧ y.cls ≠ "java/lang/invoke/VarHandle" ∧ (parseMethodDescriptor y.desc).map (fun d => d.parameters.length) = some n) (hR : fr + 1 ≤ R.frames ∧ 8 + (maxL + 11) + lo ≤ R.locals) {As : List Value} (hn : As.length = n) (hsize : ls.size = nL) {st0 : List Value} (hstack : st0 = As.reverse ++ rest) (hrest : (rest.map fun v => v.category).sum ≤ 8)
    {fc : xh_R ρ} {F : ρ → xh_H → xh_R ω} {x : ω} {hF : xh_H} (hf : xh_cal fc F = some (x, hF, kc, ks)) (hM : ∀ (v : ρ) (h1 : xh_H) (k1 n1 : Nat), fc = some (v, h1, k1, n1) → xh_Ct l D y (ws_ y bytes maxL ret) fr lo As h (V v) h1 k1 n1)
    (hdg : decode cc pc = .ok (.invokestatic index, 3))
    (kk : ∀ (v : ρ) (h1 : xh_H) (H1 : Heap) (locs1 : List Loc) (cells1 slots1 kc1 ks1 : Nat), xh_T D g s R h1 H1 locs1 cells1 slots1 kc1 ks1 → F v h1 = some (x, hF, kc1, ks1) → W p l e R s m args below meth c H1 locs1 cells1 slots1 Q (F0 m (pc + 3) ls ((V v).toList ++ rest))) : W p l e R s m args below meth c H locs cells slots Q (F0 m pc ls st0) := by
  obtain ⟨v, h1, k1, n1, kc1, ks1, e3, e4, rfl, rfl⟩ := xb_cal hf
  have hts := C.2.2.2.2.1
  have hrm : cells + k1 ≤ R.cells ∧ slots + n1 ≤ R.slots := ⟨by have := hS.2.2.2.2.1; omega, by have := hS.2.2.2.2.2; omega⟩
  refine xh_call (va_runSN (As := As) (rest := rest) (xh_fix C) (hM v h1 k1 n1 e3) ⟨va_cnB n hts (lw_meth q4) rfl rfl rfl (C.2.2.2.2.2.1.2.2.1 _ q1) (hts _ q3) hd hR, hts _ q2, trivial⟩ ⟨xh_blind, xh_pre C hS⟩ rfl hn hsize hstack (lv_room hrest) hdg hrm) hS (a := #[]) fun H1 locs1 hS1 => kk v h1 H1 locs1 _ _ kc1 ks1 hS1 e4
theorem xr_F {ρ : Type} {V : ρ → Option Value} (C : xh_C cc nL own D g p s m args meth c) (hS : xh_T D g s R h H locs cells slots kc ks) {ci N : Nat} {Cn : String} {T : u_T} {ty : Nat → FieldType} (kf : xh_F ci Cn T N ty) {x0 y : MethodName} {bytes : ByteArray} {maxL n index count fr lo : Nat} {ret : Option FieldType} (q1 : Cond.methodLink own index x0 ∈ lw_all) (q2 : Cond.selects Cn x0 y ∈ lw_all) (q3 : Cond.instanceMethod y ∈ lw_all) (q4 : Cond.initialized y.cls ∈ lw_all) (q5 : Cond.code y bytes maxL ret ∈ lw_all) (q6 : (Cn, x0, y) ∈ xh_nwI)
    (hd : x0.cls ≠ "java/lang/invoke/MethodHandle" ∧ x0.cls ≠ "java/lang/invoke/VarHandle" ∧ (parseMethodDescriptor x0.desc).map (fun d => d.parameters.length) = some n) (hR : fr + 1 ≤ R.frames ∧ 8 + (maxL + 11) + lo ≤ R.locals) {r : Option Nat} {As : List Value} (hn : As.length = n) (hsize : ls.size = nL) {st0 : List Value} (hstack : st0 = As.reverse ++ va_rf r :: rest) (hrest : (rest.map fun v => v.category).sum ≤ 8)
    {fc : xh_R ρ} {F : ρ → xh_H → xh_R ω} {x : ω} {hF : xh_H} (hf : (xh_chk h r ci).bind (fun _ => xh_cal fc F) = some (x, hF, kc, ks)) (hM : ∀ (v : ρ) (h1 : xh_H) (k1 n1 : Nat), fc = some (v, h1, k1, n1) → xh_Ct l D y (ws_ y bytes maxL ret) fr lo (va_rf r :: As) h (V v) h1 k1 n1)
    (hdg : decode cc pc = .ok (.invokeinterface index count, 5))
    (kk : ∀ (v : ρ) (h1 : xh_H) (H1 : Heap) (locs1 : List Loc) (cells1 slots1 kc1 ks1 : Nat), xh_T D g s R h1 H1 locs1 cells1 slots1 kc1 ks1 → F v h1 = some (x, hF, kc1, ks1) → W p l e R s m args below meth c H1 locs1 cells1 slots1 Q (F0 m (pc + 5) ls ((V v).toList ++ rest))) : W p l e R s m args below meth c H locs cells slots Q (F0 m pc ls st0) := by
  obtain ⟨u, e1, e2⟩ := xb_some hf
  obtain ⟨a, fs, rfl, ha⟩ := xb_chk e1
  obtain ⟨v, h1, k1, n1, kc1, ks1, e3, e4, rfl, rfl⟩ := xb_cal e2
  have hts := C.2.2.2.2.1
  have hK := C.2.2.2.2.2.1
  have hrm : cells + k1 ≤ R.cells ∧ slots + n1 ≤ R.slots := ⟨by have := hS.2.2.2.2.1; omega, by have := hS.2.2.2.2.2; omega⟩
  have hG : GoodIn lw_all (va_wsF own index Cn x0 y (ws_ y bytes maxL ret)) := by
    refine lw_app ?_ (lw_meth q5)
    intro w hw
    simp only [List.mem_cons, List.not_mem_nil, or_false] at hw
    rcases hw with e | e | e | e
    · rw [e]; exact q1
    · rw [e]; exact q2
    · rw [e]; exact q3
    · rw [e]; exact q4
  refine xh_call5 (va_runF (As := As) (rest := rest) (hK.1.1 ci _ kf.1).2 (xh_fix C) (hM v h1 k1 n1 e3) (va_cwF n hts hG rfl rfl rfl (hK.2.2.2.2.2.1 _ q6) hd hR) ⟨xh_blind, xb_obj C hS kf ha, xh_pre C hS⟩ rfl hn hsize hstack (lv_room hrest) hdg hrm) hS (a := #[]) fun H1 locs1 hS1 => kk v h1 H1 locs1 _ _ kc1 ks1 hS1 e4
/-! ends -/
theorem xb_end {ρ : Type} {v x : ρ} {h h' : xh_H} {kc ks : Nat} (hf : some (v, h, 0, 0) = some (x, h', kc, ks)) : v = x ∧ h = h' ∧ kc = 0 ∧ ks = 0 := by
  cases hf
  exact ⟨rfl, rfl, rfl, rfl⟩
abbrev xh_Q (D : xh_D) (g : Nat → Nat) (rv : Option Value) (hF : xh_H) : Array Value → State → Outcome → State → Prop := fun _ st oc t => oc = .returned rv ∧ hF.2.2 = g ∧ xh_Rep D hF t.heap ∧ va_F (xh_A g) st t
theorem xr_end {rv : Option Value} (hS : xh_T D g s R h H locs cells slots 0 0) : cells = R.cells ∧ slots = R.slots ∧ (∀ t : State, t.heap = H → s.WarmedH t.vm → xh_Q D g rv h args s (.returned rv) t) ∧ ∀ q ∈ locs, xh_A g q.base := by
  obtain ⟨t1, t2, t4, t5, t6, t7⟩ := hS
  exact ⟨t6, t7, fun t ht hW => ⟨rfl, t1, by rw [ht]; exact t2, t4.F ht⟩, t4.2.2⟩
theorem xr_iret (C : xh_C cc nL own D g p s m args meth c) (hS : xh_T D g s R h H locs cells slots kc ks) (hr : meth.sig.returnType = some .int) {v x : Int32} {hF : xh_H} (hf : some (v, h, 0, 0) = some (x, hF, kc, ks)) (hdg : decode cc pc = .ok (.ireturn, 1)) : W p l e R s m args below meth c H locs cells slots (MQ below (xh_Q D g (some (.int x)) hF) args s R.cells R.slots (xh_A g)) (F0 m pc ls [.int v]) := by
  obtain ⟨rfl, rfl, rfl, rfl⟩ := xb_end hf
  obtain ⟨e1, e2, hq, hl⟩ := xr_end (args := args) (rv := some (.int v)) hS
  rw [← e1, ← e2]
  exact W.iret C.1 C.2.1 hr hq hl hdg (hlocks := C.2.2.2.2.2.2)
theorem xr_zret (C : xh_C cc nL own D g p s m args meth c) (hS : xh_T D g s R h H locs cells slots kc ks) (hr : meth.sig.returnType = some .boolean) {v x : Int32} {hF : xh_H} (hf : (if v = 0 ∨ v = 1 then some (v, h, 0, 0) else none) = some (x, hF, kc, ks)) (hdg : decode cc pc = .ok (.ireturn, 1)) : W p l e R s m args below meth c H locs cells slots (MQ below (xh_Q D g (some (.int x)) hF) args s R.cells R.slots (xh_A g)) (F0 m pc ls [.int v]) := by
  obtain ⟨hv, hf⟩ := xb_if hf
  obtain ⟨rfl, rfl, rfl, rfl⟩ := xb_end hf
  obtain ⟨e1, e2, hq, hl⟩ := xr_end (args := args) (rv := some (.int v)) hS
  rw [← e1, ← e2]
  exact W.zret C.1 C.2.1 hr (xv_bool hv).1 hq hl hdg (hlocks := C.2.2.2.2.2.2)
theorem xr_vret (C : xh_C cc nL own D g p s m args meth c) (hS : xh_T D g s R h H locs cells slots kc ks) (hr : meth.sig.returnType = none) {x : Unit} {hF : xh_H} (hf : some ((), h, 0, 0) = some (x, hF, kc, ks)) (hdg : decode cc pc = .ok (.return_, 1)) : W p l e R s m args below meth c H locs cells slots (MQ below (xh_Q D g none hF) args s R.cells R.slots (xh_A g)) (F0 m pc ls []) := by
  obtain ⟨rfl, rfl, rfl, rfl⟩ := xb_end hf
  obtain ⟨e1, e2, hq, hl⟩ := xr_end (args := args) (rv := none) hS
  rw [← e1, ← e2]
  exact W.vret C.1 C.2.1 hr hq hl hdg (hlocks := C.2.2.2.2.2.2)
theorem xr_aret (C : xh_C cc nL own D g p s m args meth c) (hS : xh_T D g s R h H locs cells slots kc ks) {rt : FieldType} (hr : meth.sig.returnType = some rt) (hrt : (∃ n, rt = .object n) ∨ ∃ t, rt = .array t) {v x : Option Nat} {hF : xh_H} (hf : some (v, h, 0, 0) = some (x, hF, kc, ks)) (hdg : decode cc pc = .ok (.areturn, 1)) : W p l e R s m args below meth c H locs cells slots (MQ below (xh_Q D g (some (va_rf x)) hF) args s R.cells R.slots (xh_A g)) (F0 m pc ls [va_rf v]) := by
  obtain ⟨rfl, rfl, rfl, rfl⟩ := xb_end hf
  obtain ⟨e1, e2, hq, hl⟩ := xr_end (args := args) (rv := some (va_rf v)) hS
  rw [← e1, ← e2]
  exact W.aret C.1 C.2.1 hr hrt (by cases v with | none => exact Or.inl rfl | some a => exact Or.inr ⟨a, rfl⟩) hq hl hdg (hlocks := C.2.2.2.2.2.2)
/-- a method's contract out of the walk of its body -/
theorem xh_meth {y : MethodName} {fr lo maxL : Nat} {ret : Option FieldType} {av : List Value} {rv : Option Value} {hF : xh_H} (l : Launch) (hy : plainName y.cls = true) (hn : av.length ≤ maxL) (hc : ∀ v ∈ av, v.category = 1)
    (body : ∀ (p : Program) (e : Env) (s : State) (m : MethodId) (below : List Frame) (meth : Method) (c : Code) (ls : Array Slot), xh_C cc maxL y.cls D h.2.2 p s m av.toArray meth c → meth.sig.returnType = ret → meth.name = y.name → xh_L ls maxL (xh_en 0 av) → xh_T D h.2.2 s ({ frames := fr, cells := kc, slots := ks, locals := lo }) h s.heap [] 0 0 kc ks →
      W p l e ({ frames := fr, cells := kc, slots := ks, locals := lo }) s m av.toArray below meth c s.heap [] 0 0 (MQ below (xh_Q D h.2.2 rv hF) av.toArray s kc ks (xh_A h.2.2)) (F0 m 0 ls [])) : xh_Ct l D y (ws_ y cc maxL ret) fr lo av h rv hF kc ks := by
  refine Met.ofW (cc := cc) (maxL := maxL) (ret := ret) hy rfl ?_
  intro p e s m args below meth c s₁ B hml hv
  obtain ⟨rfl, hK, hR⟩ := hv
  obtain ⟨ls, e1, hl⟩ := xh_entry m av maxL hc hn
  rw [e1]
  have hts := atoms_spec (ws := ws_ y cc maxL ret) B.pre
  exact body p e s m below meth c ls ⟨B.exec, B.bytes, hml, findClass_of_methodNamed B.named, fun w h => hts w (List.mem_cons_of_mem _ h), hK, B.notSynchronized⟩ B.returns (name_of_methodNamed B.named B.method).1 hl ⟨rfl, hR, va_S.rf, hK.2.2.2.2.2.2.2.2.1, by show 0 + kc = kc; omega, by show 0 + ks = ks; omega⟩
end XS
