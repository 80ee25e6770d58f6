/-! small rows of the printed walks -/
set_option maxRecDepth 100000
theorem xb_pos {α : Type} {P : Prop} [Decidable P] {A B y : α} (c : P) (h : (if P then A else B) = y) : A = y := by rw [if_pos c] at h; exact h
theorem xb_neg {α : Type} {P : Prop} [Decidable P] {A B y : α} (c : ¬ P) (h : (if P then A else B) = y) : B = y := by rw [if_neg c] at h; exact h
theorem xb_nif {α : Type} {P : Prop} [Decidable P] {B : Option α} {y : α} (h : (if P then none else B) = some y) : ¬ P ∧ B = some y := by
  by_cases c : P
  · rw [if_pos c] at h; cases h
  · rw [if_neg c] at h; exact ⟨c, h⟩
theorem xi_inc {x a b : Int32} (h : a = b) : x + a = x + b := by rw [h]
theorem xm_rc {v : Value} {rest : List Value} {k : Nat} (hv : v.category = 1) (h : (rest.map fun v => v.category).sum ≤ k) : ((v :: rest).map fun v => v.category).sum ≤ k + 1 := by
  rw [List.map_cons, List.sum_cons, hv]; omega
theorem xm_r0 {k : Nat} : (([] : List Value).map fun v => v.category).sum ≤ k := Nat.zero_le k
theorem xm_m13 {rest : List Value} {n : Nat} (h : (rest.map fun v => v.category).sum ≤ 8) (h2 : 24 ≤ n) : (rest.map fun v => v.category).sum + 13 ≤ n := by omega
theorem xm_nat {rest : List Value} {n : Nat} (h : (rest.map fun v => v.category).sum ≤ 8) (h2 : 24 ≤ n) : (rest.map fun v => v.category).sum + 14 ≤ n := by omega
theorem xm_cpy {rest : List Value} {n : Nat} (h : (rest.map fun v => v.category).sum ≤ 8) (h2 : 60 ≤ n) : (rest.map fun v => v.category).sum + (nativeFrameWords "java/lang/System" "arraycopy" 5 + 11) ≤ n := by
  have : nativeFrameWords "java/lang/System" "arraycopy" 5 ≤ 40 := by decide +kernel
  omega
section XW
variable {p : Program} {l : Launch} {e : Env} {R : Room} {s : State} {m : MethodId} {args : Array Value} {below : List Frame} {meth : Method} {c : Code} {H : Heap} {locs : List Loc} {cells slots kc ks : Nat} {Q : State → Prop}
variable {cc : ByteArray} {pc nL : Nat} {own : String} {ls : Array Slot} {rest : List Value} {D : xh_D} {g : Nat → Nat} {h : xh_H} {α ω : Type} {out : α}
theorem xr_null (C : xh_C cc nL own D g p s m args meth c) (hdg : decode cc pc = .ok (.aconst_null, 1)) (kk : W p l e R s m args below meth c H locs cells slots Q (F0 m (pc + 1) ls (va_rf none :: rest))) : W p l e R s m args below meth c H locs cells slots Q (F0 m pc ls rest) := lv_null C.1 C.2.1 hdg kk
theorem xr_gsE (C : xh_C cc nL own D g p s m args meth c) (hS : xh_T D g s R h H locs cells slots kc ks) {index : Nat} (hlink : Cond.fieldLink own index "java/util/ArrayList" "DEFAULTCAPACITY_EMPTY_ELEMENTDATA" "[Ljava/lang/Object;" ∈ lw_all) {F : Option Nat → Option α} (hf : (xh_gs h 1).bind F = some out) (hdg : decode cc pc = .ok (.getstatic index, 3))
    (kk : ∀ x : Option Nat, F x = some out → W p l e R s m args below meth c H locs cells slots Q (F0 m (pc + 3) ls (va_rf x :: rest))) : W p l e R s m args below meth c H locs cells slots Q (F0 m pc ls rest) := xr_gs1 C hS hlink hdg (kk _ hf)
theorem xr_ldE (C : xh_C cc nL own D g p s m args meth c) (hS : xh_T D g s R h H locs cells slots kc ks) {index : Nat} (hlink : Cond.classLink own index "[Ljava/lang/Object;" ∈ lw_all) {F : Option Nat → Option α} (hf : (xh_gs h 4).bind F = some out) (hdg : decode cc pc = .ok (.ldc index, 2))
    (kk : ∀ x : Option Nat, F x = some out → W p l e R s m args below meth c H locs cells slots Q (F0 m (pc + 2) ls (va_rf x :: rest))) : W p l e R s m args below meth c H locs cells slots Q (F0 m pc ls rest) := xr_ldM C hS hlink hdg (kk _ hf)
theorem xr_gcE (C : xh_C cc nL own D g p s m args meth c) (hS : xh_T D g s R h H locs cells slots kc ks) {r : Option Nat} {F : Option Nat → Option α} (hf : (xh_cb h r).bind (fun _ => (xh_gs h 4).bind F) = some out) (hml : nL = ls.size) {index : Nat} (hlink : Cond.methodLink own index ⟨"java/lang/Object", "getClass", "()Ljava/lang/Class;"⟩ ∈ lw_all)
    (hsel : Cond.selects "[Ljava/lang/Object;" ⟨"java/lang/Object", "getClass", "()Ljava/lang/Class;"⟩ ⟨"java/lang/Object", "getClass", "()Ljava/lang/Class;"⟩ ∈ lw_all) (hinst : Cond.instanceMethod ⟨"java/lang/Object", "getClass", "()Ljava/lang/Class;"⟩ ∈ lw_all) (hnat : Cond.native ⟨"java/lang/Object", "getClass", "()Ljava/lang/Class;"⟩ ∈ lw_all)
    (hframes : 1 ≤ R.frames) (hlocals : (rest.map fun v => v.category).sum + 14 ≤ R.locals) (hdg : decode cc pc = .ok (.invokevirtual index, 3))
    (kk : ∀ x : Option Nat, F x = some out → W p l e R s m args below meth c H locs cells slots Q (F0 m (pc + 3) ls (va_rf x :: rest))) : W p l e R s m args below meth c H locs cells slots Q (F0 m pc ls (va_rf r :: rest)) := xr_gc C hS hf hml hlink hsel hinst hnat hframes hlocals hdg (fun hf => kk _ hf)
theorem xr_oi (C : xh_C cc nL own D g p s m args meth c) (hS : xh_T D g s R h H locs cells slots kc ks) {index : Nat} (q1 : Cond.methodLink own index Lib.objectInit ∈ lw_all) (q2 : Cond.instanceMethod Lib.objectInit ∈ lw_all) (q3 : Cond.code Lib.objectInit ⟨#[0xb1]⟩ 1 none ∈ lw_all) (hsize : ls.size = nL) (hR : 1 ≤ R.frames ∧ 20 ≤ R.locals) (hrest : (rest.map fun v => v.category).sum ≤ 8) {r : Option Nat} {ci : Nat} {F : Option α} (hf : (xh_chk h r ci).bind (fun _ => F) = some out) (hdg : decode cc pc = .ok (.invokespecial index, 3))
    (kk : F = some out → W p l e R s m args below meth c H locs cells slots Q (F0 m (pc + 3) ls rest)) : W p l e R s m args below meth c H locs cells slots Q (F0 m pc ls (va_rf r :: rest)) := by
  obtain ⟨u, e1, e2⟩ := xb_some hf
  obtain ⟨a, fs, rfl, ha⟩ := xb_chk e1
  have hts := C.2.2.2.2.1
  exact W.objInit C.1 C.2.1 C.2.2.2.1 (hts _ q1) (hts _ q2) (hts _ q3) rfl (by rw [C.2.2.1]; exact hsize) rfl hdg hR.1 (by show 2 * 0 + _ + 12 ≤ _; have := hR.2; omega) (kk e2)
theorem xr_zret1 (C : xh_C cc nL own D g p s m args meth c) (hS : xh_T D g s R h H locs cells slots kc ks) (hr : meth.sig.returnType = some .boolean) {v x : Int32} {hF : xh_H} (hv : v = 0 ∨ v = 1) (hf : some (v, h, 0, 0) = some (x, hF, kc, ks)) (hdg : decode cc pc = .ok (.ireturn, 1)) : W p l e R s m args below meth c H locs cells slots (MQ below (xh_Q D g (some (.int x)) hF) args s R.cells R.slots (xh_A g)) (F0 m pc ls [.int v]) :=
  xr_zret C hS hr (by rw [if_pos hv]; exact hf) hdg
theorem xr_tab {x k : Int32} (hk : x = k) (C : xh_C cc nL own D g p s m args meth c) {dflt lo hi : Int} {offs : Array Int} {len : Nat} {off : Int} {tgt : Nat} (hdg : decode cc pc = .ok (.tableswitch dflt lo hi offs, len)) (h1 : ¬ k.toInt < lo) (h2 : ¬ hi < k.toInt) (ho : offs[(k.toInt - lo).toNat]? = some off) (ht : (pc : Int) + off = (tgt : Int))
    (kk : W p l e R s m args below meth c H locs cells slots Q (F0 m tgt ls rest)) : W p l e R s m args below meth c H locs cells slots Q (F0 m pc ls (.int x :: rest)) := by
  subst hk
  exact lv_tableIn C.1 C.2.1 hdg h1 h2 ho ht kk
theorem xr_mx (C : xh_C cc nL own D g p s m args meth c) (hS : xh_T D g s R h H locs cells slots kc ks) (hml : nL = ls.size) {index : Nat} (hlink : Cond.methodLink own index Lib.Math.max.name ∈ lw_all) (hstat : Cond.static Lib.Math.max.name ∈ lw_all) (hini : Cond.initialized "java/lang/Math" ∈ lw_all) (hcode : Cond.code Lib.Math.max.name Lib.Math.max.code 2 (some .int) ∈ lw_all) (hframes : 1 ≤ R.frames) (hlocals : (rest.map fun v => v.category).sum + 13 ≤ R.locals) {x y : Int32} (hdg : decode cc pc = .ok (.invokestatic index, 3))
    (kk : W p l e R s m args below meth c H locs cells slots Q (F0 m (pc + 3) ls (.int (xh_mx x y) :: rest))) : W p l e R s m args below meth c H locs cells slots Q (F0 m pc ls (.int y :: .int x :: rest)) :=
  va_mmax C.1 C.2.1 (C.2.2.1.trans hml) C.2.2.2.1 (C.2.2.2.2.1 _ hlink) (C.2.2.2.2.1 _ hstat) (C.2.2.2.2.1 _ hini) (C.2.2.2.2.1 _ hcode) hframes hlocals (by have := hS.2.2.2.2.1; omega) (by have := hS.2.2.2.2.2; omega) hdg kk
theorem xr_mn (C : xh_C cc nL own D g p s m args meth c) (hS : xh_T D g s R h H locs cells slots kc ks) (hml : nL = ls.size) {index : Nat} (hlink : Cond.methodLink own index Lib.Math.min.name ∈ lw_all) (hstat : Cond.static Lib.Math.min.name ∈ lw_all) (hini : Cond.initialized "java/lang/Math" ∈ lw_all) (hcode : Cond.code Lib.Math.min.name Lib.Math.min.code 2 (some .int) ∈ lw_all) (hframes : 1 ≤ R.frames) (hlocals : (rest.map fun v => v.category).sum + 13 ≤ R.locals) {x y : Int32} (hdg : decode cc pc = .ok (.invokestatic index, 3))
    (kk : W p l e R s m args below meth c H locs cells slots Q (F0 m (pc + 3) ls (.int (xh_mn x y) :: rest))) : W p l e R s m args below meth c H locs cells slots Q (F0 m pc ls (.int y :: .int x :: rest)) :=
  va_mmin C.1 C.2.1 (C.2.2.1.trans hml) C.2.2.2.1 (C.2.2.2.2.1 _ hlink) (C.2.2.2.2.1 _ hstat) (C.2.2.2.2.1 _ hini) (C.2.2.2.2.1 _ hcode) hframes hlocals (by have := hS.2.2.2.2.1; omega) (by have := hS.2.2.2.2.2; omega) hdg kk
theorem xr_ab (C : xh_C cc nL own D g p s m args meth c) (hS : xh_T D g s R h H locs cells slots kc ks) (hml : nL = ls.size) {index : Nat} (hlink : Cond.methodLink own index Lib.Math.abs.name ∈ lw_all) (hstat : Cond.static Lib.Math.abs.name ∈ lw_all) (hini : Cond.initialized "java/lang/Math" ∈ lw_all) (hcode : Cond.code Lib.Math.abs.name Lib.Math.abs.code 1 (some .int) ∈ lw_all) (hframes : 1 ≤ R.frames) (hlocals : (rest.map fun v => v.category).sum + 13 ≤ R.locals) {x : Int32} (hdg : decode cc pc = .ok (.invokestatic index, 3))
    (kk : W p l e R s m args below meth c H locs cells slots Q (F0 m (pc + 3) ls (.int (xh_ab x) :: rest))) : W p l e R s m args below meth c H locs cells slots Q (F0 m pc ls (.int x :: rest)) :=
  va_mabs C.1 C.2.1 (C.2.2.1.trans hml) C.2.2.2.1 (C.2.2.2.2.1 _ hlink) (C.2.2.2.2.1 _ hstat) (C.2.2.2.2.1 _ hini) (C.2.2.2.2.1 _ hcode) hframes hlocals (by have := hS.2.2.2.2.1; omega) (by have := hS.2.2.2.2.2; omega) hdg kk
end XW
theorem xi_b10 : (Int8.ofInt (10)).toInt32 = 10 := by decide
theorem xi_b100 : (Int8.ofInt (100)).toInt32 = 100 := by decide
theorem xi_b12 : (Int8.ofInt (12)).toInt32 = 12 := by decide
theorem xi_b16 : (Int8.ofInt (16)).toInt32 = 16 := by decide
theorem xi_b32 : (Int8.ofInt (32)).toInt32 = 32 := by decide
theorem xi_b40 : (Int8.ofInt (40)).toInt32 = 40 := by decide
theorem xi_b44 : (Int8.ofInt (44)).toInt32 = 44 := by decide
theorem xi_b45 : (Int8.ofInt (45)).toInt32 = 45 := by decide
theorem xi_b46 : (Int8.ofInt (46)).toInt32 = 46 := by decide
theorem xi_b47 : (Int8.ofInt (47)).toInt32 = 47 := by decide
theorem xi_b48 : (Int8.ofInt (48)).toInt32 = 48 := by decide
theorem xi_b49 : (Int8.ofInt (49)).toInt32 = 49 := by decide
theorem xi_b50 : (Int8.ofInt (50)).toInt32 = 50 := by decide
theorem xi_b57 : (Int8.ofInt (57)).toInt32 = 57 := by decide
theorem xi_b58 : (Int8.ofInt (58)).toInt32 = 58 := by decide
theorem xi_b6 : (Int8.ofInt (6)).toInt32 = 6 := by decide
theorem xi_b60 : (Int8.ofInt (60)).toInt32 = 60 := by decide
theorem xi_b64 : (Int8.ofInt (64)).toInt32 = 64 := by decide
theorem xi_b66 : (Int8.ofInt (66)).toInt32 = 66 := by decide
theorem xi_b8 : (Int8.ofInt (8)).toInt32 = 8 := by decide
theorem xi_b9 : (Int8.ofInt (9)).toInt32 = 9 := by decide
theorem xi_bm100 : (Int8.ofInt (-100)).toInt32 = -100 := by decide
theorem xi_bm2 : (Int8.ofInt (-2)).toInt32 = -2 := by decide
theorem xi_bm3 : (Int8.ofInt (-3)).toInt32 = -3 := by decide
theorem xi_bm32 : (Int8.ofInt (-32)).toInt32 = -32 := by decide
theorem xi_bm5 : (Int8.ofInt (-5)).toInt32 = -5 := by decide
theorem xi_bm60 : (Int8.ofInt (-60)).toInt32 = -60 := by decide
theorem xi_c0 : Int32.ofInt (0) = 0 := by decide
theorem xi_c1 : Int32.ofInt (1) = 1 := by decide
theorem xi_c2 : Int32.ofInt (2) = 2 := by decide
theorem xi_c3 : Int32.ofInt (3) = 3 := by decide
theorem xi_c4 : Int32.ofInt (4) = 4 := by decide
theorem xi_c5 : Int32.ofInt (5) = 5 := by decide
theorem xi_cm1 : Int32.ofInt (-1) = -1 := by decide
theorem xi_s206 : (Int16.ofInt (206)).toInt32 = 206 := by decide
theorem xi_s2418 : (Int16.ofInt (2418)).toInt32 = 2418 := by decide
theorem xi_s3224 : (Int16.ofInt (3224)).toInt32 = 3224 := by decide
theorem xi_s599 : (Int16.ofInt (599)).toInt32 = 599 := by decide
theorem xi_s600 : (Int16.ofInt (600)).toInt32 = 600 := by decide
theorem xi_s806 : (Int16.ofInt (806)).toInt32 = 806 := by decide
theorem xd_X0 : ∀ j, j < 5 → defaultValue (tyX0 j) = vp_V [.null, .null, .null, .null, .int 0] j
  | 0, _ => rfl
  | 1, _ => rfl
  | 2, _ => rfl
  | 3, _ => rfl
  | 4, _ => rfl
  | n + 5, h => absurd h (by omega)
theorem xd_X1 : ∀ j, j < 3 → defaultValue (tyX1 j) = vp_V [.null, .null, .null] j
  | 0, _ => rfl
  | 1, _ => rfl
  | 2, _ => rfl
  | n + 3, h => absurd h (by omega)
theorem xd_X2 : ∀ j, j < 16 → defaultValue (tyX2 j) = vp_V [.null, .null, .int 0, .null, .int 0, .null, .int 0, .null, .null, .null, .null, .null, .null, .int 0, .null, .int 0] j
  | 0, _ => rfl
  | 1, _ => rfl
  | 2, _ => rfl
  | 3, _ => rfl
  | 4, _ => rfl
  | 5, _ => rfl
  | 6, _ => rfl
  | 7, _ => rfl
  | 8, _ => rfl
  | 9, _ => rfl
  | 10, _ => rfl
  | 11, _ => rfl
  | 12, _ => rfl
  | 13, _ => rfl
  | 14, _ => rfl
  | 15, _ => rfl
  | n + 16, h => absurd h (by omega)
theorem xd_X3 : ∀ j, j < 5 → defaultValue (tyX3 j) = vp_V [.int 0, .int 0, .int 0, .int 0, .int 0] j
  | 0, _ => rfl
  | 1, _ => rfl
  | 2, _ => rfl
  | 3, _ => rfl
  | 4, _ => rfl
  | n + 5, h => absurd h (by omega)
theorem xd_X4 : ∀ j, j < 6 → defaultValue (tyX4 j) = vp_V [.null, .null, .null, .null, .null, .int 0] j
  | 0, _ => rfl
  | 1, _ => rfl
  | 2, _ => rfl
  | 3, _ => rfl
  | 4, _ => rfl
  | 5, _ => rfl
  | n + 6, h => absurd h (by omega)
theorem xd_X5 : ∀ j, j < 5 → defaultValue (tyX5 j) = vp_V [.int 0, .int 0, .int 0, .int 0, .int 0] j
  | 0, _ => rfl
  | 1, _ => rfl
  | 2, _ => rfl
  | 3, _ => rfl
  | 4, _ => rfl
  | n + 5, h => absurd h (by omega)
theorem xd_X6 : ∀ j, j < 3 → defaultValue (tyX6 j) = vp_V [.null, .int 0, .null] j
  | 0, _ => rfl
  | 1, _ => rfl
  | 2, _ => rfl
  | n + 3, h => absurd h (by omega)
theorem xd_X7 : ∀ j, j < 7 → defaultValue (tyX7 j) = vp_V [.null, .null, .null, .null, .null, .null, .null] j
  | 0, _ => rfl
  | 1, _ => rfl
  | 2, _ => rfl
  | 3, _ => rfl
  | 4, _ => rfl
  | 5, _ => rfl
  | 6, _ => rfl
  | n + 7, h => absurd h (by omega)
theorem xd_J2 : ∀ j, j < 3 → defaultValue (tyJ2 j) = vp_V [.int 0, .null, .int 0] j
  | 0, _ => rfl
  | 1, _ => rfl
  | 2, _ => rfl
  | n + 3, h => absurd h (by omega)
theorem xd_J3 : ∀ j, j < 4 → defaultValue (tyJ3 j) = vp_V [.int 0, .int 0, .int 0, .null] j
  | 0, _ => rfl
  | 1, _ => rfl
  | 2, _ => rfl
  | 3, _ => rfl
  | n + 4, h => absurd h (by omega)
theorem hd_J0_init : yJ0_init.cls ≠ "java/lang/invoke/MethodHandle" ∧ yJ0_init.cls ≠ "java/lang/invoke/VarHandle" ∧ (parseMethodDescriptor yJ0_init.desc).map (fun d => d.parameters.length) = some 0 := by decide +kernel
theorem hdv_J0_init : yJ0_init.cls = RJ0 ∧ yJ0_init.cls ≠ "java/lang/invoke/MethodHandle" ∧ yJ0_init.cls ≠ "java/lang/invoke/VarHandle" ∧ (parseMethodDescriptor yJ0_init.desc).map (fun d => d.parameters.length) = some 0 := ⟨rfl, hd_J0_init⟩
theorem hd_J1_init : yJ1_init.cls ≠ "java/lang/invoke/MethodHandle" ∧ yJ1_init.cls ≠ "java/lang/invoke/VarHandle" ∧ (parseMethodDescriptor yJ1_init.desc).map (fun d => d.parameters.length) = some 0 := by decide +kernel
theorem hdv_J1_init : yJ1_init.cls = RJ1 ∧ yJ1_init.cls ≠ "java/lang/invoke/MethodHandle" ∧ yJ1_init.cls ≠ "java/lang/invoke/VarHandle" ∧ (parseMethodDescriptor yJ1_init.desc).map (fun d => d.parameters.length) = some 0 := ⟨rfl, hd_J1_init⟩
theorem hd_J2_init : yJ2_init.cls ≠ "java/lang/invoke/MethodHandle" ∧ yJ2_init.cls ≠ "java/lang/invoke/VarHandle" ∧ (parseMethodDescriptor yJ2_init.desc).map (fun d => d.parameters.length) = some 0 := by decide +kernel
theorem hdv_J2_init : yJ2_init.cls = RJ2 ∧ yJ2_init.cls ≠ "java/lang/invoke/MethodHandle" ∧ yJ2_init.cls ≠ "java/lang/invoke/VarHandle" ∧ (parseMethodDescriptor yJ2_init.desc).map (fun d => d.parameters.length) = some 0 := ⟨rfl, hd_J2_init⟩
theorem hd_J3_init : yJ3_init.cls ≠ "java/lang/invoke/MethodHandle" ∧ yJ3_init.cls ≠ "java/lang/invoke/VarHandle" ∧ (parseMethodDescriptor yJ3_init.desc).map (fun d => d.parameters.length) = some 1 := by decide +kernel
theorem hdv_J3_init : yJ3_init.cls = RJ3 ∧ yJ3_init.cls ≠ "java/lang/invoke/MethodHandle" ∧ yJ3_init.cls ≠ "java/lang/invoke/VarHandle" ∧ (parseMethodDescriptor yJ3_init.desc).map (fun d => d.parameters.length) = some 1 := ⟨rfl, hd_J3_init⟩
theorem hd_J2_iterator : yJ2_iterator.cls ≠ "java/lang/invoke/MethodHandle" ∧ yJ2_iterator.cls ≠ "java/lang/invoke/VarHandle" ∧ (parseMethodDescriptor yJ2_iterator.desc).map (fun d => d.parameters.length) = some 0 := by decide +kernel
theorem hdv_J2_iterator : yJ2_iterator.cls = RJ2 ∧ yJ2_iterator.cls ≠ "java/lang/invoke/MethodHandle" ∧ yJ2_iterator.cls ≠ "java/lang/invoke/VarHandle" ∧ (parseMethodDescriptor yJ2_iterator.desc).map (fun d => d.parameters.length) = some 0 := ⟨rfl, hd_J2_iterator⟩
theorem hd_J4_hugeLength : yJ4_hugeLength.cls ≠ "java/lang/invoke/MethodHandle" ∧ yJ4_hugeLength.cls ≠ "java/lang/invoke/VarHandle" ∧ (parseMethodDescriptor yJ4_hugeLength.desc).map (fun d => d.parameters.length) = some 2 := by decide +kernel
theorem hdv_J4_hugeLength : yJ4_hugeLength.cls = RJ4 ∧ yJ4_hugeLength.cls ≠ "java/lang/invoke/MethodHandle" ∧ yJ4_hugeLength.cls ≠ "java/lang/invoke/VarHandle" ∧ (parseMethodDescriptor yJ4_hugeLength.desc).map (fun d => d.parameters.length) = some 2 := ⟨rfl, hd_J4_hugeLength⟩
theorem hd_J4_newLength : yJ4_newLength.cls ≠ "java/lang/invoke/MethodHandle" ∧ yJ4_newLength.cls ≠ "java/lang/invoke/VarHandle" ∧ (parseMethodDescriptor yJ4_newLength.desc).map (fun d => d.parameters.length) = some 3 := by decide +kernel
theorem hdv_J4_newLength : yJ4_newLength.cls = RJ4 ∧ yJ4_newLength.cls ≠ "java/lang/invoke/MethodHandle" ∧ yJ4_newLength.cls ≠ "java/lang/invoke/VarHandle" ∧ (parseMethodDescriptor yJ4_newLength.desc).map (fun d => d.parameters.length) = some 3 := ⟨rfl, hd_J4_newLength⟩
theorem hd_J6_copyOf_2 : yJ6_copyOf_2.cls ≠ "java/lang/invoke/MethodHandle" ∧ yJ6_copyOf_2.cls ≠ "java/lang/invoke/VarHandle" ∧ (parseMethodDescriptor yJ6_copyOf_2.desc).map (fun d => d.parameters.length) = some 3 := by decide +kernel
theorem hdv_J6_copyOf_2 : yJ6_copyOf_2.cls = RJ6 ∧ yJ6_copyOf_2.cls ≠ "java/lang/invoke/MethodHandle" ∧ yJ6_copyOf_2.cls ≠ "java/lang/invoke/VarHandle" ∧ (parseMethodDescriptor yJ6_copyOf_2.desc).map (fun d => d.parameters.length) = some 3 := ⟨rfl, hd_J6_copyOf_2⟩
theorem hd_J6_copyOf : yJ6_copyOf.cls ≠ "java/lang/invoke/MethodHandle" ∧ yJ6_copyOf.cls ≠ "java/lang/invoke/VarHandle" ∧ (parseMethodDescriptor yJ6_copyOf.desc).map (fun d => d.parameters.length) = some 2 := by decide +kernel
theorem hdv_J6_copyOf : yJ6_copyOf.cls = RJ6 ∧ yJ6_copyOf.cls ≠ "java/lang/invoke/MethodHandle" ∧ yJ6_copyOf.cls ≠ "java/lang/invoke/VarHandle" ∧ (parseMethodDescriptor yJ6_copyOf.desc).map (fun d => d.parameters.length) = some 2 := ⟨rfl, hd_J6_copyOf⟩
theorem hd_J2_grow_2 : yJ2_grow_2.cls ≠ "java/lang/invoke/MethodHandle" ∧ yJ2_grow_2.cls ≠ "java/lang/invoke/VarHandle" ∧ (parseMethodDescriptor yJ2_grow_2.desc).map (fun d => d.parameters.length) = some 1 := by decide +kernel
theorem hdv_J2_grow_2 : yJ2_grow_2.cls = RJ2 ∧ yJ2_grow_2.cls ≠ "java/lang/invoke/MethodHandle" ∧ yJ2_grow_2.cls ≠ "java/lang/invoke/VarHandle" ∧ (parseMethodDescriptor yJ2_grow_2.desc).map (fun d => d.parameters.length) = some 1 := ⟨rfl, hd_J2_grow_2⟩
theorem hd_J2_grow : yJ2_grow.cls ≠ "java/lang/invoke/MethodHandle" ∧ yJ2_grow.cls ≠ "java/lang/invoke/VarHandle" ∧ (parseMethodDescriptor yJ2_grow.desc).map (fun d => d.parameters.length) = some 0 := by decide +kernel
theorem hdv_J2_grow : yJ2_grow.cls = RJ2 ∧ yJ2_grow.cls ≠ "java/lang/invoke/MethodHandle" ∧ yJ2_grow.cls ≠ "java/lang/invoke/VarHandle" ∧ (parseMethodDescriptor yJ2_grow.desc).map (fun d => d.parameters.length) = some 0 := ⟨rfl, hd_J2_grow⟩
theorem hd_J2_add_2 : yJ2_add_2.cls ≠ "java/lang/invoke/MethodHandle" ∧ yJ2_add_2.cls ≠ "java/lang/invoke/VarHandle" ∧ (parseMethodDescriptor yJ2_add_2.desc).map (fun d => d.parameters.length) = some 3 := by decide +kernel
theorem hdv_J2_add_2 : yJ2_add_2.cls = RJ2 ∧ yJ2_add_2.cls ≠ "java/lang/invoke/MethodHandle" ∧ yJ2_add_2.cls ≠ "java/lang/invoke/VarHandle" ∧ (parseMethodDescriptor yJ2_add_2.desc).map (fun d => d.parameters.length) = some 3 := ⟨rfl, hd_J2_add_2⟩
theorem hd_J2_add : yJ2_add.cls ≠ "java/lang/invoke/MethodHandle" ∧ yJ2_add.cls ≠ "java/lang/invoke/VarHandle" ∧ (parseMethodDescriptor yJ2_add.desc).map (fun d => d.parameters.length) = some 1 := by decide +kernel
theorem hdv_J2_add : yJ2_add.cls = RJ2 ∧ yJ2_add.cls ≠ "java/lang/invoke/MethodHandle" ∧ yJ2_add.cls ≠ "java/lang/invoke/VarHandle" ∧ (parseMethodDescriptor yJ2_add.desc).map (fun d => d.parameters.length) = some 1 := ⟨rfl, hd_J2_add⟩
theorem hd_J2_isEmpty : yJ2_isEmpty.cls ≠ "java/lang/invoke/MethodHandle" ∧ yJ2_isEmpty.cls ≠ "java/lang/invoke/VarHandle" ∧ (parseMethodDescriptor yJ2_isEmpty.desc).map (fun d => d.parameters.length) = some 0 := by decide +kernel
theorem hdv_J2_isEmpty : yJ2_isEmpty.cls = RJ2 ∧ yJ2_isEmpty.cls ≠ "java/lang/invoke/MethodHandle" ∧ yJ2_isEmpty.cls ≠ "java/lang/invoke/VarHandle" ∧ (parseMethodDescriptor yJ2_isEmpty.desc).map (fun d => d.parameters.length) = some 0 := ⟨rfl, hd_J2_isEmpty⟩
theorem hd_J2_size : yJ2_size.cls ≠ "java/lang/invoke/MethodHandle" ∧ yJ2_size.cls ≠ "java/lang/invoke/VarHandle" ∧ (parseMethodDescriptor yJ2_size.desc).map (fun d => d.parameters.length) = some 0 := by decide +kernel
theorem hdv_J2_size : yJ2_size.cls = RJ2 ∧ yJ2_size.cls ≠ "java/lang/invoke/MethodHandle" ∧ yJ2_size.cls ≠ "java/lang/invoke/VarHandle" ∧ (parseMethodDescriptor yJ2_size.desc).map (fun d => d.parameters.length) = some 0 := ⟨rfl, hd_J2_size⟩
theorem hd_J2_elementData : yJ2_elementData.cls ≠ "java/lang/invoke/MethodHandle" ∧ yJ2_elementData.cls ≠ "java/lang/invoke/VarHandle" ∧ (parseMethodDescriptor yJ2_elementData.desc).map (fun d => d.parameters.length) = some 1 := by decide +kernel
theorem hdv_J2_elementData : yJ2_elementData.cls = RJ2 ∧ yJ2_elementData.cls ≠ "java/lang/invoke/MethodHandle" ∧ yJ2_elementData.cls ≠ "java/lang/invoke/VarHandle" ∧ (parseMethodDescriptor yJ2_elementData.desc).map (fun d => d.parameters.length) = some 1 := ⟨rfl, hd_J2_elementData⟩
theorem hd_J8_checkIndex : yJ8_checkIndex.cls ≠ "java/lang/invoke/MethodHandle" ∧ yJ8_checkIndex.cls ≠ "java/lang/invoke/VarHandle" ∧ (parseMethodDescriptor yJ8_checkIndex.desc).map (fun d => d.parameters.length) = some 3 := by decide +kernel
theorem hdv_J8_checkIndex : yJ8_checkIndex.cls = RJ8 ∧ yJ8_checkIndex.cls ≠ "java/lang/invoke/MethodHandle" ∧ yJ8_checkIndex.cls ≠ "java/lang/invoke/VarHandle" ∧ (parseMethodDescriptor yJ8_checkIndex.desc).map (fun d => d.parameters.length) = some 3 := ⟨rfl, hd_J8_checkIndex⟩
theorem hd_J7_checkIndex : yJ7_checkIndex.cls ≠ "java/lang/invoke/MethodHandle" ∧ yJ7_checkIndex.cls ≠ "java/lang/invoke/VarHandle" ∧ (parseMethodDescriptor yJ7_checkIndex.desc).map (fun d => d.parameters.length) = some 2 := by decide +kernel
theorem hdv_J7_checkIndex : yJ7_checkIndex.cls = RJ7 ∧ yJ7_checkIndex.cls ≠ "java/lang/invoke/MethodHandle" ∧ yJ7_checkIndex.cls ≠ "java/lang/invoke/VarHandle" ∧ (parseMethodDescriptor yJ7_checkIndex.desc).map (fun d => d.parameters.length) = some 2 := ⟨rfl, hd_J7_checkIndex⟩
theorem hd_J2_get : yJ2_get.cls ≠ "java/lang/invoke/MethodHandle" ∧ yJ2_get.cls ≠ "java/lang/invoke/VarHandle" ∧ (parseMethodDescriptor yJ2_get.desc).map (fun d => d.parameters.length) = some 1 := by decide +kernel
theorem hdv_J2_get : yJ2_get.cls = RJ2 ∧ yJ2_get.cls ≠ "java/lang/invoke/MethodHandle" ∧ yJ2_get.cls ≠ "java/lang/invoke/VarHandle" ∧ (parseMethodDescriptor yJ2_get.desc).map (fun d => d.parameters.length) = some 1 := ⟨rfl, hd_J2_get⟩
theorem hd_J2_fastRemove : yJ2_fastRemove.cls ≠ "java/lang/invoke/MethodHandle" ∧ yJ2_fastRemove.cls ≠ "java/lang/invoke/VarHandle" ∧ (parseMethodDescriptor yJ2_fastRemove.desc).map (fun d => d.parameters.length) = some 2 := by decide +kernel
theorem hdv_J2_fastRemove : yJ2_fastRemove.cls = RJ2 ∧ yJ2_fastRemove.cls ≠ "java/lang/invoke/MethodHandle" ∧ yJ2_fastRemove.cls ≠ "java/lang/invoke/VarHandle" ∧ (parseMethodDescriptor yJ2_fastRemove.desc).map (fun d => d.parameters.length) = some 2 := ⟨rfl, hd_J2_fastRemove⟩
theorem hd_J2_remove : yJ2_remove.cls ≠ "java/lang/invoke/MethodHandle" ∧ yJ2_remove.cls ≠ "java/lang/invoke/VarHandle" ∧ (parseMethodDescriptor yJ2_remove.desc).map (fun d => d.parameters.length) = some 1 := by decide +kernel
theorem hdv_J2_remove : yJ2_remove.cls = RJ2 ∧ yJ2_remove.cls ≠ "java/lang/invoke/MethodHandle" ∧ yJ2_remove.cls ≠ "java/lang/invoke/VarHandle" ∧ (parseMethodDescriptor yJ2_remove.desc).map (fun d => d.parameters.length) = some 1 := ⟨rfl, hd_J2_remove⟩
theorem hd_J2_clear : yJ2_clear.cls ≠ "java/lang/invoke/MethodHandle" ∧ yJ2_clear.cls ≠ "java/lang/invoke/VarHandle" ∧ (parseMethodDescriptor yJ2_clear.desc).map (fun d => d.parameters.length) = some 0 := by decide +kernel
theorem hdv_J2_clear : yJ2_clear.cls = RJ2 ∧ yJ2_clear.cls ≠ "java/lang/invoke/MethodHandle" ∧ yJ2_clear.cls ≠ "java/lang/invoke/VarHandle" ∧ (parseMethodDescriptor yJ2_clear.desc).map (fun d => d.parameters.length) = some 0 := ⟨rfl, hd_J2_clear⟩
theorem hd_J3_hasNext : yJ3_hasNext.cls ≠ "java/lang/invoke/MethodHandle" ∧ yJ3_hasNext.cls ≠ "java/lang/invoke/VarHandle" ∧ (parseMethodDescriptor yJ3_hasNext.desc).map (fun d => d.parameters.length) = some 0 := by decide +kernel
theorem hdv_J3_hasNext : yJ3_hasNext.cls = RJ3 ∧ yJ3_hasNext.cls ≠ "java/lang/invoke/MethodHandle" ∧ yJ3_hasNext.cls ≠ "java/lang/invoke/VarHandle" ∧ (parseMethodDescriptor yJ3_hasNext.desc).map (fun d => d.parameters.length) = some 0 := ⟨rfl, hd_J3_hasNext⟩
theorem hd_J3_checkForComodification : yJ3_checkForComodification.cls ≠ "java/lang/invoke/MethodHandle" ∧ yJ3_checkForComodification.cls ≠ "java/lang/invoke/VarHandle" ∧ (parseMethodDescriptor yJ3_checkForComodification.desc).map (fun d => d.parameters.length) = some 0 := by decide +kernel
theorem hdv_J3_checkForComodification : yJ3_checkForComodification.cls = RJ3 ∧ yJ3_checkForComodification.cls ≠ "java/lang/invoke/MethodHandle" ∧ yJ3_checkForComodification.cls ≠ "java/lang/invoke/VarHandle" ∧ (parseMethodDescriptor yJ3_checkForComodification.desc).map (fun d => d.parameters.length) = some 0 := ⟨rfl, hd_J3_checkForComodification⟩
theorem hd_J3_next : yJ3_next.cls ≠ "java/lang/invoke/MethodHandle" ∧ yJ3_next.cls ≠ "java/lang/invoke/VarHandle" ∧ (parseMethodDescriptor yJ3_next.desc).map (fun d => d.parameters.length) = some 0 := by decide +kernel
theorem hdv_J3_next : yJ3_next.cls = RJ3 ∧ yJ3_next.cls ≠ "java/lang/invoke/MethodHandle" ∧ yJ3_next.cls ≠ "java/lang/invoke/VarHandle" ∧ (parseMethodDescriptor yJ3_next.desc).map (fun d => d.parameters.length) = some 0 := ⟨rfl, hd_J3_next⟩
theorem hd_X1_init_2 : yX1_init_2.cls ≠ "java/lang/invoke/MethodHandle" ∧ yX1_init_2.cls ≠ "java/lang/invoke/VarHandle" ∧ (parseMethodDescriptor yX1_init_2.desc).map (fun d => d.parameters.length) = some 2 := by decide +kernel
theorem hdv_X1_init_2 : yX1_init_2.cls = RX1 ∧ yX1_init_2.cls ≠ "java/lang/invoke/MethodHandle" ∧ yX1_init_2.cls ≠ "java/lang/invoke/VarHandle" ∧ (parseMethodDescriptor yX1_init_2.desc).map (fun d => d.parameters.length) = some 2 := ⟨rfl, hd_X1_init_2⟩
theorem hd_X1_init : yX1_init.cls ≠ "java/lang/invoke/MethodHandle" ∧ yX1_init.cls ≠ "java/lang/invoke/VarHandle" ∧ (parseMethodDescriptor yX1_init.desc).map (fun d => d.parameters.length) = some 0 := by decide +kernel
theorem hdv_X1_init : yX1_init.cls = RX1 ∧ yX1_init.cls ≠ "java/lang/invoke/MethodHandle" ∧ yX1_init.cls ≠ "java/lang/invoke/VarHandle" ∧ (parseMethodDescriptor yX1_init.desc).map (fun d => d.parameters.length) = some 0 := ⟨rfl, hd_X1_init⟩
theorem hd_X0_init : yX0_init.cls ≠ "java/lang/invoke/MethodHandle" ∧ yX0_init.cls ≠ "java/lang/invoke/VarHandle" ∧ (parseMethodDescriptor yX0_init.desc).map (fun d => d.parameters.length) = some 0 := by decide +kernel
theorem hdv_X0_init : yX0_init.cls = RX0 ∧ yX0_init.cls ≠ "java/lang/invoke/MethodHandle" ∧ yX0_init.cls ≠ "java/lang/invoke/VarHandle" ∧ (parseMethodDescriptor yX0_init.desc).map (fun d => d.parameters.length) = some 0 := ⟨rfl, hd_X0_init⟩
theorem hd_X0_changed : yX0_changed.cls ≠ "java/lang/invoke/MethodHandle" ∧ yX0_changed.cls ≠ "java/lang/invoke/VarHandle" ∧ (parseMethodDescriptor yX0_changed.desc).map (fun d => d.parameters.length) = some 2 := by decide +kernel
theorem hdv_X0_changed : yX0_changed.cls = RX0 ∧ yX0_changed.cls ≠ "java/lang/invoke/MethodHandle" ∧ yX0_changed.cls ≠ "java/lang/invoke/VarHandle" ∧ (parseMethodDescriptor yX0_changed.desc).map (fun d => d.parameters.length) = some 2 := ⟨rfl, hd_X0_changed⟩
theorem hd_X1_many : yX1_many.cls ≠ "java/lang/invoke/MethodHandle" ∧ yX1_many.cls ≠ "java/lang/invoke/VarHandle" ∧ (parseMethodDescriptor yX1_many.desc).map (fun d => d.parameters.length) = some 0 := by decide +kernel
theorem hdv_X1_many : yX1_many.cls = RX1 ∧ yX1_many.cls ≠ "java/lang/invoke/MethodHandle" ∧ yX1_many.cls ≠ "java/lang/invoke/VarHandle" ∧ (parseMethodDescriptor yX1_many.desc).map (fun d => d.parameters.length) = some 0 := ⟨rfl, hd_X1_many⟩
theorem hd_X5_end : yX5_end.cls ≠ "java/lang/invoke/MethodHandle" ∧ yX5_end.cls ≠ "java/lang/invoke/VarHandle" ∧ (parseMethodDescriptor yX5_end.desc).map (fun d => d.parameters.length) = some 0 := by decide +kernel
theorem hdv_X5_end : yX5_end.cls = RX5 ∧ yX5_end.cls ≠ "java/lang/invoke/MethodHandle" ∧ yX5_end.cls ≠ "java/lang/invoke/VarHandle" ∧ (parseMethodDescriptor yX5_end.desc).map (fun d => d.parameters.length) = some 0 := ⟨rfl, hd_X5_end⟩
theorem hd_X1_end : yX1_end.cls ≠ "java/lang/invoke/MethodHandle" ∧ yX1_end.cls ≠ "java/lang/invoke/VarHandle" ∧ (parseMethodDescriptor yX1_end.desc).map (fun d => d.parameters.length) = some 0 := by decide +kernel
theorem hdv_X1_end : yX1_end.cls = RX1 ∧ yX1_end.cls ≠ "java/lang/invoke/MethodHandle" ∧ yX1_end.cls ≠ "java/lang/invoke/VarHandle" ∧ (parseMethodDescriptor yX1_end.desc).map (fun d => d.parameters.length) = some 0 := ⟨rfl, hd_X1_end⟩
theorem hd_X1_phrases : yX1_phrases.cls ≠ "java/lang/invoke/MethodHandle" ∧ yX1_phrases.cls ≠ "java/lang/invoke/VarHandle" ∧ (parseMethodDescriptor yX1_phrases.desc).map (fun d => d.parameters.length) = some 0 := by decide +kernel
theorem hdv_X1_phrases : yX1_phrases.cls = RX1 ∧ yX1_phrases.cls ≠ "java/lang/invoke/MethodHandle" ∧ yX1_phrases.cls ≠ "java/lang/invoke/VarHandle" ∧ (parseMethodDescriptor yX1_phrases.desc).map (fun d => d.parameters.length) = some 0 := ⟨rfl, hd_X1_phrases⟩
theorem hd_X5_init : yX5_init.cls ≠ "java/lang/invoke/MethodHandle" ∧ yX5_init.cls ≠ "java/lang/invoke/VarHandle" ∧ (parseMethodDescriptor yX5_init.desc).map (fun d => d.parameters.length) = some 5 := by decide +kernel
theorem hdv_X5_init : yX5_init.cls = RX5 ∧ yX5_init.cls ≠ "java/lang/invoke/MethodHandle" ∧ yX5_init.cls ≠ "java/lang/invoke/VarHandle" ∧ (parseMethodDescriptor yX5_init.desc).map (fun d => d.parameters.length) = some 5 := ⟨rfl, hd_X5_init⟩
theorem hd_X1_add : yX1_add.cls ≠ "java/lang/invoke/MethodHandle" ∧ yX1_add.cls ≠ "java/lang/invoke/VarHandle" ∧ (parseMethodDescriptor yX1_add.desc).map (fun d => d.parameters.length) = some 1 := by decide +kernel
theorem hdv_X1_add : yX1_add.cls = RX1 ∧ yX1_add.cls ≠ "java/lang/invoke/MethodHandle" ∧ yX1_add.cls ≠ "java/lang/invoke/VarHandle" ∧ (parseMethodDescriptor yX1_add.desc).map (fun d => d.parameters.length) = some 1 := ⟨rfl, hd_X1_add⟩
theorem hd_X1_copy : yX1_copy.cls ≠ "java/lang/invoke/MethodHandle" ∧ yX1_copy.cls ≠ "java/lang/invoke/VarHandle" ∧ (parseMethodDescriptor yX1_copy.desc).map (fun d => d.parameters.length) = some 0 := by decide +kernel
theorem hdv_X1_copy : yX1_copy.cls = RX1 ∧ yX1_copy.cls ≠ "java/lang/invoke/MethodHandle" ∧ yX1_copy.cls ≠ "java/lang/invoke/VarHandle" ∧ (parseMethodDescriptor yX1_copy.desc).map (fun d => d.parameters.length) = some 0 := ⟨rfl, hd_X1_copy⟩
theorem hd_X3_init : yX3_init.cls ≠ "java/lang/invoke/MethodHandle" ∧ yX3_init.cls ≠ "java/lang/invoke/VarHandle" ∧ (parseMethodDescriptor yX3_init.desc).map (fun d => d.parameters.length) = some 5 := by decide +kernel
theorem hdv_X3_init : yX3_init.cls = RX3 ∧ yX3_init.cls ≠ "java/lang/invoke/MethodHandle" ∧ yX3_init.cls ≠ "java/lang/invoke/VarHandle" ∧ (parseMethodDescriptor yX3_init.desc).map (fun d => d.parameters.length) = some 5 := ⟨rfl, hd_X3_init⟩
theorem hd_X0_isBetween : yX0_isBetween.cls ≠ "java/lang/invoke/MethodHandle" ∧ yX0_isBetween.cls ≠ "java/lang/invoke/VarHandle" ∧ (parseMethodDescriptor yX0_isBetween.desc).map (fun d => d.parameters.length) = some 3 := by decide +kernel
theorem hdv_X0_isBetween : yX0_isBetween.cls = RX0 ∧ yX0_isBetween.cls ≠ "java/lang/invoke/MethodHandle" ∧ yX0_isBetween.cls ≠ "java/lang/invoke/VarHandle" ∧ (parseMethodDescriptor yX0_isBetween.desc).map (fun d => d.parameters.length) = some 3 := ⟨rfl, hd_X0_isBetween⟩
theorem hd_X0_isPitch : yX0_isPitch.cls ≠ "java/lang/invoke/MethodHandle" ∧ yX0_isPitch.cls ≠ "java/lang/invoke/VarHandle" ∧ (parseMethodDescriptor yX0_isPitch.desc).map (fun d => d.parameters.length) = some 1 := by decide +kernel
theorem hdv_X0_isPitch : yX0_isPitch.cls = RX0 ∧ yX0_isPitch.cls ≠ "java/lang/invoke/MethodHandle" ∧ yX0_isPitch.cls ≠ "java/lang/invoke/VarHandle" ∧ (parseMethodDescriptor yX0_isPitch.desc).map (fun d => d.parameters.length) = some 1 := ⟨rfl, hd_X0_isPitch⟩
theorem hd_X3_isRight : yX3_isRight.cls ≠ "java/lang/invoke/MethodHandle" ∧ yX3_isRight.cls ≠ "java/lang/invoke/VarHandle" ∧ (parseMethodDescriptor yX3_isRight.desc).map (fun d => d.parameters.length) = some 0 := by decide +kernel
theorem hdv_X3_isRight : yX3_isRight.cls = RX3 ∧ yX3_isRight.cls ≠ "java/lang/invoke/MethodHandle" ∧ yX3_isRight.cls ≠ "java/lang/invoke/VarHandle" ∧ (parseMethodDescriptor yX3_isRight.desc).map (fun d => d.parameters.length) = some 0 := ⟨rfl, hd_X3_isRight⟩
theorem hd_X0_add : yX0_add.cls ≠ "java/lang/invoke/MethodHandle" ∧ yX0_add.cls ≠ "java/lang/invoke/VarHandle" ∧ (parseMethodDescriptor yX0_add.desc).map (fun d => d.parameters.length) = some 5 := by decide +kernel
theorem hdv_X0_add : yX0_add.cls = RX0 ∧ yX0_add.cls ≠ "java/lang/invoke/MethodHandle" ∧ yX0_add.cls ≠ "java/lang/invoke/VarHandle" ∧ (parseMethodDescriptor yX0_add.desc).map (fun d => d.parameters.length) = some 5 := ⟨rfl, hd_X0_add⟩
theorem hd_X0_drop : yX0_drop.cls ≠ "java/lang/invoke/MethodHandle" ∧ yX0_drop.cls ≠ "java/lang/invoke/VarHandle" ∧ (parseMethodDescriptor yX0_drop.desc).map (fun d => d.parameters.length) = some 0 := by decide +kernel
theorem hdv_X0_drop : yX0_drop.cls = RX0 ∧ yX0_drop.cls ≠ "java/lang/invoke/MethodHandle" ∧ yX0_drop.cls ≠ "java/lang/invoke/VarHandle" ∧ (parseMethodDescriptor yX0_drop.desc).map (fun d => d.parameters.length) = some 0 := ⟨rfl, hd_X0_drop⟩
theorem hd_X6_init : yX6_init.cls ≠ "java/lang/invoke/MethodHandle" ∧ yX6_init.cls ≠ "java/lang/invoke/VarHandle" ∧ (parseMethodDescriptor yX6_init.desc).map (fun d => d.parameters.length) = some 1 := by decide +kernel
theorem hdv_X6_init : yX6_init.cls = RX6 ∧ yX6_init.cls ≠ "java/lang/invoke/MethodHandle" ∧ yX6_init.cls ≠ "java/lang/invoke/VarHandle" ∧ (parseMethodDescriptor yX6_init.desc).map (fun d => d.parameters.length) = some 1 := ⟨rfl, hd_X6_init⟩
theorem hd_X6_isDigit : yX6_isDigit.cls ≠ "java/lang/invoke/MethodHandle" ∧ yX6_isDigit.cls ≠ "java/lang/invoke/VarHandle" ∧ (parseMethodDescriptor yX6_isDigit.desc).map (fun d => d.parameters.length) = some 1 := by decide +kernel
theorem hdv_X6_isDigit : yX6_isDigit.cls = RX6 ∧ yX6_isDigit.cls ≠ "java/lang/invoke/MethodHandle" ∧ yX6_isDigit.cls ≠ "java/lang/invoke/VarHandle" ∧ (parseMethodDescriptor yX6_isDigit.desc).map (fun d => d.parameters.length) = some 1 := ⟨rfl, hd_X6_isDigit⟩
theorem hd_X6_number : yX6_number.cls ≠ "java/lang/invoke/MethodHandle" ∧ yX6_number.cls ≠ "java/lang/invoke/VarHandle" ∧ (parseMethodDescriptor yX6_number.desc).map (fun d => d.parameters.length) = some 2 := by decide +kernel
theorem hdv_X6_number : yX6_number.cls = RX6 ∧ yX6_number.cls ≠ "java/lang/invoke/MethodHandle" ∧ yX6_number.cls ≠ "java/lang/invoke/VarHandle" ∧ (parseMethodDescriptor yX6_number.desc).map (fun d => d.parameters.length) = some 2 := ⟨rfl, hd_X6_number⟩
theorem hd_X6_takes : yX6_takes.cls ≠ "java/lang/invoke/MethodHandle" ∧ yX6_takes.cls ≠ "java/lang/invoke/VarHandle" ∧ (parseMethodDescriptor yX6_takes.desc).map (fun d => d.parameters.length) = some 1 := by decide +kernel
theorem hdv_X6_takes : yX6_takes.cls = RX6 ∧ yX6_takes.cls ≠ "java/lang/invoke/MethodHandle" ∧ yX6_takes.cls ≠ "java/lang/invoke/VarHandle" ∧ (parseMethodDescriptor yX6_takes.desc).map (fun d => d.parameters.length) = some 1 := ⟨rfl, hd_X6_takes⟩
theorem hd_X6_syllable : yX6_syllable.cls ≠ "java/lang/invoke/MethodHandle" ∧ yX6_syllable.cls ≠ "java/lang/invoke/VarHandle" ∧ (parseMethodDescriptor yX6_syllable.desc).map (fun d => d.parameters.length) = some 1 := by decide +kernel
theorem hdv_X6_syllable : yX6_syllable.cls = RX6 ∧ yX6_syllable.cls ≠ "java/lang/invoke/MethodHandle" ∧ yX6_syllable.cls ≠ "java/lang/invoke/VarHandle" ∧ (parseMethodDescriptor yX6_syllable.desc).map (fun d => d.parameters.length) = some 1 := ⟨rfl, hd_X6_syllable⟩
theorem hd_X6_read : yX6_read.cls ≠ "java/lang/invoke/MethodHandle" ∧ yX6_read.cls ≠ "java/lang/invoke/VarHandle" ∧ (parseMethodDescriptor yX6_read.desc).map (fun d => d.parameters.length) = some 0 := by decide +kernel
theorem hdv_X6_read : yX6_read.cls = RX6 ∧ yX6_read.cls ≠ "java/lang/invoke/MethodHandle" ∧ yX6_read.cls ≠ "java/lang/invoke/VarHandle" ∧ (parseMethodDescriptor yX6_read.desc).map (fun d => d.parameters.length) = some 0 := ⟨rfl, hd_X6_read⟩
theorem hd_X0_read : yX0_read.cls ≠ "java/lang/invoke/MethodHandle" ∧ yX0_read.cls ≠ "java/lang/invoke/VarHandle" ∧ (parseMethodDescriptor yX0_read.desc).map (fun d => d.parameters.length) = some 0 := by decide +kernel
theorem hdv_X0_read : yX0_read.cls = RX0 ∧ yX0_read.cls ≠ "java/lang/invoke/MethodHandle" ∧ yX0_read.cls ≠ "java/lang/invoke/VarHandle" ∧ (parseMethodDescriptor yX0_read.desc).map (fun d => d.parameters.length) = some 0 := ⟨rfl, hd_X0_read⟩
theorem hd_X0_isRight : yX0_isRight.cls ≠ "java/lang/invoke/MethodHandle" ∧ yX0_isRight.cls ≠ "java/lang/invoke/VarHandle" ∧ (parseMethodDescriptor yX0_isRight.desc).map (fun d => d.parameters.length) = some 2 := by decide +kernel
theorem hdv_X0_isRight : yX0_isRight.cls = RX0 ∧ yX0_isRight.cls ≠ "java/lang/invoke/MethodHandle" ∧ yX0_isRight.cls ≠ "java/lang/invoke/VarHandle" ∧ (parseMethodDescriptor yX0_isRight.desc).map (fun d => d.parameters.length) = some 2 := ⟨rfl, hd_X0_isRight⟩
theorem hd_X0_isSetting : yX0_isSetting.cls ≠ "java/lang/invoke/MethodHandle" ∧ yX0_isSetting.cls ≠ "java/lang/invoke/VarHandle" ∧ (parseMethodDescriptor yX0_isSetting.desc).map (fun d => d.parameters.length) = some 1 := by decide +kernel
theorem hdv_X0_isSetting : yX0_isSetting.cls = RX0 ∧ yX0_isSetting.cls ≠ "java/lang/invoke/MethodHandle" ∧ yX0_isSetting.cls ≠ "java/lang/invoke/VarHandle" ∧ (parseMethodDescriptor yX0_isSetting.desc).map (fun d => d.parameters.length) = some 1 := ⟨rfl, hd_X0_isSetting⟩
theorem hd_X0_set : yX0_set.cls ≠ "java/lang/invoke/MethodHandle" ∧ yX0_set.cls ≠ "java/lang/invoke/VarHandle" ∧ (parseMethodDescriptor yX0_set.desc).map (fun d => d.parameters.length) = some 2 := by decide +kernel
theorem hdv_X0_set : yX0_set.cls = RX0 ∧ yX0_set.cls ≠ "java/lang/invoke/MethodHandle" ∧ yX0_set.cls ≠ "java/lang/invoke/VarHandle" ∧ (parseMethodDescriptor yX0_set.desc).map (fun d => d.parameters.length) = some 2 := ⟨rfl, hd_X0_set⟩
theorem hd_X0_isTick : yX0_isTick.cls ≠ "java/lang/invoke/MethodHandle" ∧ yX0_isTick.cls ≠ "java/lang/invoke/VarHandle" ∧ (parseMethodDescriptor yX0_isTick.desc).map (fun d => d.parameters.length) = some 1 := by decide +kernel
theorem hdv_X0_isTick : yX0_isTick.cls = RX0 ∧ yX0_isTick.cls ≠ "java/lang/invoke/MethodHandle" ∧ yX0_isTick.cls ≠ "java/lang/invoke/VarHandle" ∧ (parseMethodDescriptor yX0_isTick.desc).map (fun d => d.parameters.length) = some 1 := ⟨rfl, hd_X0_isTick⟩
theorem hd_X0_areTicks : yX0_areTicks.cls ≠ "java/lang/invoke/MethodHandle" ∧ yX0_areTicks.cls ≠ "java/lang/invoke/VarHandle" ∧ (parseMethodDescriptor yX0_areTicks.desc).map (fun d => d.parameters.length) = some 3 := by decide +kernel
theorem hdv_X0_areTicks : yX0_areTicks.cls = RX0 ∧ yX0_areTicks.cls ≠ "java/lang/invoke/MethodHandle" ∧ yX0_areTicks.cls ≠ "java/lang/invoke/VarHandle" ∧ (parseMethodDescriptor yX0_areTicks.desc).map (fun d => d.parameters.length) = some 3 := ⟨rfl, hd_X0_areTicks⟩
theorem hd_X7_init : yX7_init.cls ≠ "java/lang/invoke/MethodHandle" ∧ yX7_init.cls ≠ "java/lang/invoke/VarHandle" ∧ (parseMethodDescriptor yX7_init.desc).map (fun d => d.parameters.length) = some 1 := by decide +kernel
theorem hdv_X7_init : yX7_init.cls = RX7 ∧ yX7_init.cls ≠ "java/lang/invoke/MethodHandle" ∧ yX7_init.cls ≠ "java/lang/invoke/VarHandle" ∧ (parseMethodDescriptor yX7_init.desc).map (fun d => d.parameters.length) = some 1 := ⟨rfl, hd_X7_init⟩
theorem hd_X5_wanted : yX5_wanted.cls ≠ "java/lang/invoke/MethodHandle" ∧ yX5_wanted.cls ≠ "java/lang/invoke/VarHandle" ∧ (parseMethodDescriptor yX5_wanted.desc).map (fun d => d.parameters.length) = some 1 := by decide +kernel
theorem hdv_X5_wanted : yX5_wanted.cls = RX5 ∧ yX5_wanted.cls ≠ "java/lang/invoke/MethodHandle" ∧ yX5_wanted.cls ≠ "java/lang/invoke/VarHandle" ∧ (parseMethodDescriptor yX5_wanted.desc).map (fun d => d.parameters.length) = some 1 := ⟨rfl, hd_X5_wanted⟩
theorem hd_X7_matches : yX7_matches.cls ≠ "java/lang/invoke/MethodHandle" ∧ yX7_matches.cls ≠ "java/lang/invoke/VarHandle" ∧ (parseMethodDescriptor yX7_matches.desc).map (fun d => d.parameters.length) = some 2 := by decide +kernel
theorem hdv_X7_matches : yX7_matches.cls = RX7 ∧ yX7_matches.cls ≠ "java/lang/invoke/MethodHandle" ∧ yX7_matches.cls ≠ "java/lang/invoke/VarHandle" ∧ (parseMethodDescriptor yX7_matches.desc).map (fun d => d.parameters.length) = some 2 := ⟨rfl, hd_X7_matches⟩
theorem hd_X7_bars : yX7_bars.cls ≠ "java/lang/invoke/MethodHandle" ∧ yX7_bars.cls ≠ "java/lang/invoke/VarHandle" ∧ (parseMethodDescriptor yX7_bars.desc).map (fun d => d.parameters.length) = some 2 := by decide +kernel
theorem hdv_X7_bars : yX7_bars.cls = RX7 ∧ yX7_bars.cls ≠ "java/lang/invoke/MethodHandle" ∧ yX7_bars.cls ≠ "java/lang/invoke/VarHandle" ∧ (parseMethodDescriptor yX7_bars.desc).map (fun d => d.parameters.length) = some 2 := ⟨rfl, hd_X7_bars⟩
theorem hd_X7_isOnset : yX7_isOnset.cls ≠ "java/lang/invoke/MethodHandle" ∧ yX7_isOnset.cls ≠ "java/lang/invoke/VarHandle" ∧ (parseMethodDescriptor yX7_isOnset.desc).map (fun d => d.parameters.length) = some 1 := by decide +kernel
theorem hdv_X7_isOnset : yX7_isOnset.cls = RX7 ∧ yX7_isOnset.cls ≠ "java/lang/invoke/MethodHandle" ∧ yX7_isOnset.cls ≠ "java/lang/invoke/VarHandle" ∧ (parseMethodDescriptor yX7_isOnset.desc).map (fun d => d.parameters.length) = some 1 := ⟨rfl, hd_X7_isOnset⟩
theorem hd_X7_onset : yX7_onset.cls ≠ "java/lang/invoke/MethodHandle" ∧ yX7_onset.cls ≠ "java/lang/invoke/VarHandle" ∧ (parseMethodDescriptor yX7_onset.desc).map (fun d => d.parameters.length) = some 1 := by decide +kernel
theorem hdv_X7_onset : yX7_onset.cls = RX7 ∧ yX7_onset.cls ≠ "java/lang/invoke/MethodHandle" ∧ yX7_onset.cls ≠ "java/lang/invoke/VarHandle" ∧ (parseMethodDescriptor yX7_onset.desc).map (fun d => d.parameters.length) = some 1 := ⟨rfl, hd_X7_onset⟩
theorem hd_X7_share : yX7_share.cls ≠ "java/lang/invoke/MethodHandle" ∧ yX7_share.cls ≠ "java/lang/invoke/VarHandle" ∧ (parseMethodDescriptor yX7_share.desc).map (fun d => d.parameters.length) = some 1 := by decide +kernel
theorem hdv_X7_share : yX7_share.cls = RX7 ∧ yX7_share.cls ≠ "java/lang/invoke/MethodHandle" ∧ yX7_share.cls ≠ "java/lang/invoke/VarHandle" ∧ (parseMethodDescriptor yX7_share.desc).map (fun d => d.parameters.length) = some 1 := ⟨rfl, hd_X7_share⟩
theorem hd_X7_reason : yX7_reason.cls ≠ "java/lang/invoke/MethodHandle" ∧ yX7_reason.cls ≠ "java/lang/invoke/VarHandle" ∧ (parseMethodDescriptor yX7_reason.desc).map (fun d => d.parameters.length) = some 2 := by decide +kernel
theorem hdv_X7_reason : yX7_reason.cls = RX7 ∧ yX7_reason.cls ≠ "java/lang/invoke/MethodHandle" ∧ yX7_reason.cls ≠ "java/lang/invoke/VarHandle" ∧ (parseMethodDescriptor yX7_reason.desc).map (fun d => d.parameters.length) = some 2 := ⟨rfl, hd_X7_reason⟩
theorem hd_X7_judge : yX7_judge.cls ≠ "java/lang/invoke/MethodHandle" ∧ yX7_judge.cls ≠ "java/lang/invoke/VarHandle" ∧ (parseMethodDescriptor yX7_judge.desc).map (fun d => d.parameters.length) = some 1 := by decide +kernel
theorem hdv_X7_judge : yX7_judge.cls = RX7 ∧ yX7_judge.cls ≠ "java/lang/invoke/MethodHandle" ∧ yX7_judge.cls ≠ "java/lang/invoke/VarHandle" ∧ (parseMethodDescriptor yX7_judge.desc).map (fun d => d.parameters.length) = some 1 := ⟨rfl, hd_X7_judge⟩
theorem hd_X7_run : yX7_run.cls ≠ "java/lang/invoke/MethodHandle" ∧ yX7_run.cls ≠ "java/lang/invoke/VarHandle" ∧ (parseMethodDescriptor yX7_run.desc).map (fun d => d.parameters.length) = some 1 := by decide +kernel
theorem hdv_X7_run : yX7_run.cls = RX7 ∧ yX7_run.cls ≠ "java/lang/invoke/MethodHandle" ∧ yX7_run.cls ≠ "java/lang/invoke/VarHandle" ∧ (parseMethodDescriptor yX7_run.desc).map (fun d => d.parameters.length) = some 1 := ⟨rfl, hd_X7_run⟩
theorem hd_X0_judged : yX0_judged.cls ≠ "java/lang/invoke/MethodHandle" ∧ yX0_judged.cls ≠ "java/lang/invoke/VarHandle" ∧ (parseMethodDescriptor yX0_judged.desc).map (fun d => d.parameters.length) = some 0 := by decide +kernel
theorem hdv_X0_judged : yX0_judged.cls = RX0 ∧ yX0_judged.cls ≠ "java/lang/invoke/MethodHandle" ∧ yX0_judged.cls ≠ "java/lang/invoke/VarHandle" ∧ (parseMethodDescriptor yX0_judged.desc).map (fun d => d.parameters.length) = some 0 := ⟨rfl, hd_X0_judged⟩
theorem hd_X7_hits : yX7_hits.cls ≠ "java/lang/invoke/MethodHandle" ∧ yX7_hits.cls ≠ "java/lang/invoke/VarHandle" ∧ (parseMethodDescriptor yX7_hits.desc).map (fun d => d.parameters.length) = some 1 := by decide +kernel
theorem hdv_X7_hits : yX7_hits.cls = RX7 ∧ yX7_hits.cls ≠ "java/lang/invoke/MethodHandle" ∧ yX7_hits.cls ≠ "java/lang/invoke/VarHandle" ∧ (parseMethodDescriptor yX7_hits.desc).map (fun d => d.parameters.length) = some 1 := ⟨rfl, hd_X7_hits⟩
theorem hd_X0_sing : yX0_sing.cls ≠ "java/lang/invoke/MethodHandle" ∧ yX0_sing.cls ≠ "java/lang/invoke/VarHandle" ∧ (parseMethodDescriptor yX0_sing.desc).map (fun d => d.parameters.length) = some 3 := by decide +kernel
theorem hdv_X0_sing : yX0_sing.cls = RX0 ∧ yX0_sing.cls ≠ "java/lang/invoke/MethodHandle" ∧ yX0_sing.cls ≠ "java/lang/invoke/VarHandle" ∧ (parseMethodDescriptor yX0_sing.desc).map (fun d => d.parameters.length) = some 3 := ⟨rfl, hd_X0_sing⟩
theorem hd_X0_silence : yX0_silence.cls ≠ "java/lang/invoke/MethodHandle" ∧ yX0_silence.cls ≠ "java/lang/invoke/VarHandle" ∧ (parseMethodDescriptor yX0_silence.desc).map (fun d => d.parameters.length) = some 2 := by decide +kernel
theorem hdv_X0_silence : yX0_silence.cls = RX0 ∧ yX0_silence.cls ≠ "java/lang/invoke/MethodHandle" ∧ yX0_silence.cls ≠ "java/lang/invoke/VarHandle" ∧ (parseMethodDescriptor yX0_silence.desc).map (fun d => d.parameters.length) = some 2 := ⟨rfl, hd_X0_silence⟩
theorem hd_X0_isSyllable : yX0_isSyllable.cls ≠ "java/lang/invoke/MethodHandle" ∧ yX0_isSyllable.cls ≠ "java/lang/invoke/VarHandle" ∧ (parseMethodDescriptor yX0_isSyllable.desc).map (fun d => d.parameters.length) = some 1 := by decide +kernel
theorem hdv_X0_isSyllable : yX0_isSyllable.cls = RX0 ∧ yX0_isSyllable.cls ≠ "java/lang/invoke/MethodHandle" ∧ yX0_isSyllable.cls ≠ "java/lang/invoke/VarHandle" ∧ (parseMethodDescriptor yX0_isSyllable.desc).map (fun d => d.parameters.length) = some 1 := ⟨rfl, hd_X0_isSyllable⟩
theorem hd_X0_singAlong : yX0_singAlong.cls ≠ "java/lang/invoke/MethodHandle" ∧ yX0_singAlong.cls ≠ "java/lang/invoke/VarHandle" ∧ (parseMethodDescriptor yX0_singAlong.desc).map (fun d => d.parameters.length) = some 3 := by decide +kernel
theorem hdv_X0_singAlong : yX0_singAlong.cls = RX0 ∧ yX0_singAlong.cls ≠ "java/lang/invoke/MethodHandle" ∧ yX0_singAlong.cls ≠ "java/lang/invoke/VarHandle" ∧ (parseMethodDescriptor yX0_singAlong.desc).map (fun d => d.parameters.length) = some 3 := ⟨rfl, hd_X0_singAlong⟩
theorem hd_X0_type : yX0_type.cls ≠ "java/lang/invoke/MethodHandle" ∧ yX0_type.cls ≠ "java/lang/invoke/VarHandle" ∧ (parseMethodDescriptor yX0_type.desc).map (fun d => d.parameters.length) = some 1 := by decide +kernel
theorem hdv_X0_type : yX0_type.cls = RX0 ∧ yX0_type.cls ≠ "java/lang/invoke/MethodHandle" ∧ yX0_type.cls ≠ "java/lang/invoke/VarHandle" ∧ (parseMethodDescriptor yX0_type.desc).map (fun d => d.parameters.length) = some 1 := ⟨rfl, hd_X0_type⟩
theorem hd_X0_clearText : yX0_clearText.cls ≠ "java/lang/invoke/MethodHandle" ∧ yX0_clearText.cls ≠ "java/lang/invoke/VarHandle" ∧ (parseMethodDescriptor yX0_clearText.desc).map (fun d => d.parameters.length) = some 0 := by decide +kernel
theorem hdv_X0_clearText : yX0_clearText.cls = RX0 ∧ yX0_clearText.cls ≠ "java/lang/invoke/MethodHandle" ∧ yX0_clearText.cls ≠ "java/lang/invoke/VarHandle" ∧ (parseMethodDescriptor yX0_clearText.desc).map (fun d => d.parameters.length) = some 0 := ⟨rfl, hd_X0_clearText⟩
theorem hd_X0_undo : yX0_undo.cls ≠ "java/lang/invoke/MethodHandle" ∧ yX0_undo.cls ≠ "java/lang/invoke/VarHandle" ∧ (parseMethodDescriptor yX0_undo.desc).map (fun d => d.parameters.length) = some 0 := by decide +kernel
theorem hdv_X0_undo : yX0_undo.cls = RX0 ∧ yX0_undo.cls ≠ "java/lang/invoke/MethodHandle" ∧ yX0_undo.cls ≠ "java/lang/invoke/VarHandle" ∧ (parseMethodDescriptor yX0_undo.desc).map (fun d => d.parameters.length) = some 0 := ⟨rfl, hd_X0_undo⟩
theorem hd_X0_keep : yX0_keep.cls ≠ "java/lang/invoke/MethodHandle" ∧ yX0_keep.cls ≠ "java/lang/invoke/VarHandle" ∧ (parseMethodDescriptor yX0_keep.desc).map (fun d => d.parameters.length) = some 0 := by decide +kernel
theorem hdv_X0_keep : yX0_keep.cls = RX0 ∧ yX0_keep.cls ≠ "java/lang/invoke/MethodHandle" ∧ yX0_keep.cls ≠ "java/lang/invoke/VarHandle" ∧ (parseMethodDescriptor yX0_keep.desc).map (fun d => d.parameters.length) = some 0 := ⟨rfl, hd_X0_keep⟩
theorem hd_X0_restore : yX0_restore.cls ≠ "java/lang/invoke/MethodHandle" ∧ yX0_restore.cls ≠ "java/lang/invoke/VarHandle" ∧ (parseMethodDescriptor yX0_restore.desc).map (fun d => d.parameters.length) = some 0 := by decide +kernel
theorem hdv_X0_restore : yX0_restore.cls = RX0 ∧ yX0_restore.cls ≠ "java/lang/invoke/MethodHandle" ∧ yX0_restore.cls ≠ "java/lang/invoke/VarHandle" ∧ (parseMethodDescriptor yX0_restore.desc).map (fun d => d.parameters.length) = some 0 := ⟨rfl, hd_X0_restore⟩
theorem hd_X0_ofJudge : yX0_ofJudge.cls ≠ "java/lang/invoke/MethodHandle" ∧ yX0_ofJudge.cls ≠ "java/lang/invoke/VarHandle" ∧ (parseMethodDescriptor yX0_ofJudge.desc).map (fun d => d.parameters.length) = some 3 := by decide +kernel
theorem hdv_X0_ofJudge : yX0_ofJudge.cls = RX0 ∧ yX0_ofJudge.cls ≠ "java/lang/invoke/MethodHandle" ∧ yX0_ofJudge.cls ≠ "java/lang/invoke/VarHandle" ∧ (parseMethodDescriptor yX0_ofJudge.desc).map (fun d => d.parameters.length) = some 3 := ⟨rfl, hd_X0_ofJudge⟩
theorem hd_X0_syllable : yX0_syllable.cls ≠ "java/lang/invoke/MethodHandle" ∧ yX0_syllable.cls ≠ "java/lang/invoke/VarHandle" ∧ (parseMethodDescriptor yX0_syllable.desc).map (fun d => d.parameters.length) = some 2 := by decide +kernel
theorem hdv_X0_syllable : yX0_syllable.cls = RX0 ∧ yX0_syllable.cls ≠ "java/lang/invoke/MethodHandle" ∧ yX0_syllable.cls ≠ "java/lang/invoke/VarHandle" ∧ (parseMethodDescriptor yX0_syllable.desc).map (fun d => d.parameters.length) = some 2 := ⟨rfl, hd_X0_syllable⟩
theorem hd_X1_at : yX1_at.cls ≠ "java/lang/invoke/MethodHandle" ∧ yX1_at.cls ≠ "java/lang/invoke/VarHandle" ∧ (parseMethodDescriptor yX1_at.desc).map (fun d => d.parameters.length) = some 1 := by decide +kernel
theorem hdv_X1_at : yX1_at.cls = RX1 ∧ yX1_at.cls ≠ "java/lang/invoke/MethodHandle" ∧ yX1_at.cls ≠ "java/lang/invoke/VarHandle" ∧ (parseMethodDescriptor yX1_at.desc).map (fun d => d.parameters.length) = some 1 := ⟨rfl, hd_X1_at⟩
theorem hd_X0_wanted : yX0_wanted.cls ≠ "java/lang/invoke/MethodHandle" ∧ yX0_wanted.cls ≠ "java/lang/invoke/VarHandle" ∧ (parseMethodDescriptor yX0_wanted.desc).map (fun d => d.parameters.length) = some 1 := by decide +kernel
theorem hdv_X0_wanted : yX0_wanted.cls = RX0 ∧ yX0_wanted.cls ≠ "java/lang/invoke/MethodHandle" ∧ yX0_wanted.cls ≠ "java/lang/invoke/VarHandle" ∧ (parseMethodDescriptor yX0_wanted.desc).map (fun d => d.parameters.length) = some 1 := ⟨rfl, hd_X0_wanted⟩
theorem hd_X0_sung : yX0_sung.cls ≠ "java/lang/invoke/MethodHandle" ∧ yX0_sung.cls ≠ "java/lang/invoke/VarHandle" ∧ (parseMethodDescriptor yX0_sung.desc).map (fun d => d.parameters.length) = some 1 := by decide +kernel
theorem hdv_X0_sung : yX0_sung.cls = RX0 ∧ yX0_sung.cls ≠ "java/lang/invoke/MethodHandle" ∧ yX0_sung.cls ≠ "java/lang/invoke/VarHandle" ∧ (parseMethodDescriptor yX0_sung.desc).map (fun d => d.parameters.length) = some 1 := ⟨rfl, hd_X0_sung⟩
theorem hd_X0_lit : yX0_lit.cls ≠ "java/lang/invoke/MethodHandle" ∧ yX0_lit.cls ≠ "java/lang/invoke/VarHandle" ∧ (parseMethodDescriptor yX0_lit.desc).map (fun d => d.parameters.length) = some 2 := by decide +kernel
theorem hdv_X0_lit : yX0_lit.cls = RX0 ∧ yX0_lit.cls ≠ "java/lang/invoke/MethodHandle" ∧ yX0_lit.cls ≠ "java/lang/invoke/VarHandle" ∧ (parseMethodDescriptor yX0_lit.desc).map (fun d => d.parameters.length) = some 2 := ⟨rfl, hd_X0_lit⟩
theorem hd_X7_first : yX7_first.cls ≠ "java/lang/invoke/MethodHandle" ∧ yX7_first.cls ≠ "java/lang/invoke/VarHandle" ∧ (parseMethodDescriptor yX7_first.desc).map (fun d => d.parameters.length) = some 1 := by decide +kernel
theorem hdv_X7_first : yX7_first.cls = RX7 ∧ yX7_first.cls ≠ "java/lang/invoke/MethodHandle" ∧ yX7_first.cls ≠ "java/lang/invoke/VarHandle" ∧ (parseMethodDescriptor yX7_first.desc).map (fun d => d.parameters.length) = some 1 := ⟨rfl, hd_X7_first⟩
theorem hd_X7_longestRow : yX7_longestRow.cls ≠ "java/lang/invoke/MethodHandle" ∧ yX7_longestRow.cls ≠ "java/lang/invoke/VarHandle" ∧ (parseMethodDescriptor yX7_longestRow.desc).map (fun d => d.parameters.length) = some 1 := by decide +kernel
theorem hdv_X7_longestRow : yX7_longestRow.cls = RX7 ∧ yX7_longestRow.cls ≠ "java/lang/invoke/MethodHandle" ∧ yX7_longestRow.cls ≠ "java/lang/invoke/VarHandle" ∧ (parseMethodDescriptor yX7_longestRow.desc).map (fun d => d.parameters.length) = some 1 := ⟨rfl, hd_X7_longestRow⟩
theorem hd_X7_many : yX7_many.cls ≠ "java/lang/invoke/MethodHandle" ∧ yX7_many.cls ≠ "java/lang/invoke/VarHandle" ∧ (parseMethodDescriptor yX7_many.desc).map (fun d => d.parameters.length) = some 1 := by decide +kernel
theorem hdv_X7_many : yX7_many.cls = RX7 ∧ yX7_many.cls ≠ "java/lang/invoke/MethodHandle" ∧ yX7_many.cls ≠ "java/lang/invoke/VarHandle" ∧ (parseMethodDescriptor yX7_many.desc).map (fun d => d.parameters.length) = some 1 := ⟨rfl, hd_X7_many⟩
theorem hd_X7_pointsOf : yX7_pointsOf.cls ≠ "java/lang/invoke/MethodHandle" ∧ yX7_pointsOf.cls ≠ "java/lang/invoke/VarHandle" ∧ (parseMethodDescriptor yX7_pointsOf.desc).map (fun d => d.parameters.length) = some 1 := by decide +kernel
theorem hdv_X7_pointsOf : yX7_pointsOf.cls = RX7 ∧ yX7_pointsOf.cls ≠ "java/lang/invoke/MethodHandle" ∧ yX7_pointsOf.cls ≠ "java/lang/invoke/VarHandle" ∧ (parseMethodDescriptor yX7_pointsOf.desc).map (fun d => d.parameters.length) = some 1 := ⟨rfl, hd_X7_pointsOf⟩
theorem hd_X0_phrase : yX0_phrase.cls ≠ "java/lang/invoke/MethodHandle" ∧ yX0_phrase.cls ≠ "java/lang/invoke/VarHandle" ∧ (parseMethodDescriptor yX0_phrase.desc).map (fun d => d.parameters.length) = some 2 := by decide +kernel
theorem hdv_X0_phrase : yX0_phrase.cls = RX0 ∧ yX0_phrase.cls ≠ "java/lang/invoke/MethodHandle" ∧ yX0_phrase.cls ≠ "java/lang/invoke/VarHandle" ∧ (parseMethodDescriptor yX0_phrase.desc).map (fun d => d.parameters.length) = some 2 := ⟨rfl, hd_X0_phrase⟩
theorem hd_X0_sungTicks : yX0_sungTicks.cls ≠ "java/lang/invoke/MethodHandle" ∧ yX0_sungTicks.cls ≠ "java/lang/invoke/VarHandle" ∧ (parseMethodDescriptor yX0_sungTicks.desc).map (fun d => d.parameters.length) = some 1 := by decide +kernel
theorem hdv_X0_sungTicks : yX0_sungTicks.cls = RX0 ∧ yX0_sungTicks.cls ≠ "java/lang/invoke/MethodHandle" ∧ yX0_sungTicks.cls ≠ "java/lang/invoke/VarHandle" ∧ (parseMethodDescriptor yX0_sungTicks.desc).map (fun d => d.parameters.length) = some 1 := ⟨rfl, hd_X0_sungTicks⟩
theorem hd_X7_all : yX7_all.cls ≠ "java/lang/invoke/MethodHandle" ∧ yX7_all.cls ≠ "java/lang/invoke/VarHandle" ∧ (parseMethodDescriptor yX7_all.desc).map (fun d => d.parameters.length) = some 0 := by decide +kernel
theorem hdv_X7_all : yX7_all.cls = RX7 ∧ yX7_all.cls ≠ "java/lang/invoke/MethodHandle" ∧ yX7_all.cls ≠ "java/lang/invoke/VarHandle" ∧ (parseMethodDescriptor yX7_all.desc).map (fun d => d.parameters.length) = some 0 := ⟨rfl, hd_X7_all⟩
theorem hd_X7_most : yX7_most.cls ≠ "java/lang/invoke/MethodHandle" ∧ yX7_most.cls ≠ "java/lang/invoke/VarHandle" ∧ (parseMethodDescriptor yX7_most.desc).map (fun d => d.parameters.length) = some 0 := by decide +kernel
theorem hdv_X7_most : yX7_most.cls = RX7 ∧ yX7_most.cls ≠ "java/lang/invoke/MethodHandle" ∧ yX7_most.cls ≠ "java/lang/invoke/VarHandle" ∧ (parseMethodDescriptor yX7_most.desc).map (fun d => d.parameters.length) = some 0 := ⟨rfl, hd_X7_most⟩
theorem hd_X0_total : yX0_total.cls ≠ "java/lang/invoke/MethodHandle" ∧ yX0_total.cls ≠ "java/lang/invoke/VarHandle" ∧ (parseMethodDescriptor yX0_total.desc).map (fun d => d.parameters.length) = some 1 := by decide +kernel
theorem hdv_X0_total : yX0_total.cls = RX0 ∧ yX0_total.cls ≠ "java/lang/invoke/MethodHandle" ∧ yX0_total.cls ≠ "java/lang/invoke/VarHandle" ∧ (parseMethodDescriptor yX0_total.desc).map (fun d => d.parameters.length) = some 1 := ⟨rfl, hd_X0_total⟩
theorem hd_X0_shift : yX0_shift.cls ≠ "java/lang/invoke/MethodHandle" ∧ yX0_shift.cls ≠ "java/lang/invoke/VarHandle" ∧ (parseMethodDescriptor yX0_shift.desc).map (fun d => d.parameters.length) = some 3 := by decide +kernel
theorem hdv_X0_shift : yX0_shift.cls = RX0 ∧ yX0_shift.cls ≠ "java/lang/invoke/MethodHandle" ∧ yX0_shift.cls ≠ "java/lang/invoke/VarHandle" ∧ (parseMethodDescriptor yX0_shift.desc).map (fun d => d.parameters.length) = some 3 := ⟨rfl, hd_X0_shift⟩
theorem hd_X0_ifShifted : yX0_ifShifted.cls ≠ "java/lang/invoke/MethodHandle" ∧ yX0_ifShifted.cls ≠ "java/lang/invoke/VarHandle" ∧ (parseMethodDescriptor yX0_ifShifted.desc).map (fun d => d.parameters.length) = some 2 := by decide +kernel
theorem hdv_X0_ifShifted : yX0_ifShifted.cls = RX0 ∧ yX0_ifShifted.cls ≠ "java/lang/invoke/MethodHandle" ∧ yX0_ifShifted.cls ≠ "java/lang/invoke/VarHandle" ∧ (parseMethodDescriptor yX0_ifShifted.desc).map (fun d => d.parameters.length) = some 2 := ⟨rfl, hd_X0_ifShifted⟩
theorem hd_X0_bestShift : yX0_bestShift.cls ≠ "java/lang/invoke/MethodHandle" ∧ yX0_bestShift.cls ≠ "java/lang/invoke/VarHandle" ∧ (parseMethodDescriptor yX0_bestShift.desc).map (fun d => d.parameters.length) = some 0 := by decide +kernel
theorem hdv_X0_bestShift : yX0_bestShift.cls = RX0 ∧ yX0_bestShift.cls ≠ "java/lang/invoke/MethodHandle" ∧ yX0_bestShift.cls ≠ "java/lang/invoke/VarHandle" ∧ (parseMethodDescriptor yX0_bestShift.desc).map (fun d => d.parameters.length) = some 0 := ⟨rfl, hd_X0_bestShift⟩
theorem hd_X0_ifSet : yX0_ifSet.cls ≠ "java/lang/invoke/MethodHandle" ∧ yX0_ifSet.cls ≠ "java/lang/invoke/VarHandle" ∧ (parseMethodDescriptor yX0_ifSet.desc).map (fun d => d.parameters.length) = some 2 := by decide +kernel
theorem hdv_X0_ifSet : yX0_ifSet.cls = RX0 ∧ yX0_ifSet.cls ≠ "java/lang/invoke/MethodHandle" ∧ yX0_ifSet.cls ≠ "java/lang/invoke/VarHandle" ∧ (parseMethodDescriptor yX0_ifSet.desc).map (fun d => d.parameters.length) = some 2 := ⟨rfl, hd_X0_ifSet⟩
theorem hd_X0_worst : yX0_worst.cls ≠ "java/lang/invoke/MethodHandle" ∧ yX0_worst.cls ≠ "java/lang/invoke/VarHandle" ∧ (parseMethodDescriptor yX0_worst.desc).map (fun d => d.parameters.length) = some 0 := by decide +kernel
theorem hdv_X0_worst : yX0_worst.cls = RX0 ∧ yX0_worst.cls ≠ "java/lang/invoke/MethodHandle" ∧ yX0_worst.cls ≠ "java/lang/invoke/VarHandle" ∧ (parseMethodDescriptor yX0_worst.desc).map (fun d => d.parameters.length) = some 0 := ⟨rfl, hd_X0_worst⟩
theorem hd_X2_init : yX2_init.cls ≠ "java/lang/invoke/MethodHandle" ∧ yX2_init.cls ≠ "java/lang/invoke/VarHandle" ∧ (parseMethodDescriptor yX2_init.desc).map (fun d => d.parameters.length) = some 0 := by decide +kernel
theorem hdv_X2_init : yX2_init.cls = RX2 ∧ yX2_init.cls ≠ "java/lang/invoke/MethodHandle" ∧ yX2_init.cls ≠ "java/lang/invoke/VarHandle" ∧ (parseMethodDescriptor yX2_init.desc).map (fun d => d.parameters.length) = some 0 := ⟨rfl, hd_X2_init⟩
theorem hd_X2_of : yX2_of.cls ≠ "java/lang/invoke/MethodHandle" ∧ yX2_of.cls ≠ "java/lang/invoke/VarHandle" ∧ (parseMethodDescriptor yX2_of.desc).map (fun d => d.parameters.length) = some 2 := by decide +kernel
theorem hdv_X2_of : yX2_of.cls = RX2 ∧ yX2_of.cls ≠ "java/lang/invoke/MethodHandle" ∧ yX2_of.cls ≠ "java/lang/invoke/VarHandle" ∧ (parseMethodDescriptor yX2_of.desc).map (fun d => d.parameters.length) = some 2 := ⟨rfl, hd_X2_of⟩
theorem hd_X2_behind : yX2_behind.cls ≠ "java/lang/invoke/MethodHandle" ∧ yX2_behind.cls ≠ "java/lang/invoke/VarHandle" ∧ (parseMethodDescriptor yX2_behind.desc).map (fun d => d.parameters.length) = some 1 := by decide +kernel
theorem hdv_X2_behind : yX2_behind.cls = RX2 ∧ yX2_behind.cls ≠ "java/lang/invoke/MethodHandle" ∧ yX2_behind.cls ≠ "java/lang/invoke/VarHandle" ∧ (parseMethodDescriptor yX2_behind.desc).map (fun d => d.parameters.length) = some 1 := ⟨rfl, hd_X2_behind⟩
theorem hd_X2_endOfSong : yX2_endOfSong.cls ≠ "java/lang/invoke/MethodHandle" ∧ yX2_endOfSong.cls ≠ "java/lang/invoke/VarHandle" ∧ (parseMethodDescriptor yX2_endOfSong.desc).map (fun d => d.parameters.length) = some 0 := by decide +kernel
theorem hdv_X2_endOfSong : yX2_endOfSong.cls = RX2 ∧ yX2_endOfSong.cls ≠ "java/lang/invoke/MethodHandle" ∧ yX2_endOfSong.cls ≠ "java/lang/invoke/VarHandle" ∧ (parseMethodDescriptor yX2_endOfSong.desc).map (fun d => d.parameters.length) = some 0 := ⟨rfl, hd_X2_endOfSong⟩
theorem hd_X2_in : yX2_in.cls ≠ "java/lang/invoke/MethodHandle" ∧ yX2_in.cls ≠ "java/lang/invoke/VarHandle" ∧ (parseMethodDescriptor yX2_in.desc).map (fun d => d.parameters.length) = some 3 := by decide +kernel
theorem hdv_X2_in : yX2_in.cls = RX2 ∧ yX2_in.cls ≠ "java/lang/invoke/MethodHandle" ∧ yX2_in.cls ≠ "java/lang/invoke/VarHandle" ∧ (parseMethodDescriptor yX2_in.desc).map (fun d => d.parameters.length) = some 3 := ⟨rfl, hd_X2_in⟩
theorem hd_X2_addError : yX2_addError.cls ≠ "java/lang/invoke/MethodHandle" ∧ yX2_addError.cls ≠ "java/lang/invoke/VarHandle" ∧ (parseMethodDescriptor yX2_addError.desc).map (fun d => d.parameters.length) = some 3 := by decide +kernel
theorem hdv_X2_addError : yX2_addError.cls = RX2 ∧ yX2_addError.cls ≠ "java/lang/invoke/MethodHandle" ∧ yX2_addError.cls ≠ "java/lang/invoke/VarHandle" ∧ (parseMethodDescriptor yX2_addError.desc).map (fun d => d.parameters.length) = some 3 := ⟨rfl, hd_X2_addError⟩
theorem hd_X2_lay : yX2_lay.cls ≠ "java/lang/invoke/MethodHandle" ∧ yX2_lay.cls ≠ "java/lang/invoke/VarHandle" ∧ (parseMethodDescriptor yX2_lay.desc).map (fun d => d.parameters.length) = some 3 := by decide +kernel
theorem hdv_X2_lay : yX2_lay.cls = RX2 ∧ yX2_lay.cls ≠ "java/lang/invoke/MethodHandle" ∧ yX2_lay.cls ≠ "java/lang/invoke/VarHandle" ∧ (parseMethodDescriptor yX2_lay.desc).map (fun d => d.parameters.length) = some 3 := ⟨rfl, hd_X2_lay⟩
theorem hd_X2_doAdd : yX2_doAdd.cls ≠ "java/lang/invoke/MethodHandle" ∧ yX2_doAdd.cls ≠ "java/lang/invoke/VarHandle" ∧ (parseMethodDescriptor yX2_doAdd.desc).map (fun d => d.parameters.length) = some 5 := by decide +kernel
theorem hdv_X2_doAdd : yX2_doAdd.cls = RX2 ∧ yX2_doAdd.cls ≠ "java/lang/invoke/MethodHandle" ∧ yX2_doAdd.cls ≠ "java/lang/invoke/VarHandle" ∧ (parseMethodDescriptor yX2_doAdd.desc).map (fun d => d.parameters.length) = some 5 := ⟨rfl, hd_X2_doAdd⟩
theorem hd_X2_isPitch : yX2_isPitch.cls ≠ "java/lang/invoke/MethodHandle" ∧ yX2_isPitch.cls ≠ "java/lang/invoke/VarHandle" ∧ (parseMethodDescriptor yX2_isPitch.desc).map (fun d => d.parameters.length) = some 1 := by decide +kernel
theorem hdv_X2_isPitch : yX2_isPitch.cls = RX2 ∧ yX2_isPitch.cls ≠ "java/lang/invoke/MethodHandle" ∧ yX2_isPitch.cls ≠ "java/lang/invoke/VarHandle" ∧ (parseMethodDescriptor yX2_isPitch.desc).map (fun d => d.parameters.length) = some 1 := ⟨rfl, hd_X2_isPitch⟩
theorem hd_X2_copy : yX2_copy.cls ≠ "java/lang/invoke/MethodHandle" ∧ yX2_copy.cls ≠ "java/lang/invoke/VarHandle" ∧ (parseMethodDescriptor yX2_copy.desc).map (fun d => d.parameters.length) = some 4 := by decide +kernel
theorem hdv_X2_copy : yX2_copy.cls = RX2 ∧ yX2_copy.cls ≠ "java/lang/invoke/MethodHandle" ∧ yX2_copy.cls ≠ "java/lang/invoke/VarHandle" ∧ (parseMethodDescriptor yX2_copy.desc).map (fun d => d.parameters.length) = some 4 := ⟨rfl, hd_X2_copy⟩
theorem hd_X2_record : yX2_record.cls ≠ "java/lang/invoke/MethodHandle" ∧ yX2_record.cls ≠ "java/lang/invoke/VarHandle" ∧ (parseMethodDescriptor yX2_record.desc).map (fun d => d.parameters.length) = some 0 := by decide +kernel
theorem hdv_X2_record : yX2_record.cls = RX2 ∧ yX2_record.cls ≠ "java/lang/invoke/MethodHandle" ∧ yX2_record.cls ≠ "java/lang/invoke/VarHandle" ∧ (parseMethodDescriptor yX2_record.desc).map (fun d => d.parameters.length) = some 0 := ⟨rfl, hd_X2_record⟩
theorem hd_X2_add : yX2_add.cls ≠ "java/lang/invoke/MethodHandle" ∧ yX2_add.cls ≠ "java/lang/invoke/VarHandle" ∧ (parseMethodDescriptor yX2_add.desc).map (fun d => d.parameters.length) = some 5 := by decide +kernel
theorem hdv_X2_add : yX2_add.cls = RX2 ∧ yX2_add.cls ≠ "java/lang/invoke/MethodHandle" ∧ yX2_add.cls ≠ "java/lang/invoke/VarHandle" ∧ (parseMethodDescriptor yX2_add.desc).map (fun d => d.parameters.length) = some 5 := ⟨rfl, hd_X2_add⟩
theorem hd_X2_drop : yX2_drop.cls ≠ "java/lang/invoke/MethodHandle" ∧ yX2_drop.cls ≠ "java/lang/invoke/VarHandle" ∧ (parseMethodDescriptor yX2_drop.desc).map (fun d => d.parameters.length) = some 0 := by decide +kernel
theorem hdv_X2_drop : yX2_drop.cls = RX2 ∧ yX2_drop.cls ≠ "java/lang/invoke/MethodHandle" ∧ yX2_drop.cls ≠ "java/lang/invoke/VarHandle" ∧ (parseMethodDescriptor yX2_drop.desc).map (fun d => d.parameters.length) = some 0 := ⟨rfl, hd_X2_drop⟩
theorem hd_X2_settingError : yX2_settingError.cls ≠ "java/lang/invoke/MethodHandle" ∧ yX2_settingError.cls ≠ "java/lang/invoke/VarHandle" ∧ (parseMethodDescriptor yX2_settingError.desc).map (fun d => d.parameters.length) = some 2 := by decide +kernel
theorem hdv_X2_settingError : yX2_settingError.cls = RX2 ∧ yX2_settingError.cls ≠ "java/lang/invoke/MethodHandle" ∧ yX2_settingError.cls ≠ "java/lang/invoke/VarHandle" ∧ (parseMethodDescriptor yX2_settingError.desc).map (fun d => d.parameters.length) = some 2 := ⟨rfl, hd_X2_settingError⟩
theorem hd_X2_set : yX2_set.cls ≠ "java/lang/invoke/MethodHandle" ∧ yX2_set.cls ≠ "java/lang/invoke/VarHandle" ∧ (parseMethodDescriptor yX2_set.desc).map (fun d => d.parameters.length) = some 2 := by decide +kernel
theorem hdv_X2_set : yX2_set.cls = RX2 ∧ yX2_set.cls ≠ "java/lang/invoke/MethodHandle" ∧ yX2_set.cls ≠ "java/lang/invoke/VarHandle" ∧ (parseMethodDescriptor yX2_set.desc).map (fun d => d.parameters.length) = some 2 := ⟨rfl, hd_X2_set⟩
theorem hd_X2_hits : yX2_hits.cls ≠ "java/lang/invoke/MethodHandle" ∧ yX2_hits.cls ≠ "java/lang/invoke/VarHandle" ∧ (parseMethodDescriptor yX2_hits.desc).map (fun d => d.parameters.length) = some 0 := by decide +kernel
theorem hdv_X2_hits : yX2_hits.cls = RX2 ∧ yX2_hits.cls ≠ "java/lang/invoke/MethodHandle" ∧ yX2_hits.cls ≠ "java/lang/invoke/VarHandle" ∧ (parseMethodDescriptor yX2_hits.desc).map (fun d => d.parameters.length) = some 0 := ⟨rfl, hd_X2_hits⟩
theorem hd_X2_isTick : yX2_isTick.cls ≠ "java/lang/invoke/MethodHandle" ∧ yX2_isTick.cls ≠ "java/lang/invoke/VarHandle" ∧ (parseMethodDescriptor yX2_isTick.desc).map (fun d => d.parameters.length) = some 1 := by decide +kernel
theorem hdv_X2_isTick : yX2_isTick.cls = RX2 ∧ yX2_isTick.cls ≠ "java/lang/invoke/MethodHandle" ∧ yX2_isTick.cls ≠ "java/lang/invoke/VarHandle" ∧ (parseMethodDescriptor yX2_isTick.desc).map (fun d => d.parameters.length) = some 1 := ⟨rfl, hd_X2_isTick⟩
theorem hd_X2_hear : yX2_hear.cls ≠ "java/lang/invoke/MethodHandle" ∧ yX2_hear.cls ≠ "java/lang/invoke/VarHandle" ∧ (parseMethodDescriptor yX2_hear.desc).map (fun d => d.parameters.length) = some 2 := by decide +kernel
theorem hdv_X2_hear : yX2_hear.cls = RX2 ∧ yX2_hear.cls ≠ "java/lang/invoke/MethodHandle" ∧ yX2_hear.cls ≠ "java/lang/invoke/VarHandle" ∧ (parseMethodDescriptor yX2_hear.desc).map (fun d => d.parameters.length) = some 2 := ⟨rfl, hd_X2_hear⟩
theorem hd_X2_size : yX2_size.cls ≠ "java/lang/invoke/MethodHandle" ∧ yX2_size.cls ≠ "java/lang/invoke/VarHandle" ∧ (parseMethodDescriptor yX2_size.desc).map (fun d => d.parameters.length) = some 1 := by decide +kernel
theorem hdv_X2_size : yX2_size.cls = RX2 ∧ yX2_size.cls ≠ "java/lang/invoke/MethodHandle" ∧ yX2_size.cls ≠ "java/lang/invoke/VarHandle" ∧ (parseMethodDescriptor yX2_size.desc).map (fun d => d.parameters.length) = some 1 := ⟨rfl, hd_X2_size⟩
theorem hd_X2_wantedIn : yX2_wantedIn.cls ≠ "java/lang/invoke/MethodHandle" ∧ yX2_wantedIn.cls ≠ "java/lang/invoke/VarHandle" ∧ (parseMethodDescriptor yX2_wantedIn.desc).map (fun d => d.parameters.length) = some 2 := by decide +kernel
theorem hdv_X2_wantedIn : yX2_wantedIn.cls = RX2 ∧ yX2_wantedIn.cls ≠ "java/lang/invoke/MethodHandle" ∧ yX2_wantedIn.cls ≠ "java/lang/invoke/VarHandle" ∧ (parseMethodDescriptor yX2_wantedIn.desc).map (fun d => d.parameters.length) = some 2 := ⟨rfl, hd_X2_wantedIn⟩
theorem hd_X2_matches : yX2_matches.cls ≠ "java/lang/invoke/MethodHandle" ∧ yX2_matches.cls ≠ "java/lang/invoke/VarHandle" ∧ (parseMethodDescriptor yX2_matches.desc).map (fun d => d.parameters.length) = some 2 := by decide +kernel
theorem hdv_X2_matches : yX2_matches.cls = RX2 ∧ yX2_matches.cls ≠ "java/lang/invoke/MethodHandle" ∧ yX2_matches.cls ≠ "java/lang/invoke/VarHandle" ∧ (parseMethodDescriptor yX2_matches.desc).map (fun d => d.parameters.length) = some 2 := ⟨rfl, hd_X2_matches⟩
theorem hd_X2_isOnset : yX2_isOnset.cls ≠ "java/lang/invoke/MethodHandle" ∧ yX2_isOnset.cls ≠ "java/lang/invoke/VarHandle" ∧ (parseMethodDescriptor yX2_isOnset.desc).map (fun d => d.parameters.length) = some 1 := by decide +kernel
theorem hdv_X2_isOnset : yX2_isOnset.cls = RX2 ∧ yX2_isOnset.cls ≠ "java/lang/invoke/MethodHandle" ∧ yX2_isOnset.cls ≠ "java/lang/invoke/VarHandle" ∧ (parseMethodDescriptor yX2_isOnset.desc).map (fun d => d.parameters.length) = some 1 := ⟨rfl, hd_X2_isOnset⟩
theorem hd_X2_nearestOnset : yX2_nearestOnset.cls ≠ "java/lang/invoke/MethodHandle" ∧ yX2_nearestOnset.cls ≠ "java/lang/invoke/VarHandle" ∧ (parseMethodDescriptor yX2_nearestOnset.desc).map (fun d => d.parameters.length) = some 1 := by decide +kernel
theorem hdv_X2_nearestOnset : yX2_nearestOnset.cls = RX2 ∧ yX2_nearestOnset.cls ≠ "java/lang/invoke/MethodHandle" ∧ yX2_nearestOnset.cls ≠ "java/lang/invoke/VarHandle" ∧ (parseMethodDescriptor yX2_nearestOnset.desc).map (fun d => d.parameters.length) = some 1 := ⟨rfl, hd_X2_nearestOnset⟩
theorem hd_X2_bars : yX2_bars.cls ≠ "java/lang/invoke/MethodHandle" ∧ yX2_bars.cls ≠ "java/lang/invoke/VarHandle" ∧ (parseMethodDescriptor yX2_bars.desc).map (fun d => d.parameters.length) = some 2 := by decide +kernel
theorem hdv_X2_bars : yX2_bars.cls = RX2 ∧ yX2_bars.cls ≠ "java/lang/invoke/MethodHandle" ∧ yX2_bars.cls ≠ "java/lang/invoke/VarHandle" ∧ (parseMethodDescriptor yX2_bars.desc).map (fun d => d.parameters.length) = some 2 := ⟨rfl, hd_X2_bars⟩
theorem hd_X2_share : yX2_share.cls ≠ "java/lang/invoke/MethodHandle" ∧ yX2_share.cls ≠ "java/lang/invoke/VarHandle" ∧ (parseMethodDescriptor yX2_share.desc).map (fun d => d.parameters.length) = some 1 := by decide +kernel
theorem hdv_X2_share : yX2_share.cls = RX2 ∧ yX2_share.cls ≠ "java/lang/invoke/MethodHandle" ∧ yX2_share.cls ≠ "java/lang/invoke/VarHandle" ∧ (parseMethodDescriptor yX2_share.desc).map (fun d => d.parameters.length) = some 1 := ⟨rfl, hd_X2_share⟩
theorem hd_X2_pointsOf : yX2_pointsOf.cls ≠ "java/lang/invoke/MethodHandle" ∧ yX2_pointsOf.cls ≠ "java/lang/invoke/VarHandle" ∧ (parseMethodDescriptor yX2_pointsOf.desc).map (fun d => d.parameters.length) = some 1 := by decide +kernel
theorem hdv_X2_pointsOf : yX2_pointsOf.cls = RX2 ∧ yX2_pointsOf.cls ≠ "java/lang/invoke/MethodHandle" ∧ yX2_pointsOf.cls ≠ "java/lang/invoke/VarHandle" ∧ (parseMethodDescriptor yX2_pointsOf.desc).map (fun d => d.parameters.length) = some 1 := ⟨rfl, hd_X2_pointsOf⟩
theorem hd_X2_reasonOf : yX2_reasonOf.cls ≠ "java/lang/invoke/MethodHandle" ∧ yX2_reasonOf.cls ≠ "java/lang/invoke/VarHandle" ∧ (parseMethodDescriptor yX2_reasonOf.desc).map (fun d => d.parameters.length) = some 1 := by decide +kernel
theorem hdv_X2_reasonOf : yX2_reasonOf.cls = RX2 ∧ yX2_reasonOf.cls ≠ "java/lang/invoke/MethodHandle" ∧ yX2_reasonOf.cls ≠ "java/lang/invoke/VarHandle" ∧ (parseMethodDescriptor yX2_reasonOf.desc).map (fun d => d.parameters.length) = some 1 := ⟨rfl, hd_X2_reasonOf⟩
theorem hd_X2_judge : yX2_judge.cls ≠ "java/lang/invoke/MethodHandle" ∧ yX2_judge.cls ≠ "java/lang/invoke/VarHandle" ∧ (parseMethodDescriptor yX2_judge.desc).map (fun d => d.parameters.length) = some 0 := by decide +kernel
theorem hdv_X2_judge : yX2_judge.cls = RX2 ∧ yX2_judge.cls ≠ "java/lang/invoke/MethodHandle" ∧ yX2_judge.cls ≠ "java/lang/invoke/VarHandle" ∧ (parseMethodDescriptor yX2_judge.desc).map (fun d => d.parameters.length) = some 0 := ⟨rfl, hd_X2_judge⟩
theorem hd_X2_judgeSong : yX2_judgeSong.cls ≠ "java/lang/invoke/MethodHandle" ∧ yX2_judgeSong.cls ≠ "java/lang/invoke/VarHandle" ∧ (parseMethodDescriptor yX2_judgeSong.desc).map (fun d => d.parameters.length) = some 0 := by decide +kernel
theorem hdv_X2_judgeSong : yX2_judgeSong.cls = RX2 ∧ yX2_judgeSong.cls ≠ "java/lang/invoke/MethodHandle" ∧ yX2_judgeSong.cls ≠ "java/lang/invoke/VarHandle" ∧ (parseMethodDescriptor yX2_judgeSong.desc).map (fun d => d.parameters.length) = some 0 := ⟨rfl, hd_X2_judgeSong⟩
theorem hd_X2_sing : yX2_sing.cls ≠ "java/lang/invoke/MethodHandle" ∧ yX2_sing.cls ≠ "java/lang/invoke/VarHandle" ∧ (parseMethodDescriptor yX2_sing.desc).map (fun d => d.parameters.length) = some 3 := by decide +kernel
theorem hdv_X2_sing : yX2_sing.cls = RX2 ∧ yX2_sing.cls ≠ "java/lang/invoke/MethodHandle" ∧ yX2_sing.cls ≠ "java/lang/invoke/VarHandle" ∧ (parseMethodDescriptor yX2_sing.desc).map (fun d => d.parameters.length) = some 3 := ⟨rfl, hd_X2_sing⟩
theorem hd_X2_silence : yX2_silence.cls ≠ "java/lang/invoke/MethodHandle" ∧ yX2_silence.cls ≠ "java/lang/invoke/VarHandle" ∧ (parseMethodDescriptor yX2_silence.desc).map (fun d => d.parameters.length) = some 2 := by decide +kernel
theorem hdv_X2_silence : yX2_silence.cls = RX2 ∧ yX2_silence.cls ≠ "java/lang/invoke/MethodHandle" ∧ yX2_silence.cls ≠ "java/lang/invoke/VarHandle" ∧ (parseMethodDescriptor yX2_silence.desc).map (fun d => d.parameters.length) = some 2 := ⟨rfl, hd_X2_silence⟩
theorem hd_X2_isSyllable : yX2_isSyllable.cls ≠ "java/lang/invoke/MethodHandle" ∧ yX2_isSyllable.cls ≠ "java/lang/invoke/VarHandle" ∧ (parseMethodDescriptor yX2_isSyllable.desc).map (fun d => d.parameters.length) = some 1 := by decide +kernel
theorem hdv_X2_isSyllable : yX2_isSyllable.cls = RX2 ∧ yX2_isSyllable.cls ≠ "java/lang/invoke/MethodHandle" ∧ yX2_isSyllable.cls ≠ "java/lang/invoke/VarHandle" ∧ (parseMethodDescriptor yX2_isSyllable.desc).map (fun d => d.parameters.length) = some 1 := ⟨rfl, hd_X2_isSyllable⟩
theorem hd_X2_singAlong : yX2_singAlong.cls ≠ "java/lang/invoke/MethodHandle" ∧ yX2_singAlong.cls ≠ "java/lang/invoke/VarHandle" ∧ (parseMethodDescriptor yX2_singAlong.desc).map (fun d => d.parameters.length) = some 3 := by decide +kernel
theorem hdv_X2_singAlong : yX2_singAlong.cls = RX2 ∧ yX2_singAlong.cls ≠ "java/lang/invoke/MethodHandle" ∧ yX2_singAlong.cls ≠ "java/lang/invoke/VarHandle" ∧ (parseMethodDescriptor yX2_singAlong.desc).map (fun d => d.parameters.length) = some 3 := ⟨rfl, hd_X2_singAlong⟩
theorem hd_X2_type : yX2_type.cls ≠ "java/lang/invoke/MethodHandle" ∧ yX2_type.cls ≠ "java/lang/invoke/VarHandle" ∧ (parseMethodDescriptor yX2_type.desc).map (fun d => d.parameters.length) = some 1 := by decide +kernel
theorem hdv_X2_type : yX2_type.cls = RX2 ∧ yX2_type.cls ≠ "java/lang/invoke/MethodHandle" ∧ yX2_type.cls ≠ "java/lang/invoke/VarHandle" ∧ (parseMethodDescriptor yX2_type.desc).map (fun d => d.parameters.length) = some 1 := ⟨rfl, hd_X2_type⟩
theorem hd_X2_clearText : yX2_clearText.cls ≠ "java/lang/invoke/MethodHandle" ∧ yX2_clearText.cls ≠ "java/lang/invoke/VarHandle" ∧ (parseMethodDescriptor yX2_clearText.desc).map (fun d => d.parameters.length) = some 0 := by decide +kernel
theorem hdv_X2_clearText : yX2_clearText.cls = RX2 ∧ yX2_clearText.cls ≠ "java/lang/invoke/MethodHandle" ∧ yX2_clearText.cls ≠ "java/lang/invoke/VarHandle" ∧ (parseMethodDescriptor yX2_clearText.desc).map (fun d => d.parameters.length) = some 0 := ⟨rfl, hd_X2_clearText⟩
theorem hd_X2_isNext : yX2_isNext.cls ≠ "java/lang/invoke/MethodHandle" ∧ yX2_isNext.cls ≠ "java/lang/invoke/VarHandle" ∧ (parseMethodDescriptor yX2_isNext.desc).map (fun d => d.parameters.length) = some 2 := by decide +kernel
theorem hdv_X2_isNext : yX2_isNext.cls = RX2 ∧ yX2_isNext.cls ≠ "java/lang/invoke/MethodHandle" ∧ yX2_isNext.cls ≠ "java/lang/invoke/VarHandle" ∧ (parseMethodDescriptor yX2_isNext.desc).map (fun d => d.parameters.length) = some 2 := ⟨rfl, hd_X2_isNext⟩
theorem hd_X2_readNumber : yX2_readNumber.cls ≠ "java/lang/invoke/MethodHandle" ∧ yX2_readNumber.cls ≠ "java/lang/invoke/VarHandle" ∧ (parseMethodDescriptor yX2_readNumber.desc).map (fun d => d.parameters.length) = some 3 := by decide +kernel
theorem hdv_X2_readNumber : yX2_readNumber.cls = RX2 ∧ yX2_readNumber.cls ≠ "java/lang/invoke/MethodHandle" ∧ yX2_readNumber.cls ≠ "java/lang/invoke/VarHandle" ∧ (parseMethodDescriptor yX2_readNumber.desc).map (fun d => d.parameters.length) = some 3 := ⟨rfl, hd_X2_readNumber⟩
theorem hd_X2_takes : yX2_takes.cls ≠ "java/lang/invoke/MethodHandle" ∧ yX2_takes.cls ≠ "java/lang/invoke/VarHandle" ∧ (parseMethodDescriptor yX2_takes.desc).map (fun d => d.parameters.length) = some 1 := by decide +kernel
theorem hdv_X2_takes : yX2_takes.cls = RX2 ∧ yX2_takes.cls ≠ "java/lang/invoke/MethodHandle" ∧ yX2_takes.cls ≠ "java/lang/invoke/VarHandle" ∧ (parseMethodDescriptor yX2_takes.desc).map (fun d => d.parameters.length) = some 1 := ⟨rfl, hd_X2_takes⟩
theorem hd_X2_readSyllable : yX2_readSyllable.cls ≠ "java/lang/invoke/MethodHandle" ∧ yX2_readSyllable.cls ≠ "java/lang/invoke/VarHandle" ∧ (parseMethodDescriptor yX2_readSyllable.desc).map (fun d => d.parameters.length) = some 0 := by decide +kernel
theorem hdv_X2_readSyllable : yX2_readSyllable.cls = RX2 ∧ yX2_readSyllable.cls ≠ "java/lang/invoke/MethodHandle" ∧ yX2_readSyllable.cls ≠ "java/lang/invoke/VarHandle" ∧ (parseMethodDescriptor yX2_readSyllable.desc).map (fun d => d.parameters.length) = some 0 := ⟨rfl, hd_X2_readSyllable⟩
theorem hd_X2_readText : yX2_readText.cls ≠ "java/lang/invoke/MethodHandle" ∧ yX2_readText.cls ≠ "java/lang/invoke/VarHandle" ∧ (parseMethodDescriptor yX2_readText.desc).map (fun d => d.parameters.length) = some 1 := by decide +kernel
theorem hdv_X2_readText : yX2_readText.cls = RX2 ∧ yX2_readText.cls ≠ "java/lang/invoke/MethodHandle" ∧ yX2_readText.cls ≠ "java/lang/invoke/VarHandle" ∧ (parseMethodDescriptor yX2_readText.desc).map (fun d => d.parameters.length) = some 1 := ⟨rfl, hd_X2_readText⟩
theorem hd_X2_read : yX2_read.cls ≠ "java/lang/invoke/MethodHandle" ∧ yX2_read.cls ≠ "java/lang/invoke/VarHandle" ∧ (parseMethodDescriptor yX2_read.desc).map (fun d => d.parameters.length) = some 0 := by decide +kernel
theorem hdv_X2_read : yX2_read.cls = RX2 ∧ yX2_read.cls ≠ "java/lang/invoke/MethodHandle" ∧ yX2_read.cls ≠ "java/lang/invoke/VarHandle" ∧ (parseMethodDescriptor yX2_read.desc).map (fun d => d.parameters.length) = some 0 := ⟨rfl, hd_X2_read⟩
theorem hd_X2_undo : yX2_undo.cls ≠ "java/lang/invoke/MethodHandle" ∧ yX2_undo.cls ≠ "java/lang/invoke/VarHandle" ∧ (parseMethodDescriptor yX2_undo.desc).map (fun d => d.parameters.length) = some 0 := by decide +kernel
theorem hdv_X2_undo : yX2_undo.cls = RX2 ∧ yX2_undo.cls ≠ "java/lang/invoke/MethodHandle" ∧ yX2_undo.cls ≠ "java/lang/invoke/VarHandle" ∧ (parseMethodDescriptor yX2_undo.desc).map (fun d => d.parameters.length) = some 0 := ⟨rfl, hd_X2_undo⟩
theorem hd_X2_keep : yX2_keep.cls ≠ "java/lang/invoke/MethodHandle" ∧ yX2_keep.cls ≠ "java/lang/invoke/VarHandle" ∧ (parseMethodDescriptor yX2_keep.desc).map (fun d => d.parameters.length) = some 0 := by decide +kernel
theorem hdv_X2_keep : yX2_keep.cls = RX2 ∧ yX2_keep.cls ≠ "java/lang/invoke/MethodHandle" ∧ yX2_keep.cls ≠ "java/lang/invoke/VarHandle" ∧ (parseMethodDescriptor yX2_keep.desc).map (fun d => d.parameters.length) = some 0 := ⟨rfl, hd_X2_keep⟩
theorem hd_X2_restore : yX2_restore.cls ≠ "java/lang/invoke/MethodHandle" ∧ yX2_restore.cls ≠ "java/lang/invoke/VarHandle" ∧ (parseMethodDescriptor yX2_restore.desc).map (fun d => d.parameters.length) = some 0 := by decide +kernel
theorem hdv_X2_restore : yX2_restore.cls = RX2 ∧ yX2_restore.cls ≠ "java/lang/invoke/MethodHandle" ∧ yX2_restore.cls ≠ "java/lang/invoke/VarHandle" ∧ (parseMethodDescriptor yX2_restore.desc).map (fun d => d.parameters.length) = some 0 := ⟨rfl, hd_X2_restore⟩
theorem hd_X2_phraseOf : yX2_phraseOf.cls ≠ "java/lang/invoke/MethodHandle" ∧ yX2_phraseOf.cls ≠ "java/lang/invoke/VarHandle" ∧ (parseMethodDescriptor yX2_phraseOf.desc).map (fun d => d.parameters.length) = some 1 := by decide +kernel
theorem hdv_X2_phraseOf : yX2_phraseOf.cls = RX2 ∧ yX2_phraseOf.cls ≠ "java/lang/invoke/MethodHandle" ∧ yX2_phraseOf.cls ≠ "java/lang/invoke/VarHandle" ∧ (parseMethodDescriptor yX2_phraseOf.desc).map (fun d => d.parameters.length) = some 1 := ⟨rfl, hd_X2_phraseOf⟩
theorem hd_X2_syllable : yX2_syllable.cls ≠ "java/lang/invoke/MethodHandle" ∧ yX2_syllable.cls ≠ "java/lang/invoke/VarHandle" ∧ (parseMethodDescriptor yX2_syllable.desc).map (fun d => d.parameters.length) = some 2 := by decide +kernel
theorem hdv_X2_syllable : yX2_syllable.cls = RX2 ∧ yX2_syllable.cls ≠ "java/lang/invoke/MethodHandle" ∧ yX2_syllable.cls ≠ "java/lang/invoke/VarHandle" ∧ (parseMethodDescriptor yX2_syllable.desc).map (fun d => d.parameters.length) = some 2 := ⟨rfl, hd_X2_syllable⟩
theorem hd_X2_syllableAt : yX2_syllableAt.cls ≠ "java/lang/invoke/MethodHandle" ∧ yX2_syllableAt.cls ≠ "java/lang/invoke/VarHandle" ∧ (parseMethodDescriptor yX2_syllableAt.desc).map (fun d => d.parameters.length) = some 1 := by decide +kernel
theorem hdv_X2_syllableAt : yX2_syllableAt.cls = RX2 ∧ yX2_syllableAt.cls ≠ "java/lang/invoke/MethodHandle" ∧ yX2_syllableAt.cls ≠ "java/lang/invoke/VarHandle" ∧ (parseMethodDescriptor yX2_syllableAt.desc).map (fun d => d.parameters.length) = some 1 := ⟨rfl, hd_X2_syllableAt⟩
theorem hd_X2_wanted : yX2_wanted.cls ≠ "java/lang/invoke/MethodHandle" ∧ yX2_wanted.cls ≠ "java/lang/invoke/VarHandle" ∧ (parseMethodDescriptor yX2_wanted.desc).map (fun d => d.parameters.length) = some 1 := by decide +kernel
theorem hdv_X2_wanted : yX2_wanted.cls = RX2 ∧ yX2_wanted.cls ≠ "java/lang/invoke/MethodHandle" ∧ yX2_wanted.cls ≠ "java/lang/invoke/VarHandle" ∧ (parseMethodDescriptor yX2_wanted.desc).map (fun d => d.parameters.length) = some 1 := ⟨rfl, hd_X2_wanted⟩
theorem hd_X2_sung : yX2_sung.cls ≠ "java/lang/invoke/MethodHandle" ∧ yX2_sung.cls ≠ "java/lang/invoke/VarHandle" ∧ (parseMethodDescriptor yX2_sung.desc).map (fun d => d.parameters.length) = some 1 := by decide +kernel
theorem hdv_X2_sung : yX2_sung.cls = RX2 ∧ yX2_sung.cls ≠ "java/lang/invoke/MethodHandle" ∧ yX2_sung.cls ≠ "java/lang/invoke/VarHandle" ∧ (parseMethodDescriptor yX2_sung.desc).map (fun d => d.parameters.length) = some 1 := ⟨rfl, hd_X2_sung⟩
theorem hd_X2_lit : yX2_lit.cls ≠ "java/lang/invoke/MethodHandle" ∧ yX2_lit.cls ≠ "java/lang/invoke/VarHandle" ∧ (parseMethodDescriptor yX2_lit.desc).map (fun d => d.parameters.length) = some 2 := by decide +kernel
theorem hdv_X2_lit : yX2_lit.cls = RX2 ∧ yX2_lit.cls ≠ "java/lang/invoke/MethodHandle" ∧ yX2_lit.cls ≠ "java/lang/invoke/VarHandle" ∧ (parseMethodDescriptor yX2_lit.desc).map (fun d => d.parameters.length) = some 2 := ⟨rfl, hd_X2_lit⟩
theorem hd_X2_ofPhrase : yX2_ofPhrase.cls ≠ "java/lang/invoke/MethodHandle" ∧ yX2_ofPhrase.cls ≠ "java/lang/invoke/VarHandle" ∧ (parseMethodDescriptor yX2_ofPhrase.desc).map (fun d => d.parameters.length) = some 2 := by decide +kernel
theorem hdv_X2_ofPhrase : yX2_ofPhrase.cls = RX2 ∧ yX2_ofPhrase.cls ≠ "java/lang/invoke/MethodHandle" ∧ yX2_ofPhrase.cls ≠ "java/lang/invoke/VarHandle" ∧ (parseMethodDescriptor yX2_ofPhrase.desc).map (fun d => d.parameters.length) = some 2 := ⟨rfl, hd_X2_ofPhrase⟩
theorem hd_X2_phrases : yX2_phrases.cls ≠ "java/lang/invoke/MethodHandle" ∧ yX2_phrases.cls ≠ "java/lang/invoke/VarHandle" ∧ (parseMethodDescriptor yX2_phrases.desc).map (fun d => d.parameters.length) = some 0 := by decide +kernel
theorem hdv_X2_phrases : yX2_phrases.cls = RX2 ∧ yX2_phrases.cls ≠ "java/lang/invoke/MethodHandle" ∧ yX2_phrases.cls ≠ "java/lang/invoke/VarHandle" ∧ (parseMethodDescriptor yX2_phrases.desc).map (fun d => d.parameters.length) = some 0 := ⟨rfl, hd_X2_phrases⟩
theorem hd_X2_phrase : yX2_phrase.cls ≠ "java/lang/invoke/MethodHandle" ∧ yX2_phrase.cls ≠ "java/lang/invoke/VarHandle" ∧ (parseMethodDescriptor yX2_phrase.desc).map (fun d => d.parameters.length) = some 2 := by decide +kernel
theorem hdv_X2_phrase : yX2_phrase.cls = RX2 ∧ yX2_phrase.cls ≠ "java/lang/invoke/MethodHandle" ∧ yX2_phrase.cls ≠ "java/lang/invoke/VarHandle" ∧ (parseMethodDescriptor yX2_phrase.desc).map (fun d => d.parameters.length) = some 2 := ⟨rfl, hd_X2_phrase⟩
theorem hd_X2_allPoints : yX2_allPoints.cls ≠ "java/lang/invoke/MethodHandle" ∧ yX2_allPoints.cls ≠ "java/lang/invoke/VarHandle" ∧ (parseMethodDescriptor yX2_allPoints.desc).map (fun d => d.parameters.length) = some 0 := by decide +kernel
theorem hdv_X2_allPoints : yX2_allPoints.cls = RX2 ∧ yX2_allPoints.cls ≠ "java/lang/invoke/MethodHandle" ∧ yX2_allPoints.cls ≠ "java/lang/invoke/VarHandle" ∧ (parseMethodDescriptor yX2_allPoints.desc).map (fun d => d.parameters.length) = some 0 := ⟨rfl, hd_X2_allPoints⟩
theorem hd_X2_mostPoints : yX2_mostPoints.cls ≠ "java/lang/invoke/MethodHandle" ∧ yX2_mostPoints.cls ≠ "java/lang/invoke/VarHandle" ∧ (parseMethodDescriptor yX2_mostPoints.desc).map (fun d => d.parameters.length) = some 0 := by decide +kernel
theorem hdv_X2_mostPoints : yX2_mostPoints.cls = RX2 ∧ yX2_mostPoints.cls ≠ "java/lang/invoke/MethodHandle" ∧ yX2_mostPoints.cls ≠ "java/lang/invoke/VarHandle" ∧ (parseMethodDescriptor yX2_mostPoints.desc).map (fun d => d.parameters.length) = some 0 := ⟨rfl, hd_X2_mostPoints⟩
theorem hd_X2_onsets : yX2_onsets.cls ≠ "java/lang/invoke/MethodHandle" ∧ yX2_onsets.cls ≠ "java/lang/invoke/VarHandle" ∧ (parseMethodDescriptor yX2_onsets.desc).map (fun d => d.parameters.length) = some 0 := by decide +kernel
theorem hdv_X2_onsets : yX2_onsets.cls = RX2 ∧ yX2_onsets.cls ≠ "java/lang/invoke/MethodHandle" ∧ yX2_onsets.cls ≠ "java/lang/invoke/VarHandle" ∧ (parseMethodDescriptor yX2_onsets.desc).map (fun d => d.parameters.length) = some 0 := ⟨rfl, hd_X2_onsets⟩
theorem hd_X2_sungTicks : yX2_sungTicks.cls ≠ "java/lang/invoke/MethodHandle" ∧ yX2_sungTicks.cls ≠ "java/lang/invoke/VarHandle" ∧ (parseMethodDescriptor yX2_sungTicks.desc).map (fun d => d.parameters.length) = some 0 := by decide +kernel
theorem hdv_X2_sungTicks : yX2_sungTicks.cls = RX2 ∧ yX2_sungTicks.cls ≠ "java/lang/invoke/MethodHandle" ∧ yX2_sungTicks.cls ≠ "java/lang/invoke/VarHandle" ∧ (parseMethodDescriptor yX2_sungTicks.desc).map (fun d => d.parameters.length) = some 0 := ⟨rfl, hd_X2_sungTicks⟩
theorem hd_X2_total : yX2_total.cls ≠ "java/lang/invoke/MethodHandle" ∧ yX2_total.cls ≠ "java/lang/invoke/VarHandle" ∧ (parseMethodDescriptor yX2_total.desc).map (fun d => d.parameters.length) = some 1 := by decide +kernel
theorem hdv_X2_total : yX2_total.cls = RX2 ∧ yX2_total.cls ≠ "java/lang/invoke/MethodHandle" ∧ yX2_total.cls ≠ "java/lang/invoke/VarHandle" ∧ (parseMethodDescriptor yX2_total.desc).map (fun d => d.parameters.length) = some 1 := ⟨rfl, hd_X2_total⟩
theorem hd_X2_pointsShifted : yX2_pointsShifted.cls ≠ "java/lang/invoke/MethodHandle" ∧ yX2_pointsShifted.cls ≠ "java/lang/invoke/VarHandle" ∧ (parseMethodDescriptor yX2_pointsShifted.desc).map (fun d => d.parameters.length) = some 2 := by decide +kernel
theorem hdv_X2_pointsShifted : yX2_pointsShifted.cls = RX2 ∧ yX2_pointsShifted.cls ≠ "java/lang/invoke/MethodHandle" ∧ yX2_pointsShifted.cls ≠ "java/lang/invoke/VarHandle" ∧ (parseMethodDescriptor yX2_pointsShifted.desc).map (fun d => d.parameters.length) = some 2 := ⟨rfl, hd_X2_pointsShifted⟩
theorem hd_X2_ifShifted : yX2_ifShifted.cls ≠ "java/lang/invoke/MethodHandle" ∧ yX2_ifShifted.cls ≠ "java/lang/invoke/VarHandle" ∧ (parseMethodDescriptor yX2_ifShifted.desc).map (fun d => d.parameters.length) = some 2 := by decide +kernel
theorem hdv_X2_ifShifted : yX2_ifShifted.cls = RX2 ∧ yX2_ifShifted.cls ≠ "java/lang/invoke/MethodHandle" ∧ yX2_ifShifted.cls ≠ "java/lang/invoke/VarHandle" ∧ (parseMethodDescriptor yX2_ifShifted.desc).map (fun d => d.parameters.length) = some 2 := ⟨rfl, hd_X2_ifShifted⟩
theorem hd_X2_bestShift : yX2_bestShift.cls ≠ "java/lang/invoke/MethodHandle" ∧ yX2_bestShift.cls ≠ "java/lang/invoke/VarHandle" ∧ (parseMethodDescriptor yX2_bestShift.desc).map (fun d => d.parameters.length) = some 0 := by decide +kernel
theorem hdv_X2_bestShift : yX2_bestShift.cls = RX2 ∧ yX2_bestShift.cls ≠ "java/lang/invoke/MethodHandle" ∧ yX2_bestShift.cls ≠ "java/lang/invoke/VarHandle" ∧ (parseMethodDescriptor yX2_bestShift.desc).map (fun d => d.parameters.length) = some 0 := ⟨rfl, hd_X2_bestShift⟩
theorem hd_X2_ifSet : yX2_ifSet.cls ≠ "java/lang/invoke/MethodHandle" ∧ yX2_ifSet.cls ≠ "java/lang/invoke/VarHandle" ∧ (parseMethodDescriptor yX2_ifSet.desc).map (fun d => d.parameters.length) = some 2 := by decide +kernel
theorem hdv_X2_ifSet : yX2_ifSet.cls = RX2 ∧ yX2_ifSet.cls ≠ "java/lang/invoke/MethodHandle" ∧ yX2_ifSet.cls ≠ "java/lang/invoke/VarHandle" ∧ (parseMethodDescriptor yX2_ifSet.desc).map (fun d => d.parameters.length) = some 2 := ⟨rfl, hd_X2_ifSet⟩
theorem hd_X2_worst : yX2_worst.cls ≠ "java/lang/invoke/MethodHandle" ∧ yX2_worst.cls ≠ "java/lang/invoke/VarHandle" ∧ (parseMethodDescriptor yX2_worst.desc).map (fun d => d.parameters.length) = some 0 := by decide +kernel
theorem hdv_X2_worst : yX2_worst.cls = RX2 ∧ yX2_worst.cls ≠ "java/lang/invoke/MethodHandle" ∧ yX2_worst.cls ≠ "java/lang/invoke/VarHandle" ∧ (parseMethodDescriptor yX2_worst.desc).map (fun d => d.parameters.length) = some 0 := ⟨rfl, hd_X2_worst⟩
theorem hdi_J3_hasNext : (⟨"java/util/Iterator", "hasNext", "()Z"⟩ : MethodName).cls ≠ "java/lang/invoke/MethodHandle" ∧ (⟨"java/util/Iterator", "hasNext", "()Z"⟩ : MethodName).cls ≠ "java/lang/invoke/VarHandle" ∧ (parseMethodDescriptor (⟨"java/util/Iterator", "hasNext", "()Z"⟩ : MethodName).desc).map (fun d => d.parameters.length) = some 0 := by decide +kernel
theorem hdi_J3_next : (⟨"java/util/Iterator", "next", "()Ljava/lang/Object;"⟩ : MethodName).cls ≠ "java/lang/invoke/MethodHandle" ∧ (⟨"java/util/Iterator", "next", "()Ljava/lang/Object;"⟩ : MethodName).cls ≠ "java/lang/invoke/VarHandle" ∧ (parseMethodDescriptor (⟨"java/util/Iterator", "next", "()Ljava/lang/Object;"⟩ : MethodName).desc).map (fun d => d.parameters.length) = some 0 := by decide +kernel
theorem hdi_J2_iterator : (⟨"java/util/List", "iterator", "()Ljava/util/Iterator;"⟩ : MethodName).cls ≠ "java/lang/invoke/MethodHandle" ∧ (⟨"java/util/List", "iterator", "()Ljava/util/Iterator;"⟩ : MethodName).cls ≠ "java/lang/invoke/VarHandle" ∧ (parseMethodDescriptor (⟨"java/util/List", "iterator", "()Ljava/util/Iterator;"⟩ : MethodName).desc).map (fun d => d.parameters.length) = some 0 := by decide +kernel
theorem hdi_J2_add : (⟨"java/util/List", "add", "(Ljava/lang/Object;)Z"⟩ : MethodName).cls ≠ "java/lang/invoke/MethodHandle" ∧ (⟨"java/util/List", "add", "(Ljava/lang/Object;)Z"⟩ : MethodName).cls ≠ "java/lang/invoke/VarHandle" ∧ (parseMethodDescriptor (⟨"java/util/List", "add", "(Ljava/lang/Object;)Z"⟩ : MethodName).desc).map (fun d => d.parameters.length) = some 1 := by decide +kernel
theorem hdi_J2_isEmpty : (⟨"java/util/List", "isEmpty", "()Z"⟩ : MethodName).cls ≠ "java/lang/invoke/MethodHandle" ∧ (⟨"java/util/List", "isEmpty", "()Z"⟩ : MethodName).cls ≠ "java/lang/invoke/VarHandle" ∧ (parseMethodDescriptor (⟨"java/util/List", "isEmpty", "()Z"⟩ : MethodName).desc).map (fun d => d.parameters.length) = some 0 := by decide +kernel
theorem hdi_J2_size : (⟨"java/util/List", "size", "()I"⟩ : MethodName).cls ≠ "java/lang/invoke/MethodHandle" ∧ (⟨"java/util/List", "size", "()I"⟩ : MethodName).cls ≠ "java/lang/invoke/VarHandle" ∧ (parseMethodDescriptor (⟨"java/util/List", "size", "()I"⟩ : MethodName).desc).map (fun d => d.parameters.length) = some 0 := by decide +kernel
theorem hdi_J2_get : (⟨"java/util/List", "get", "(I)Ljava/lang/Object;"⟩ : MethodName).cls ≠ "java/lang/invoke/MethodHandle" ∧ (⟨"java/util/List", "get", "(I)Ljava/lang/Object;"⟩ : MethodName).cls ≠ "java/lang/invoke/VarHandle" ∧ (parseMethodDescriptor (⟨"java/util/List", "get", "(I)Ljava/lang/Object;"⟩ : MethodName).desc).map (fun d => d.parameters.length) = some 1 := by decide +kernel
theorem hdi_J2_remove : (⟨"java/util/List", "remove", "(I)Ljava/lang/Object;"⟩ : MethodName).cls ≠ "java/lang/invoke/MethodHandle" ∧ (⟨"java/util/List", "remove", "(I)Ljava/lang/Object;"⟩ : MethodName).cls ≠ "java/lang/invoke/VarHandle" ∧ (parseMethodDescriptor (⟨"java/util/List", "remove", "(I)Ljava/lang/Object;"⟩ : MethodName).desc).map (fun d => d.parameters.length) = some 1 := by decide +kernel
theorem hdi_J2_clear : (⟨"java/util/List", "clear", "()V"⟩ : MethodName).cls ≠ "java/lang/invoke/MethodHandle" ∧ (⟨"java/util/List", "clear", "()V"⟩ : MethodName).cls ≠ "java/lang/invoke/VarHandle" ∧ (parseMethodDescriptor (⟨"java/util/List", "clear", "()V"⟩ : MethodName).desc).map (fun d => d.parameters.length) = some 0 := by decide +kernel
