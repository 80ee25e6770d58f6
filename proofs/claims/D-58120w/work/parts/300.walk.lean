/-! WALKS, printed by gen/walk.py -/
set_option maxRecDepth 100000
section WALK
variable {p : Program} {l : Launch} {e : Env} {s : State} {m : MethodId} {args : Array Value} {below : List Frame} {meth : Method} {c : Code} {D : xh_D} {g : Nat → Nat} {R : Room}
/-- java/util/AbstractCollection.<init>()V -/
theorem w_J0_init (C : xh_C cJ0_init 1 "java/util/AbstractCollection" D g p s m args meth c) (hr : meth.sig.returnType = (Option.none : Option Jvm.ClassFile.FieldType)) (hnm : meth.name = "<init>") (hR : 1 ≤ R.frames ∧ 20 ≤ R.locals) {rv : Unit} {hF : xh_H} (N : Nat) (a0 : Option Nat)  (h : xh_H) (H : Heap) (locs : List Loc) (cells slots kc ks : Nat) (ls : Array Slot) (hf : f_J0_init N a0 h = some (rv, hF, kc, ks)) (hS : xh_T D g s R h H locs cells slots kc ks) (hl : xh_L ls 1 [(0, va_rf a0)]) : W p l e R s m args below meth c H locs cells slots (MQ below (xh_Q D g none hF) args s R.cells R.slots (xh_A g)) (F0 m 0 ls []) := by
  have hx := C.1
  have hb := C.2.1
  unfold f_J0_init at hf
  refine xr_aload_n C dJ0_init_0 rfl (hl.at 0 rfl) ?_
  refine xr_oi C hS q103 q81 q82 hl.1.1 ⟨Nat.le_trans (Nat.le_of_ble_eq_true rfl) hR.1, Nat.le_trans (Nat.le_of_ble_eq_true rfl) hR.2⟩ xm_r0 hf dJ0_init_1 (fun hf => ?_)
  exact xr_vret C hS hr hf dJ0_init_4
theorem ct_J0_init (l : Launch) (D : xh_D) {rv : Unit} {h hF : xh_H} {kc ks : Nat} (N : Nat) {a0 : Option Nat} (hf : f_J0_init N a0 h = some (rv, hF, kc, ks)) : xh_Ct l D yJ0_init (ws_ yJ0_init cJ0_init 1 (Option.none : Option Jvm.ClassFile.FieldType)) 1 20 [va_rf a0] h none hF kc ks :=
  xh_meth (cc := cJ0_init) l (by decide) (Nat.le_of_ble_eq_true rfl) (List.forall_mem_cons.mpr ⟨va_rf_cat _, fun _ h => absurd h List.not_mem_nil⟩) fun p e s m below meth c ls C hr hnm hl hS => w_J0_init C hr hnm ⟨Nat.le_refl _, Nat.le_refl _⟩ N a0 h _ _ _ _ _ _ _ hf hS hl
/-- java/util/AbstractList.<init>()V -/
theorem w_J1_init (C : xh_C cJ1_init 1 "java/util/AbstractList" D g p s m args meth c) (hr : meth.sig.returnType = (Option.none : Option Jvm.ClassFile.FieldType)) (hnm : meth.name = "<init>") (hR : 2 ≤ R.frames ∧ 40 ≤ R.locals) {rv : Unit} {hF : xh_H} (N : Nat) (a0 : Option Nat)  (h : xh_H) (H : Heap) (locs : List Loc) (cells slots kc ks : Nat) (ls : Array Slot) (hf : f_J1_init N a0 h = some (rv, hF, kc, ks)) (hS : xh_T D g s R h H locs cells slots kc ks) (hl : xh_L ls 1 [(0, va_rf a0)]) : W p l e R s m args below meth c H locs cells slots (MQ below (xh_Q D g none hF) args s R.cells R.slots (xh_A g)) (F0 m 0 ls []) := by
  have hx := C.1
  have hb := C.2.1
  unfold f_J1_init at hf
  refine xr_aload_n C dJ1_init_0 rfl (hl.at 0 rfl) ?_
  refine xr_I (n := 0) (fr := 1) (lo := 20) (As := []) C hS q100 q101 q57 q102 rfl hd_J0_init ⟨Nat.le_trans (Nat.le_of_ble_eq_true rfl) hR.1, Nat.le_trans (Nat.le_of_ble_eq_true rfl) hR.2⟩ rfl hl.1.1 rfl xm_r0 (ci := 8) hf (fun v h1 k1 n1 e1 => ct_J0_init l D N e1) dJ1_init_1 (fun _ h H locs cells slots kc ks hS hf => ?_)
  refine W.eq (g2 := F0 m 4 ls []) rfl ?_
  refine xr_aload_n C dJ1_init_4 rfl (hl.at 0 rfl) ?_
  refine lv_iconst (v := 0) hx hb dJ1_init_5 xi_c0 ?_
  refine xr_put C hS xf_J2 0 (by decide) q110 (fun _ h => h) rfl xv_int hf dJ1_init_6 (fun h H locs hS hf => ?_)
  exact xr_vret C hS hr hf dJ1_init_9
theorem ct_J1_init (l : Launch) (D : xh_D) {rv : Unit} {h hF : xh_H} {kc ks : Nat} (N : Nat) {a0 : Option Nat} (hf : f_J1_init N a0 h = some (rv, hF, kc, ks)) : xh_Ct l D yJ1_init (ws_ yJ1_init cJ1_init 1 (Option.none : Option Jvm.ClassFile.FieldType)) 2 40 [va_rf a0] h none hF kc ks :=
  xh_meth (cc := cJ1_init) l (by decide) (Nat.le_of_ble_eq_true rfl) (List.forall_mem_cons.mpr ⟨va_rf_cat _, fun _ h => absurd h List.not_mem_nil⟩) fun p e s m below meth c ls C hr hnm hl hS => w_J1_init C hr hnm ⟨Nat.le_refl _, Nat.le_refl _⟩ N a0 h _ _ _ _ _ _ _ hf hS hl
/-- java/util/ArrayList.<init>()V -/
theorem w_J2_init (C : xh_C cJ2_init 1 "java/util/ArrayList" D g p s m args meth c) (hr : meth.sig.returnType = (Option.none : Option Jvm.ClassFile.FieldType)) (hnm : meth.name = "<init>") (hR : 3 ≤ R.frames ∧ 60 ≤ R.locals) {rv : Unit} {hF : xh_H} (N : Nat) (a0 : Option Nat)  (h : xh_H) (H : Heap) (locs : List Loc) (cells slots kc ks : Nat) (ls : Array Slot) (hf : f_J2_init N a0 h = some (rv, hF, kc, ks)) (hS : xh_T D g s R h H locs cells slots kc ks) (hl : xh_L ls 1 [(0, va_rf a0)]) : W p l e R s m args below meth c H locs cells slots (MQ below (xh_Q D g none hF) args s R.cells R.slots (xh_A g)) (F0 m 0 ls []) := by
  have hx := C.1
  have hb := C.2.1
  unfold f_J2_init at hf
  refine xr_aload_n C dJ2_init_0 rfl (hl.at 0 rfl) ?_
  refine xr_I (n := 0) (fr := 2) (lo := 40) (As := []) C hS q97 q98 q58 q99 rfl hd_J1_init ⟨Nat.le_trans (Nat.le_of_ble_eq_true rfl) hR.1, Nat.le_trans (Nat.le_of_ble_eq_true rfl) hR.2⟩ rfl hl.1.1 rfl xm_r0 (ci := 8) hf (fun v h1 k1 n1 e1 => ct_J1_init l D N e1) dJ2_init_1 (fun _ h H locs cells slots kc ks hS hf => ?_)
  refine W.eq (g2 := F0 m 4 ls []) rfl ?_
  refine xr_aload_n C dJ2_init_4 rfl (hl.at 0 rfl) ?_
  refine xr_gsE C hS q104 hf dJ2_init_5 (fun x5 hf => ?_)
  refine xr_put C hS xf_J2 1 (by decide) q106 (fun _ h => h) rfl xv_arr hf dJ2_init_8 (fun h H locs hS hf => ?_)
  exact xr_vret C hS hr hf dJ2_init_11
theorem ct_J2_init (l : Launch) (D : xh_D) {rv : Unit} {h hF : xh_H} {kc ks : Nat} (N : Nat) {a0 : Option Nat} (hf : f_J2_init N a0 h = some (rv, hF, kc, ks)) : xh_Ct l D yJ2_init (ws_ yJ2_init cJ2_init 1 (Option.none : Option Jvm.ClassFile.FieldType)) 3 60 [va_rf a0] h none hF kc ks :=
  xh_meth (cc := cJ2_init) l (by decide) (Nat.le_of_ble_eq_true rfl) (List.forall_mem_cons.mpr ⟨va_rf_cat _, fun _ h => absurd h List.not_mem_nil⟩) fun p e s m below meth c ls C hr hnm hl hS => w_J2_init C hr hnm ⟨Nat.le_refl _, Nat.le_refl _⟩ N a0 h _ _ _ _ _ _ _ hf hS hl
/-- java/util/ArrayList$Itr.<init>(Ljava/util/ArrayList;)V -/
theorem w_J3_init (C : xh_C cJ3_init 2 "java/util/ArrayList$Itr" D g p s m args meth c) (hr : meth.sig.returnType = (Option.none : Option Jvm.ClassFile.FieldType)) (hnm : meth.name = "<init>") (hR : 1 ≤ R.frames ∧ 20 ≤ R.locals) {rv : Unit} {hF : xh_H} (N : Nat) (a0 : Option Nat) (a1 : Option Nat)  (h : xh_H) (H : Heap) (locs : List Loc) (cells slots kc ks : Nat) (ls : Array Slot) (hf : f_J3_init N a0 a1 h = some (rv, hF, kc, ks)) (hS : xh_T D g s R h H locs cells slots kc ks) (hl : xh_L ls 2 [(0, va_rf a0), (1, va_rf a1)]) : W p l e R s m args below meth c H locs cells slots (MQ below (xh_Q D g none hF) args s R.cells R.slots (xh_A g)) (F0 m 0 ls []) := by
  have hx := C.1
  have hb := C.2.1
  unfold f_J3_init at hf
  refine xr_aload_n C dJ3_init_0 rfl (hl.at 0 rfl) ?_
  refine xr_aload_n C dJ3_init_1 rfl (hl.at 1 rfl) ?_
  refine xr_putF C hS hnm xf_J3 3 (by decide) q232 rfl rfl rfl xv_obj hf dJ3_init_2 (fun h H locs hS hf => ?_)
  refine xr_aload_n C dJ3_init_5 rfl (hl.at 0 rfl) ?_
  refine xr_oi C hS q228 q81 q82 hl.1.1 ⟨Nat.le_trans (Nat.le_of_ble_eq_true rfl) hR.1, Nat.le_trans (Nat.le_of_ble_eq_true rfl) hR.2⟩ xm_r0 hf dJ3_init_6 (fun hf => ?_)
  refine xr_aload_n C dJ3_init_9 rfl (hl.at 0 rfl) ?_
  refine lv_iconst (v := -1) hx hb dJ3_init_10 xi_cm1 ?_
  refine xr_put C hS xf_J3 1 (by decide) q230 (fun _ h => h) rfl xv_int hf dJ3_init_11 (fun h H locs hS hf => ?_)
  refine xr_aload_n C dJ3_init_14 rfl (hl.at 0 rfl) ?_
  refine xr_aload_n C dJ3_init_15 rfl (hl.at 0 rfl) ?_
  refine xr_getR C hS xf_J3 3 (by decide) q232 (fun _ h => h) hf dJ3_init_16 (fun x16 hf => ?_)
  refine xr_getI C hS xf_J2 0 (by decide) q111 (u_same (C.2.2.2.2.1 _ q112)) hf dJ3_init_19 (fun x19 hf => ?_)
  refine xr_put C hS xf_J3 2 (by decide) q231 (fun _ h => h) rfl xv_int hf dJ3_init_22 (fun h H locs hS hf => ?_)
  exact xr_vret C hS hr hf dJ3_init_25
theorem ct_J3_init (l : Launch) (D : xh_D) {rv : Unit} {h hF : xh_H} {kc ks : Nat} (N : Nat) {a0 : Option Nat} {a1 : Option Nat} (hf : f_J3_init N a0 a1 h = some (rv, hF, kc, ks)) : xh_Ct l D yJ3_init (ws_ yJ3_init cJ3_init 2 (Option.none : Option Jvm.ClassFile.FieldType)) 1 20 [va_rf a0, va_rf a1] h none hF kc ks :=
  xh_meth (cc := cJ3_init) l (by decide) (Nat.le_of_ble_eq_true rfl) (List.forall_mem_cons.mpr ⟨va_rf_cat _, List.forall_mem_cons.mpr ⟨va_rf_cat _, fun _ h => absurd h List.not_mem_nil⟩⟩) fun p e s m below meth c ls C hr hnm hl hS => w_J3_init C hr hnm ⟨Nat.le_refl _, Nat.le_refl _⟩ N a0 a1 h _ _ _ _ _ _ _ hf hS hl
/-- java/util/ArrayList.iterator()Ljava/util/Iterator; -/
theorem w_J2_iterator (C : xh_C cJ2_iterator 1 "java/util/ArrayList" D g p s m args meth c) (hr : meth.sig.returnType = (Option.some (Jvm.ClassFile.FieldType.object "java/util/Iterator"))) (hR : 2 ≤ R.frames ∧ 41 ≤ R.locals) {rv : Option Nat} {hF : xh_H} (N : Nat) (a0 : Option Nat)  (h : xh_H) (H : Heap) (locs : List Loc) (cells slots kc ks : Nat) (ls : Array Slot) (hf : f_J2_iterator N a0 h = some (rv, hF, kc, ks)) (hS : xh_T D g s R h H locs cells slots kc ks) (hl : xh_L ls 1 [(0, va_rf a0)]) : W p l e R s m args below meth c H locs cells slots (MQ below (xh_Q D g (some (va_rf rv)) hF) args s R.cells R.slots (xh_A g)) (F0 m 0 ls []) := by
  have hx := C.1
  have hb := C.2.1
  unfold f_J2_iterator at hf
  refine xr_new C hS xf_J3 q223 q224 q62 (fs := [.int 0, .int 0, .int 0, .null]) rfl xd_J3 hf dJ2_iterator_0 (fun x0 h H cells slots kc ks hS hf => ?_)
  refine lv_dup hx hb dJ2_iterator_3 (va_rf_cat _) ?_
  refine xr_aload_n C dJ2_iterator_4 rfl (hl.at 0 rfl) ?_
  refine xr_I (n := 1) (fr := 1) (lo := 20) (As := [va_rf a0]) C hS q225 q226 q62 q227 rfl hd_J3_init ⟨Nat.le_trans (Nat.le_of_ble_eq_true rfl) hR.1, Nat.le_trans (Nat.le_of_ble_eq_true rfl) hR.2⟩ rfl hl.1.1 rfl (xm_rc (va_rf_cat _) xm_r0) (ci := 9) hf (fun v h1 k1 n1 e1 => ct_J3_init l D N e1) dJ2_iterator_5 (fun _ h H locs cells slots kc ks hS hf => ?_)
  refine W.eq (g2 := F0 m 8 ls [va_rf x0]) rfl ?_
  exact xr_aret C hS hr (Or.inl ⟨_, rfl⟩) hf dJ2_iterator_8
theorem ct_J2_iterator (l : Launch) (D : xh_D) {rv : Option Nat} {h hF : xh_H} {kc ks : Nat} (N : Nat) {a0 : Option Nat} (hf : f_J2_iterator N a0 h = some (rv, hF, kc, ks)) : xh_Ct l D yJ2_iterator (ws_ yJ2_iterator cJ2_iterator 1 (Option.some (Jvm.ClassFile.FieldType.object "java/util/Iterator"))) 2 41 [va_rf a0] h (some (va_rf rv)) hF kc ks :=
  xh_meth (cc := cJ2_iterator) l (by decide) (Nat.le_of_ble_eq_true rfl) (List.forall_mem_cons.mpr ⟨va_rf_cat _, fun _ h => absurd h List.not_mem_nil⟩) fun p e s m below meth c ls C hr hnm hl hS => w_J2_iterator C hr ⟨Nat.le_refl _, Nat.le_refl _⟩ N a0 h _ _ _ _ _ _ _ hf hS hl
/-- jdk/internal/util/ArraysSupport.hugeLength(II)I -/
theorem w_J4_hugeLength (C : xh_C cJ4_hugeLength 3 "jdk/internal/util/ArraysSupport" D g p s m args meth c) (hr : meth.sig.returnType = (Option.some Jvm.ClassFile.FieldType.int)) (hR : 0 ≤ R.frames ∧ 0 ≤ R.locals) {rv : Int32} {hF : xh_H} (N : Nat) (a0 : Int32) (a1 : Int32)  (h : xh_H) (H : Heap) (locs : List Loc) (cells slots kc ks : Nat) (ls : Array Slot) (hf : f_J4_hugeLength N a0 a1 h = some (rv, hF, kc, ks)) (hS : xh_T D g s R h H locs cells slots kc ks) (hl : xh_L ls 3 [(0, .int a0), (1, .int a1)]) : W p l e R s m args below meth c H locs cells slots (MQ below (xh_Q D g (some (.int rv)) hF) args s R.cells R.slots (xh_A g)) (F0 m 0 ls []) := by
  have hx := C.1
  have hb := C.2.1
  unfold f_J4_hugeLength at hf
  refine lv_iload_n hx hb dJ4_hugeLength_0 rfl (hl.at 0 rfl) ?_
  refine lv_iload_n hx hb dJ4_hugeLength_1 rfl (hl.at 1 rfl) ?_
  refine lv_iadd hx hb dJ4_hugeLength_2 ?_
  refine xr_istore_n C dJ4_hugeLength_3 rfl hl (Nat.le_of_ble_eq_true rfl) (lv' := [(2, .int (a0 + a1)), (0, .int a0), (1, .int a1)]) rfl (fun ls hl => ?_)
  refine lv_iload_n hx hb dJ4_hugeLength_4 rfl (hl.at 0 rfl) ?_
  refine lv_if_ge (tgt := 49) hx hb dJ4_hugeLength_5 (by decide) (fun c5 => ?_) (fun c5 => ?_)
  · replace hf := xb_pos c5 hf
    refine lv_iload_n hx hb dJ4_hugeLength_49 rfl (hl.at 0 rfl) ?_
    refine lv_ldc hx hb C.2.2.2.1 (C.2.2.2.2.1 _ q293) dJ4_hugeLength_50 ?_
    refine lv_icmp_gt (tgt := 58) hx hb dJ4_hugeLength_52 (by decide) (fun c52 => ?_) (fun c52 => ?_)
    · replace hf := xb_pos c52 hf
      refine lv_iload_n hx hb dJ4_hugeLength_58 rfl (hl.at 0 rfl) ?_
      exact xr_iret C hS hr hf dJ4_hugeLength_59
    · replace hf := xb_neg c52 hf
      refine lv_ldc hx hb C.2.2.2.1 (C.2.2.2.2.1 _ q293) dJ4_hugeLength_55 ?_
      exact xr_iret C hS hr hf dJ4_hugeLength_57
  · replace hf := xb_neg c5 hf
    cases hf
theorem ct_J4_hugeLength (l : Launch) (D : xh_D) {rv : Int32} {h hF : xh_H} {kc ks : Nat} (N : Nat) {a0 : Int32} {a1 : Int32} (hf : f_J4_hugeLength N a0 a1 h = some (rv, hF, kc, ks)) : xh_Ct l D yJ4_hugeLength (ws_ yJ4_hugeLength cJ4_hugeLength 3 (Option.some Jvm.ClassFile.FieldType.int)) 0 0 [.int a0, .int a1] h (some (.int rv)) hF kc ks :=
  xh_meth (cc := cJ4_hugeLength) l (by decide) (Nat.le_of_ble_eq_true rfl) (List.forall_mem_cons.mpr ⟨rfl, List.forall_mem_cons.mpr ⟨rfl, fun _ h => absurd h List.not_mem_nil⟩⟩) fun p e s m below meth c ls C hr hnm hl hS => w_J4_hugeLength C hr ⟨Nat.le_refl _, Nat.le_refl _⟩ N a0 a1 h _ _ _ _ _ _ _ hf hS hl
theorem w_J4_newLength_b21 (C : xh_C cJ4_newLength 4 "jdk/internal/util/ArraysSupport" D g p s m args meth c) (hr : meth.sig.returnType = (Option.some Jvm.ClassFile.FieldType.int)) (hR : 1 ≤ R.frames ∧ 24 ≤ R.locals) {rv : Int32} {hF : xh_H} (N : Nat) : ∀ (a0 : Int32) (a1 : Int32) (h : xh_H) (H : Heap) (locs : List Loc) (cells slots kc ks : Nat) (ls : Array Slot), f_J4_newLength_b21 N a0 a1 h = some (rv, hF, kc, ks) → xh_T D g s R h H locs cells slots kc ks → xh_L ls 4 [(0, .int a0), (1, .int a1)] → W p l e R s m args below meth c H locs cells slots (MQ below (xh_Q D g (some (.int rv)) hF) args s R.cells R.slots (xh_A g)) (F0 m 21 ls []) := by
  intro a0 a1 h H locs cells slots kc ks ls hf hS hl
  have hx := C.1
  have hb := C.2.1
  unfold f_J4_newLength_b21 at hf
  refine lv_iload_n hx hb dJ4_newLength_21 rfl (hl.at 0 rfl) ?_
  refine lv_iload_n hx hb dJ4_newLength_22 rfl (hl.at 1 rfl) ?_
  refine xr_S (V := fun v => some (.int v)) (n := 2) (fr := 0) (lo := 0) (As := [.int a0, .int a1]) C hS (lw_S q294 q295 q63 q296) hd_J4_hugeLength ⟨Nat.le_trans (Nat.le_of_ble_eq_true rfl) hR.1, Nat.le_trans (Nat.le_of_ble_eq_true rfl) hR.2⟩ rfl hl.1.1 rfl xm_r0 hf (fun v h1 k1 n1 e1 => ct_J4_hugeLength l D N e1) dJ4_newLength_23 (fun x23 h H locs cells slots kc ks hS hf => ?_)
  refine W.eq (g2 := F0 m 26 ls [.int x23]) rfl ?_
  exact xr_iret C hS hr hf dJ4_newLength_26
/-- jdk/internal/util/ArraysSupport.newLength(III)I -/
theorem w_J4_newLength (C : xh_C cJ4_newLength 4 "jdk/internal/util/ArraysSupport" D g p s m args meth c) (hr : meth.sig.returnType = (Option.some Jvm.ClassFile.FieldType.int)) (hR : 1 ≤ R.frames ∧ 24 ≤ R.locals) {rv : Int32} {hF : xh_H} (N : Nat) (a0 : Int32) (a1 : Int32) (a2 : Int32)  (h : xh_H) (H : Heap) (locs : List Loc) (cells slots kc ks : Nat) (ls : Array Slot) (hf : f_J4_newLength N a0 a1 a2 h = some (rv, hF, kc, ks)) (hS : xh_T D g s R h H locs cells slots kc ks) (hl : xh_L ls 4 [(0, .int a0), (1, .int a1), (2, .int a2)]) : W p l e R s m args below meth c H locs cells slots (MQ below (xh_Q D g (some (.int rv)) hF) args s R.cells R.slots (xh_A g)) (F0 m 0 ls []) := by
  have hx := C.1
  have hb := C.2.1
  unfold f_J4_newLength at hf
  refine lv_iload_n hx hb dJ4_newLength_0 rfl (hl.at 0 rfl) ?_
  refine lv_iload_n hx hb dJ4_newLength_1 rfl (hl.at 1 rfl) ?_
  refine lv_iload_n hx hb dJ4_newLength_2 rfl (hl.at 2 rfl) ?_
  refine xr_mx C hS hl.1.1.symm q290 q291 q64 q292 (Nat.le_trans (Nat.le_of_ble_eq_true rfl) hR.1) (xm_m13 (xm_rc rfl xm_r0) (Nat.le_trans (Nat.le_of_ble_eq_true rfl) hR.2)) dJ4_newLength_3 ?_
  refine lv_iadd hx hb dJ4_newLength_6 ?_
  refine xr_istore_n C dJ4_newLength_7 rfl hl (Nat.le_of_ble_eq_true rfl) (lv' := [(3, .int (a0 + (xh_mx a1 a2))), (0, .int a0), (1, .int a1), (2, .int a2)]) rfl (fun ls hl => ?_)
  refine lv_iconst (v := 0) hx hb dJ4_newLength_8 xi_c0 ?_
  refine lv_iload_n hx hb dJ4_newLength_9 rfl (hl.at 0 rfl) ?_
  refine lv_icmp_ge (tgt := 21) hx hb dJ4_newLength_10 (by decide) (fun c10 => ?_) (fun c10 => ?_)
  · replace hf := xb_pos c10 hf
    exact w_J4_newLength_b21 C hr hR N a0 a1  h H locs cells slots kc ks ls hf hS (hl.sub [1, 2] rfl)
  · replace hf := xb_neg c10 hf
    refine lv_iload_n hx hb dJ4_newLength_13 rfl (hl.at 0 rfl) ?_
    refine lv_ldc hx hb C.2.2.2.1 (C.2.2.2.2.1 _ q293) dJ4_newLength_14 ?_
    refine lv_icmp_gt (tgt := 21) hx hb dJ4_newLength_16 (by decide) (fun c16 => ?_) (fun c16 => ?_)
    · replace hf := xb_pos c16 hf
      exact w_J4_newLength_b21 C hr hR N a0 a1  h H locs cells slots kc ks ls hf hS (hl.sub [1, 2] rfl)
    · replace hf := xb_neg c16 hf
      refine lv_iload_n hx hb dJ4_newLength_19 rfl (hl.at 0 rfl) ?_
      exact xr_iret C hS hr hf dJ4_newLength_20
theorem ct_J4_newLength (l : Launch) (D : xh_D) {rv : Int32} {h hF : xh_H} {kc ks : Nat} (N : Nat) {a0 : Int32} {a1 : Int32} {a2 : Int32} (hf : f_J4_newLength N a0 a1 a2 h = some (rv, hF, kc, ks)) : xh_Ct l D yJ4_newLength (ws_ yJ4_newLength cJ4_newLength 4 (Option.some Jvm.ClassFile.FieldType.int)) 1 24 [.int a0, .int a1, .int a2] h (some (.int rv)) hF kc ks :=
  xh_meth (cc := cJ4_newLength) l (by decide) (Nat.le_of_ble_eq_true rfl) (List.forall_mem_cons.mpr ⟨rfl, List.forall_mem_cons.mpr ⟨rfl, List.forall_mem_cons.mpr ⟨rfl, fun _ h => absurd h List.not_mem_nil⟩⟩⟩) fun p e s m below meth c ls C hr hnm hl hS => w_J4_newLength C hr ⟨Nat.le_refl _, Nat.le_refl _⟩ N a0 a1 a2 h _ _ _ _ _ _ _ hf hS hl
/-- java/util/Arrays.copyOf([Ljava/lang/Object;ILjava/lang/Class;)[Ljava/lang/Object; -/
theorem w_J6_copyOf_2 (C : xh_C cJ6_copyOf_2 4 "java/util/Arrays" D g p s m args meth c) (hr : meth.sig.returnType = (Option.some (Jvm.ClassFile.FieldType.array (Jvm.ClassFile.FieldType.object "java/lang/Object")))) (hR : 1 ≤ R.frames ∧ 60 ≤ R.locals) {rv : Option Nat} {hF : xh_H} (N : Nat) (a0 : Option Nat) (a1 : Int32) (a2 : Option Nat)  (h : xh_H) (H : Heap) (locs : List Loc) (cells slots kc ks : Nat) (ls : Array Slot) (hf : f_J6_copyOf_2 N a0 a1 a2 h = some (rv, hF, kc, ks)) (hS : xh_T D g s R h H locs cells slots kc ks) (hl : xh_L ls 4 [(0, va_rf a0), (1, .int a1), (2, va_rf a2)]) : W p l e R s m args below meth c H locs cells slots (MQ below (xh_Q D g (some (va_rf rv)) hF) args s R.cells R.slots (xh_A g)) (F0 m 0 ls []) := by
  have hx := C.1
  have hb := C.2.1
  unfold f_J6_copyOf_2 at hf
  refine xr_aload_n C dJ6_copyOf_2_0 rfl (hl.at 2 rfl) ?_
  refine xr_ldE C hS q317 hf dJ6_copyOf_2_1 (fun x1 hf => ?_)
  refine lv_acmp_ne (tgt := 13) hx hb dJ6_copyOf_2_3 (by decide) (fun c3 => ?_) (fun c3 => ?_)
  · replace hf := xb_neg c3 hf
    refine xr_aload_n C dJ6_copyOf_2_13 rfl (hl.at 2 rfl) ?_
    cases hf
  · replace hf := xb_pos c3 hf
    refine lv_iload_n hx hb dJ6_copyOf_2_6 rfl (hl.at 1 rfl) ?_
    refine xr_nq C hS q319 hf dJ6_copyOf_2_7 (fun x7 h H cells slots kc ks hS hf => ?_)
    refine lv_goto (tgt := 24) hx hb dJ6_copyOf_2_10 (by decide) ?_
    refine xr_astore_n C dJ6_copyOf_2_24 rfl hl (Nat.le_of_ble_eq_true rfl) (lv' := [(3, va_rf x7), (0, va_rf a0), (1, .int a1), (2, va_rf a2)]) rfl (fun ls hl => ?_)
    refine xr_aload_n C dJ6_copyOf_2_25 rfl (hl.at 1 rfl) ?_
    refine lv_iconst (v := 0) hx hb dJ6_copyOf_2_26 xi_c0 ?_
    refine xr_aload_n C dJ6_copyOf_2_27 rfl (hl.at 0 rfl) ?_
    refine lv_iconst (v := 0) hx hb dJ6_copyOf_2_28 xi_c0 ?_
    refine xr_aload_n C dJ6_copyOf_2_29 rfl (hl.at 1 rfl) ?_
    refine xr_lq C hS hf dJ6_copyOf_2_30 (fun x30 hf => ?_)
    refine lv_iload_n hx hb dJ6_copyOf_2_31 rfl (hl.at 2 rfl) ?_
    refine xr_mn C hS hl.1.1.symm q320 q321 q64 q322 (Nat.le_trans (Nat.le_of_ble_eq_true rfl) hR.1) (xm_m13 (xm_rc rfl (xm_rc (va_rf_cat _) (xm_rc rfl (xm_rc (va_rf_cat _) xm_r0)))) (Nat.le_trans (Nat.le_of_ble_eq_true rfl) hR.2)) dJ6_copyOf_2_32 ?_
    refine xr_cpy C hS hl.1.1.symm q323 q325 q324 q66 (Nat.le_trans (Nat.le_of_ble_eq_true rfl) hR.1) (xm_cpy xm_r0 (Nat.le_trans (Nat.le_of_ble_eq_true rfl) hR.2)) hf dJ6_copyOf_2_35 (fun h H locs hS hf => ?_)
    refine xr_aload_n C dJ6_copyOf_2_38 rfl (hl.at 0 rfl) ?_
    exact xr_aret C hS hr (Or.inr ⟨_, rfl⟩) hf dJ6_copyOf_2_39
theorem ct_J6_copyOf_2 (l : Launch) (D : xh_D) {rv : Option Nat} {h hF : xh_H} {kc ks : Nat} (N : Nat) {a0 : Option Nat} {a1 : Int32} {a2 : Option Nat} (hf : f_J6_copyOf_2 N a0 a1 a2 h = some (rv, hF, kc, ks)) : xh_Ct l D yJ6_copyOf_2 (ws_ yJ6_copyOf_2 cJ6_copyOf_2 4 (Option.some (Jvm.ClassFile.FieldType.array (Jvm.ClassFile.FieldType.object "java/lang/Object")))) 1 60 [va_rf a0, .int a1, va_rf a2] h (some (va_rf rv)) hF kc ks :=
  xh_meth (cc := cJ6_copyOf_2) l (by decide) (Nat.le_of_ble_eq_true rfl) (List.forall_mem_cons.mpr ⟨va_rf_cat _, List.forall_mem_cons.mpr ⟨rfl, List.forall_mem_cons.mpr ⟨va_rf_cat _, fun _ h => absurd h List.not_mem_nil⟩⟩⟩) fun p e s m below meth c ls C hr hnm hl hS => w_J6_copyOf_2 C hr ⟨Nat.le_refl _, Nat.le_refl _⟩ N a0 a1 a2 h _ _ _ _ _ _ _ hf hS hl
/-- java/util/Arrays.copyOf([Ljava/lang/Object;I)[Ljava/lang/Object; -/
theorem w_J6_copyOf (C : xh_C cJ6_copyOf 2 "java/util/Arrays" D g p s m args meth c) (hr : meth.sig.returnType = (Option.some (Jvm.ClassFile.FieldType.array (Jvm.ClassFile.FieldType.object "java/lang/Object")))) (hR : 2 ≤ R.frames ∧ 83 ≤ R.locals) {rv : Option Nat} {hF : xh_H} (N : Nat) (a0 : Option Nat) (a1 : Int32)  (h : xh_H) (H : Heap) (locs : List Loc) (cells slots kc ks : Nat) (ls : Array Slot) (hf : f_J6_copyOf N a0 a1 h = some (rv, hF, kc, ks)) (hS : xh_T D g s R h H locs cells slots kc ks) (hl : xh_L ls 2 [(0, va_rf a0), (1, .int a1)]) : W p l e R s m args below meth c H locs cells slots (MQ below (xh_Q D g (some (va_rf rv)) hF) args s R.cells R.slots (xh_A g)) (F0 m 0 ls []) := by
  have hx := C.1
  have hb := C.2.1
  unfold f_J6_copyOf at hf
  refine xr_aload_n C dJ6_copyOf_0 rfl (hl.at 0 rfl) ?_
  refine lv_iload_n hx hb dJ6_copyOf_1 rfl (hl.at 1 rfl) ?_
  refine xr_aload_n C dJ6_copyOf_2 rfl (hl.at 0 rfl) ?_
  refine xr_gcE C hS hf hl.1.1.symm q300 q1122 q301 q313 (Nat.le_trans (Nat.le_of_ble_eq_true rfl) hR.1) (xm_nat (xm_rc rfl (xm_rc (va_rf_cat _) xm_r0)) (Nat.le_trans (Nat.le_of_ble_eq_true rfl) hR.2)) dJ6_copyOf_3 (fun x3 hf => ?_)
  refine xr_S (V := fun v => some (va_rf v)) (n := 3) (fr := 1) (lo := 60) (As := [va_rf a0, .int a1, va_rf x3]) C hS (lw_S q314 q315 q65 q316) hd_J6_copyOf_2 ⟨Nat.le_trans (Nat.le_of_ble_eq_true rfl) hR.1, Nat.le_trans (Nat.le_of_ble_eq_true rfl) hR.2⟩ rfl hl.1.1 rfl xm_r0 hf (fun v h1 k1 n1 e1 => ct_J6_copyOf_2 l D N e1) dJ6_copyOf_6 (fun x6 h H locs cells slots kc ks hS hf => ?_)
  refine W.eq (g2 := F0 m 9 ls [va_rf x6]) rfl ?_
  exact xr_aret C hS hr (Or.inr ⟨_, rfl⟩) hf dJ6_copyOf_9
theorem ct_J6_copyOf (l : Launch) (D : xh_D) {rv : Option Nat} {h hF : xh_H} {kc ks : Nat} (N : Nat) {a0 : Option Nat} {a1 : Int32} (hf : f_J6_copyOf N a0 a1 h = some (rv, hF, kc, ks)) : xh_Ct l D yJ6_copyOf (ws_ yJ6_copyOf cJ6_copyOf 2 (Option.some (Jvm.ClassFile.FieldType.array (Jvm.ClassFile.FieldType.object "java/lang/Object")))) 2 83 [va_rf a0, .int a1] h (some (va_rf rv)) hF kc ks :=
  xh_meth (cc := cJ6_copyOf) l (by decide) (Nat.le_of_ble_eq_true rfl) (List.forall_mem_cons.mpr ⟨va_rf_cat _, List.forall_mem_cons.mpr ⟨rfl, fun _ h => absurd h List.not_mem_nil⟩⟩) fun p e s m below meth c ls C hr hnm hl hS => w_J6_copyOf C hr ⟨Nat.le_refl _, Nat.le_refl _⟩ N a0 a1 h _ _ _ _ _ _ _ hf hS hl
theorem w_J2_grow_2_b20 (C : xh_C cJ2_grow_2 4 "java/util/ArrayList" D g p s m args meth c) (hr : meth.sig.returnType = (Option.some (Jvm.ClassFile.FieldType.array (Jvm.ClassFile.FieldType.object "java/lang/Object")))) (hR : 3 ≤ R.frames ∧ 104 ≤ R.locals) {rv : Option Nat} {hF : xh_H} (N : Nat) : ∀ (a0 : Option Nat) (a1 : Int32) (a2 : Int32) (h : xh_H) (H : Heap) (locs : List Loc) (cells slots kc ks : Nat) (ls : Array Slot), f_J2_grow_2_b20 N a0 a1 a2 h = some (rv, hF, kc, ks) → xh_T D g s R h H locs cells slots kc ks → xh_L ls 4 [(0, va_rf a0), (1, .int a1), (2, .int a2)] → W p l e R s m args below meth c H locs cells slots (MQ below (xh_Q D g (some (va_rf rv)) hF) args s R.cells R.slots (xh_A g)) (F0 m 20 ls []) := by
  intro a0 a1 a2 h H locs cells slots kc ks ls hf hS hl
  have hx := C.1
  have hb := C.2.1
  unfold f_J2_grow_2_b20 at hf
  refine lv_iload_n hx hb dJ2_grow_2_20 rfl (hl.at 2 rfl) ?_
  refine lv_iload_n hx hb dJ2_grow_2_21 rfl (hl.at 1 rfl) ?_
  refine lv_iload_n hx hb dJ2_grow_2_22 rfl (hl.at 2 rfl) ?_
  refine lv_isub hx hb dJ2_grow_2_23 ?_
  refine lv_iload_n hx hb dJ2_grow_2_24 rfl (hl.at 2 rfl) ?_
  refine lv_iconst (v := 1) hx hb dJ2_grow_2_25 xi_c1 ?_
  refine lv_ishr hx hb dJ2_grow_2_26 ?_
  refine xr_S (V := fun v => some (.int v)) (n := 3) (fr := 1) (lo := 24) (As := [.int a2, .int (a1 - a2), .int (a2 >>> ((1 : Int32) &&& 31))]) C hS (lw_S q287 q288 q63 q289) hd_J4_newLength ⟨Nat.le_trans (Nat.le_of_ble_eq_true rfl) hR.1, Nat.le_trans (Nat.le_of_ble_eq_true rfl) hR.2⟩ rfl hl.1.1 rfl xm_r0 hf (fun v h1 k1 n1 e1 => ct_J4_newLength l D N e1) dJ2_grow_2_27 (fun x27 h H locs cells slots kc ks hS hf => ?_)
  refine W.eq (g2 := F0 m 30 ls [.int x27]) rfl ?_
  refine xr_istore_n C dJ2_grow_2_30 rfl hl (Nat.le_of_ble_eq_true rfl) (lv' := [(3, .int x27), (0, va_rf a0), (1, .int a1), (2, .int a2)]) rfl (fun ls hl => ?_)
  refine xr_aload_n C dJ2_grow_2_31 rfl (hl.at 1 rfl) ?_
  refine xr_aload_n C dJ2_grow_2_32 rfl (hl.at 1 rfl) ?_
  refine xr_getR C hS xf_J2 1 (by decide) q106 (fun _ h => h) hf dJ2_grow_2_33 (fun x33 hf => ?_)
  refine lv_iload_n hx hb dJ2_grow_2_36 rfl (hl.at 0 rfl) ?_
  refine xr_S (V := fun v => some (va_rf v)) (n := 2) (fr := 2) (lo := 83) (As := [va_rf x33, .int x27]) C hS (lw_S q297 q298 q65 q299) hd_J6_copyOf ⟨Nat.le_trans (Nat.le_of_ble_eq_true rfl) hR.1, Nat.le_trans (Nat.le_of_ble_eq_true rfl) hR.2⟩ rfl hl.1.1 rfl (xm_rc (va_rf_cat _) xm_r0) hf (fun v h1 k1 n1 e1 => ct_J6_copyOf l D N e1) dJ2_grow_2_37 (fun x37 h H locs cells slots kc ks hS hf => ?_)
  refine W.eq (g2 := F0 m 40 ls [va_rf x37, va_rf a0]) rfl ?_
  refine lv_dup_x1 hx hb dJ2_grow_2_40 (va_rf_cat _) (va_rf_cat _) ?_
  refine xr_put C hS xf_J2 1 (by decide) q106 (fun _ h => h) rfl xv_arr hf dJ2_grow_2_41 (fun h H locs hS hf => ?_)
  exact xr_aret C hS hr (Or.inr ⟨_, rfl⟩) hf dJ2_grow_2_44
/-- java/util/ArrayList.grow(I)[Ljava/lang/Object; -/
theorem w_J2_grow_2 (C : xh_C cJ2_grow_2 4 "java/util/ArrayList" D g p s m args meth c) (hr : meth.sig.returnType = (Option.some (Jvm.ClassFile.FieldType.array (Jvm.ClassFile.FieldType.object "java/lang/Object")))) (hR : 3 ≤ R.frames ∧ 104 ≤ R.locals) {rv : Option Nat} {hF : xh_H} (N : Nat) (a0 : Option Nat) (a1 : Int32)  (h : xh_H) (H : Heap) (locs : List Loc) (cells slots kc ks : Nat) (ls : Array Slot) (hf : f_J2_grow_2 N a0 a1 h = some (rv, hF, kc, ks)) (hS : xh_T D g s R h H locs cells slots kc ks) (hl : xh_L ls 4 [(0, va_rf a0), (1, .int a1)]) : W p l e R s m args below meth c H locs cells slots (MQ below (xh_Q D g (some (va_rf rv)) hF) args s R.cells R.slots (xh_A g)) (F0 m 0 ls []) := by
  have hx := C.1
  have hb := C.2.1
  unfold f_J2_grow_2 at hf
  refine xr_aload_n C dJ2_grow_2_0 rfl (hl.at 0 rfl) ?_
  refine xr_getR C hS xf_J2 1 (by decide) q106 (fun _ h => h) hf dJ2_grow_2_1 (fun x1 hf => ?_)
  refine xr_lq C hS hf dJ2_grow_2_4 (fun x4 hf => ?_)
  refine xr_istore_n C dJ2_grow_2_5 rfl hl (Nat.le_of_ble_eq_true rfl) (lv' := [(2, .int x4), (0, va_rf a0), (1, .int a1)]) rfl (fun ls hl => ?_)
  refine lv_iload_n hx hb dJ2_grow_2_6 rfl (hl.at 0 rfl) ?_
  refine lv_if_gt (tgt := 20) hx hb dJ2_grow_2_7 (by decide) (fun c7 => ?_) (fun c7 => ?_)
  · replace hf := xb_pos c7 hf
    exact w_J2_grow_2_b20 C hr hR N a0 a1 x4  h H locs cells slots kc ks ls hf hS (hl.sub [1, 2, 0] rfl)
  · replace hf := xb_neg c7 hf
    refine xr_aload_n C dJ2_grow_2_10 rfl (hl.at 1 rfl) ?_
    refine xr_getR C hS xf_J2 1 (by decide) q106 (fun _ h => h) hf dJ2_grow_2_11 (fun x11 hf => ?_)
    refine xr_gsE C hS q104 hf dJ2_grow_2_14 (fun x14 hf => ?_)
    refine lv_acmp_eq (tgt := 45) hx hb dJ2_grow_2_17 (by decide) (fun c17 => ?_) (fun c17 => ?_)
    · replace hf := xb_pos c17 hf
      refine xr_aload_n C dJ2_grow_2_45 rfl (hl.at 1 rfl) ?_
      refine lv_bipush (v := 10) hx hb dJ2_grow_2_46 xi_b10 ?_
      refine lv_iload_n hx hb dJ2_grow_2_48 rfl (hl.at 2 rfl) ?_
      refine xr_mx C hS hl.1.1.symm q326 q291 q64 q292 (Nat.le_trans (Nat.le_of_ble_eq_true rfl) hR.1) (xm_m13 (xm_rc (va_rf_cat _) xm_r0) (Nat.le_trans (Nat.le_of_ble_eq_true rfl) hR.2)) dJ2_grow_2_49 ?_
      refine xr_nq C hS q327 hf dJ2_grow_2_52 (fun x52 h H cells slots kc ks hS hf => ?_)
      refine lv_dup_x1 hx hb dJ2_grow_2_55 (va_rf_cat _) (va_rf_cat _) ?_
      refine xr_put C hS xf_J2 1 (by decide) q106 (fun _ h => h) rfl xv_arr hf dJ2_grow_2_56 (fun h H locs hS hf => ?_)
      exact xr_aret C hS hr (Or.inr ⟨_, rfl⟩) hf dJ2_grow_2_59
    · replace hf := xb_neg c17 hf
      exact w_J2_grow_2_b20 C hr hR N a0 a1 x4  h H locs cells slots kc ks ls hf hS (hl.sub [1, 2, 0] rfl)
theorem ct_J2_grow_2 (l : Launch) (D : xh_D) {rv : Option Nat} {h hF : xh_H} {kc ks : Nat} (N : Nat) {a0 : Option Nat} {a1 : Int32} (hf : f_J2_grow_2 N a0 a1 h = some (rv, hF, kc, ks)) : xh_Ct l D yJ2_grow_2 (ws_ yJ2_grow_2 cJ2_grow_2 4 (Option.some (Jvm.ClassFile.FieldType.array (Jvm.ClassFile.FieldType.object "java/lang/Object")))) 3 104 [va_rf a0, .int a1] h (some (va_rf rv)) hF kc ks :=
  xh_meth (cc := cJ2_grow_2) l (by decide) (Nat.le_of_ble_eq_true rfl) (List.forall_mem_cons.mpr ⟨va_rf_cat _, List.forall_mem_cons.mpr ⟨rfl, fun _ h => absurd h List.not_mem_nil⟩⟩) fun p e s m below meth c ls C hr hnm hl hS => w_J2_grow_2 C hr ⟨Nat.le_refl _, Nat.le_refl _⟩ N a0 a1 h _ _ _ _ _ _ _ hf hS hl
/-- java/util/ArrayList.grow()[Ljava/lang/Object; -/
theorem w_J2_grow (C : xh_C cJ2_grow 1 "java/util/ArrayList" D g p s m args meth c) (hr : meth.sig.returnType = (Option.some (Jvm.ClassFile.FieldType.array (Jvm.ClassFile.FieldType.object "java/lang/Object")))) (hR : 4 ≤ R.frames ∧ 127 ≤ R.locals) {rv : Option Nat} {hF : xh_H} (N : Nat) (a0 : Option Nat)  (h : xh_H) (H : Heap) (locs : List Loc) (cells slots kc ks : Nat) (ls : Array Slot) (hf : f_J2_grow N a0 h = some (rv, hF, kc, ks)) (hS : xh_T D g s R h H locs cells slots kc ks) (hl : xh_L ls 1 [(0, va_rf a0)]) : W p l e R s m args below meth c H locs cells slots (MQ below (xh_Q D g (some (va_rf rv)) hF) args s R.cells R.slots (xh_A g)) (F0 m 0 ls []) := by
  have hx := C.1
  have hb := C.2.1
  unfold f_J2_grow at hf
  refine xr_aload_n C dJ2_grow_0 rfl (hl.at 0 rfl) ?_
  refine xr_aload_n C dJ2_grow_1 rfl (hl.at 0 rfl) ?_
  refine xr_getI C hS xf_J2 2 (by decide) q109 (fun _ h => h) hf dJ2_grow_2 (fun x2 hf => ?_)
  refine lv_iconst (v := 1) hx hb dJ2_grow_5 xi_c1 ?_
  refine lv_iadd hx hb dJ2_grow_6 ?_
  refine xr_V (V := fun v => some (va_rf v)) (n := 1) (fr := 3) (lo := 104) (As := [.int (x2 + (1 : Int32))]) C hS xf_J2 (lw_V q283 q285 qs2 q59 q286) hdv_J2_grow_2 ⟨Nat.le_trans (Nat.le_of_ble_eq_true rfl) hR.1, Nat.le_trans (Nat.le_of_ble_eq_true rfl) hR.2⟩ rfl hl.1.1 rfl xm_r0 hf (fun v h1 k1 n1 e1 => ct_J2_grow_2 l D N e1) dJ2_grow_7 (fun x7 h H locs cells slots kc ks hS hf => ?_)
  refine W.eq (g2 := F0 m 10 ls [va_rf x7]) rfl ?_
  exact xr_aret C hS hr (Or.inr ⟨_, rfl⟩) hf dJ2_grow_10
theorem ct_J2_grow (l : Launch) (D : xh_D) {rv : Option Nat} {h hF : xh_H} {kc ks : Nat} (N : Nat) {a0 : Option Nat} (hf : f_J2_grow N a0 h = some (rv, hF, kc, ks)) : xh_Ct l D yJ2_grow (ws_ yJ2_grow cJ2_grow 1 (Option.some (Jvm.ClassFile.FieldType.array (Jvm.ClassFile.FieldType.object "java/lang/Object")))) 4 127 [va_rf a0] h (some (va_rf rv)) hF kc ks :=
  xh_meth (cc := cJ2_grow) l (by decide) (Nat.le_of_ble_eq_true rfl) (List.forall_mem_cons.mpr ⟨va_rf_cat _, fun _ h => absurd h List.not_mem_nil⟩) fun p e s m below meth c ls C hr hnm hl hS => w_J2_grow C hr ⟨Nat.le_refl _, Nat.le_refl _⟩ N a0 h _ _ _ _ _ _ _ hf hS hl
theorem w_J2_add_2_b11 (C : xh_C cJ2_add_2 4 "java/util/ArrayList" D g p s m args meth c) (hr : meth.sig.returnType = (Option.none : Option Jvm.ClassFile.FieldType)) (hR : 5 ≤ R.frames ∧ 147 ≤ R.locals) {rv : Unit} {hF : xh_H} (N : Nat) : ∀ (a0 : Option Nat) (a1 : Option Nat) (a2 : Option Nat) (a3 : Int32) (h : xh_H) (H : Heap) (locs : List Loc) (cells slots kc ks : Nat) (ls : Array Slot), f_J2_add_2_b11 N a0 a1 a2 a3 h = some (rv, hF, kc, ks) → xh_T D g s R h H locs cells slots kc ks → xh_L ls 4 [(0, va_rf a0), (1, va_rf a1), (2, va_rf a2), (3, .int a3)] → W p l e R s m args below meth c H locs cells slots (MQ below (xh_Q D g none hF) args s R.cells R.slots (xh_A g)) (F0 m 11 ls []) := by
  intro a0 a1 a2 a3 h H locs cells slots kc ks ls hf hS hl
  have hx := C.1
  have hb := C.2.1
  unfold f_J2_add_2_b11 at hf
  refine xr_aload_n C dJ2_add_2_11 rfl (hl.at 2 rfl) ?_
  refine lv_iload_n hx hb dJ2_add_2_12 rfl (hl.at 3 rfl) ?_
  refine xr_aload_n C dJ2_add_2_13 rfl (hl.at 1 rfl) ?_
  refine xr_aast C hS hf dJ2_add_2_14 (fun h H locs hS hf => ?_)
  refine xr_aload_n C dJ2_add_2_15 rfl (hl.at 0 rfl) ?_
  refine lv_iload_n hx hb dJ2_add_2_16 rfl (hl.at 3 rfl) ?_
  refine lv_iconst (v := 1) hx hb dJ2_add_2_17 xi_c1 ?_
  refine lv_iadd hx hb dJ2_add_2_18 ?_
  refine xr_put C hS xf_J2 2 (by decide) q109 (fun _ h => h) rfl xv_int hf dJ2_add_2_19 (fun h H locs hS hf => ?_)
  exact xr_vret C hS hr hf dJ2_add_2_22
/-- java/util/ArrayList.add(Ljava/lang/Object;[Ljava/lang/Object;I)V -/
theorem w_J2_add_2 (C : xh_C cJ2_add_2 4 "java/util/ArrayList" D g p s m args meth c) (hr : meth.sig.returnType = (Option.none : Option Jvm.ClassFile.FieldType)) (hR : 5 ≤ R.frames ∧ 147 ≤ R.locals) {rv : Unit} {hF : xh_H} (N : Nat) (a0 : Option Nat) (a1 : Option Nat) (a2 : Option Nat) (a3 : Int32)  (h : xh_H) (H : Heap) (locs : List Loc) (cells slots kc ks : Nat) (ls : Array Slot) (hf : f_J2_add_2 N a0 a1 a2 a3 h = some (rv, hF, kc, ks)) (hS : xh_T D g s R h H locs cells slots kc ks) (hl : xh_L ls 4 [(0, va_rf a0), (1, va_rf a1), (2, va_rf a2), (3, .int a3)]) : W p l e R s m args below meth c H locs cells slots (MQ below (xh_Q D g none hF) args s R.cells R.slots (xh_A g)) (F0 m 0 ls []) := by
  have hx := C.1
  have hb := C.2.1
  unfold f_J2_add_2 at hf
  refine lv_iload_n hx hb dJ2_add_2_0 rfl (hl.at 3 rfl) ?_
  refine xr_aload_n C dJ2_add_2_1 rfl (hl.at 2 rfl) ?_
  refine xr_lq C hS hf dJ2_add_2_2 (fun x2 hf => ?_)
  refine lv_icmp_ne (tgt := 11) hx hb dJ2_add_2_3 (by decide) (fun c3 => ?_) (fun c3 => ?_)
  · replace hf := xb_neg c3 hf
    exact w_J2_add_2_b11 C hr hR N a0 a1 a2 a3  h H locs cells slots kc ks ls hf hS (hl.sub [0, 1, 2, 3] rfl)
  · replace hf := xb_pos c3 hf
    refine xr_aload_n C dJ2_add_2_6 rfl (hl.at 0 rfl) ?_
    refine xr_V (V := fun v => some (va_rf v)) (n := 0) (fr := 4) (lo := 127) (As := []) C hS xf_J2 (lw_V q279 q281 qs1 q59 q282) hdv_J2_grow ⟨Nat.le_trans (Nat.le_of_ble_eq_true rfl) hR.1, Nat.le_trans (Nat.le_of_ble_eq_true rfl) hR.2⟩ rfl hl.1.1 rfl xm_r0 hf (fun v h1 k1 n1 e1 => ct_J2_grow l D N e1) dJ2_add_2_7 (fun x7 h H locs cells slots kc ks hS hf => ?_)
    refine W.eq (g2 := F0 m 10 ls [va_rf x7]) rfl ?_
    refine xr_astore_n C dJ2_add_2_10 rfl hl (Nat.le_of_ble_eq_true rfl) (lv' := [(2, va_rf x7), (0, va_rf a0), (1, va_rf a1), (3, .int a3)]) rfl (fun ls hl => ?_)
    exact w_J2_add_2_b11 C hr hR N a0 a1 x7 a3  h H locs cells slots kc ks ls hf hS (hl.sub [1, 2, 0, 3] rfl)
theorem ct_J2_add_2 (l : Launch) (D : xh_D) {rv : Unit} {h hF : xh_H} {kc ks : Nat} (N : Nat) {a0 : Option Nat} {a1 : Option Nat} {a2 : Option Nat} {a3 : Int32} (hf : f_J2_add_2 N a0 a1 a2 a3 h = some (rv, hF, kc, ks)) : xh_Ct l D yJ2_add_2 (ws_ yJ2_add_2 cJ2_add_2 4 (Option.none : Option Jvm.ClassFile.FieldType)) 5 147 [va_rf a0, va_rf a1, va_rf a2, .int a3] h none hF kc ks :=
  xh_meth (cc := cJ2_add_2) l (by decide) (Nat.le_of_ble_eq_true rfl) (List.forall_mem_cons.mpr ⟨va_rf_cat _, List.forall_mem_cons.mpr ⟨va_rf_cat _, List.forall_mem_cons.mpr ⟨va_rf_cat _, List.forall_mem_cons.mpr ⟨rfl, fun _ h => absurd h List.not_mem_nil⟩⟩⟩⟩) fun p e s m below meth c ls C hr hnm hl hS => w_J2_add_2 C hr ⟨Nat.le_refl _, Nat.le_refl _⟩ N a0 a1 a2 a3 h _ _ _ _ _ _ _ hf hS hl
end WALK
