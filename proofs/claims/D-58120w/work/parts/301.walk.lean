/-! WALKS, printed by gen/walk.py -/
set_option maxRecDepth 100000
section WALK
variable {p : Program} {l : Launch} {e : Env} {s : State} {m : MethodId} {args : Array Value} {below : List Frame} {meth : Method} {c : Code} {D : xh_D} {g : Nat → Nat} {R : Room}
/-- java/util/ArrayList.add(Ljava/lang/Object;)Z -/
theorem w_J2_add (C : xh_C cJ2_add 2 "java/util/ArrayList" D g p s m args meth c) (hr : meth.sig.returnType = (Option.some Jvm.ClassFile.FieldType.boolean)) (hR : 6 ≤ R.frames ∧ 170 ≤ R.locals) {rv : Int32} {hF : xh_H} (N : Nat) (a0 : Option Nat) (a1 : Option Nat)  (h : xh_H) (H : Heap) (locs : List Loc) (cells slots kc ks : Nat) (ls : Array Slot) (hf : f_J2_add N a0 a1 h = some (rv, hF, kc, ks)) (hS : xh_T D g s R h H locs cells slots kc ks) (hl : xh_L ls 2 [(0, va_rf a0), (1, va_rf a1)]) : W p l e R s m args below meth c H locs cells slots (MQ below (xh_Q D g (some (.int rv)) hF) args s R.cells R.slots (xh_A g)) (F0 m 0 ls []) := by
  have hx := C.1
  have hb := C.2.1
  unfold f_J2_add at hf
  refine xr_aload_n C dJ2_add_0 rfl (hl.at 0 rfl) ?_
  refine lv_dup hx hb dJ2_add_1 (va_rf_cat _) ?_
  refine xr_getI C hS xf_J2 0 (by decide) q113 (u_same (C.2.2.2.2.1 _ q112)) hf dJ2_add_2 (fun x2 hf => ?_)
  refine lv_iconst (v := 1) hx hb dJ2_add_5 xi_c1 ?_
  refine lv_iadd hx hb dJ2_add_6 ?_
  refine xr_put C hS xf_J2 0 (by decide) q113 (u_same (C.2.2.2.2.1 _ q112)) rfl xv_int hf dJ2_add_7 (fun h H locs hS hf => ?_)
  refine xr_aload_n C dJ2_add_10 rfl (hl.at 0 rfl) ?_
  refine xr_aload_n C dJ2_add_11 rfl (hl.at 1 rfl) ?_
  refine xr_aload_n C dJ2_add_12 rfl (hl.at 0 rfl) ?_
  refine xr_getR C hS xf_J2 1 (by decide) q106 (fun _ h => h) hf dJ2_add_13 (fun x13 hf => ?_)
  refine xr_aload_n C dJ2_add_16 rfl (hl.at 0 rfl) ?_
  refine xr_getI C hS xf_J2 2 (by decide) q109 (fun _ h => h) hf dJ2_add_17 (fun x17 hf => ?_)
  refine xr_V (V := fun _ => none) (n := 3) (fr := 5) (lo := 147) (As := [va_rf a1, va_rf x13, .int x17]) C hS xf_J2 (lw_V q275 q277 qs0 q59 q278) hdv_J2_add_2 ⟨Nat.le_trans (Nat.le_of_ble_eq_true rfl) hR.1, Nat.le_trans (Nat.le_of_ble_eq_true rfl) hR.2⟩ rfl hl.1.1 rfl xm_r0 hf (fun v h1 k1 n1 e1 => ct_J2_add_2 l D N e1) dJ2_add_20 (fun _ h H locs cells slots kc ks hS hf => ?_)
  refine W.eq (g2 := F0 m 23 ls []) rfl ?_
  refine lv_iconst (v := 1) hx hb dJ2_add_23 xi_c1 ?_
  exact xr_zret1 C hS hr (by decide) hf dJ2_add_24
theorem ct_J2_add (l : Launch) (D : xh_D) {rv : Int32} {h hF : xh_H} {kc ks : Nat} (N : Nat) {a0 : Option Nat} {a1 : Option Nat} (hf : f_J2_add N a0 a1 h = some (rv, hF, kc, ks)) : xh_Ct l D yJ2_add (ws_ yJ2_add cJ2_add 2 (Option.some Jvm.ClassFile.FieldType.boolean)) 6 170 [va_rf a0, va_rf a1] h (some (.int rv)) hF kc ks :=
  xh_meth (cc := cJ2_add) l (by decide) (Nat.le_of_ble_eq_true rfl) (List.forall_mem_cons.mpr ⟨va_rf_cat _, List.forall_mem_cons.mpr ⟨va_rf_cat _, fun _ h => absurd h List.not_mem_nil⟩⟩) fun p e s m below meth c ls C hr hnm hl hS => w_J2_add C hr ⟨Nat.le_refl _, Nat.le_refl _⟩ N a0 a1 h _ _ _ _ _ _ _ hf hS hl
/-- java/util/ArrayList.isEmpty()Z -/
theorem w_J2_isEmpty (C : xh_C cJ2_isEmpty 1 "java/util/ArrayList" D g p s m args meth c) (hr : meth.sig.returnType = (Option.some Jvm.ClassFile.FieldType.boolean)) (hR : 0 ≤ R.frames ∧ 0 ≤ R.locals) {rv : Int32} {hF : xh_H} (N : Nat) (a0 : Option Nat)  (h : xh_H) (H : Heap) (locs : List Loc) (cells slots kc ks : Nat) (ls : Array Slot) (hf : f_J2_isEmpty N a0 h = some (rv, hF, kc, ks)) (hS : xh_T D g s R h H locs cells slots kc ks) (hl : xh_L ls 1 [(0, va_rf a0)]) : W p l e R s m args below meth c H locs cells slots (MQ below (xh_Q D g (some (.int rv)) hF) args s R.cells R.slots (xh_A g)) (F0 m 0 ls []) := by
  have hx := C.1
  have hb := C.2.1
  unfold f_J2_isEmpty at hf
  refine xr_aload_n C dJ2_isEmpty_0 rfl (hl.at 0 rfl) ?_
  refine xr_getI C hS xf_J2 2 (by decide) q109 (fun _ h => h) hf dJ2_isEmpty_1 (fun x1 hf => ?_)
  refine lv_if_ne (tgt := 11) hx hb dJ2_isEmpty_4 (by decide) (fun c4 => ?_) (fun c4 => ?_)
  · replace hf := xb_neg c4 hf
    refine lv_iconst (v := 0) hx hb dJ2_isEmpty_11 xi_c0 ?_
    exact xr_zret1 C hS hr (by decide) hf dJ2_isEmpty_12
  · replace hf := xb_pos c4 hf
    refine lv_iconst (v := 1) hx hb dJ2_isEmpty_7 xi_c1 ?_
    refine lv_goto (tgt := 12) hx hb dJ2_isEmpty_8 (by decide) ?_
    exact xr_zret1 C hS hr (by decide) hf dJ2_isEmpty_12
theorem ct_J2_isEmpty (l : Launch) (D : xh_D) {rv : Int32} {h hF : xh_H} {kc ks : Nat} (N : Nat) {a0 : Option Nat} (hf : f_J2_isEmpty N a0 h = some (rv, hF, kc, ks)) : xh_Ct l D yJ2_isEmpty (ws_ yJ2_isEmpty cJ2_isEmpty 1 (Option.some Jvm.ClassFile.FieldType.boolean)) 0 0 [va_rf a0] h (some (.int rv)) hF kc ks :=
  xh_meth (cc := cJ2_isEmpty) l (by decide) (Nat.le_of_ble_eq_true rfl) (List.forall_mem_cons.mpr ⟨va_rf_cat _, fun _ h => absurd h List.not_mem_nil⟩) fun p e s m below meth c ls C hr hnm hl hS => w_J2_isEmpty C hr ⟨Nat.le_refl _, Nat.le_refl _⟩ N a0 h _ _ _ _ _ _ _ hf hS hl
/-- java/util/ArrayList.size()I -/
theorem w_J2_size (C : xh_C cJ2_size 1 "java/util/ArrayList" D g p s m args meth c) (hr : meth.sig.returnType = (Option.some Jvm.ClassFile.FieldType.int)) (hR : 0 ≤ R.frames ∧ 0 ≤ R.locals) {rv : Int32} {hF : xh_H} (N : Nat) (a0 : Option Nat)  (h : xh_H) (H : Heap) (locs : List Loc) (cells slots kc ks : Nat) (ls : Array Slot) (hf : f_J2_size N a0 h = some (rv, hF, kc, ks)) (hS : xh_T D g s R h H locs cells slots kc ks) (hl : xh_L ls 1 [(0, va_rf a0)]) : W p l e R s m args below meth c H locs cells slots (MQ below (xh_Q D g (some (.int rv)) hF) args s R.cells R.slots (xh_A g)) (F0 m 0 ls []) := by
  have hx := C.1
  have hb := C.2.1
  unfold f_J2_size at hf
  refine xr_aload_n C dJ2_size_0 rfl (hl.at 0 rfl) ?_
  refine xr_getI C hS xf_J2 2 (by decide) q109 (fun _ h => h) hf dJ2_size_1 (fun x1 hf => ?_)
  exact xr_iret C hS hr hf dJ2_size_4
theorem ct_J2_size (l : Launch) (D : xh_D) {rv : Int32} {h hF : xh_H} {kc ks : Nat} (N : Nat) {a0 : Option Nat} (hf : f_J2_size N a0 h = some (rv, hF, kc, ks)) : xh_Ct l D yJ2_size (ws_ yJ2_size cJ2_size 1 (Option.some Jvm.ClassFile.FieldType.int)) 0 0 [va_rf a0] h (some (.int rv)) hF kc ks :=
  xh_meth (cc := cJ2_size) l (by decide) (Nat.le_of_ble_eq_true rfl) (List.forall_mem_cons.mpr ⟨va_rf_cat _, fun _ h => absurd h List.not_mem_nil⟩) fun p e s m below meth c ls C hr hnm hl hS => w_J2_size C hr ⟨Nat.le_refl _, Nat.le_refl _⟩ N a0 h _ _ _ _ _ _ _ hf hS hl
/-- java/util/ArrayList.elementData(I)Ljava/lang/Object; -/
theorem w_J2_elementData (C : xh_C cJ2_elementData 2 "java/util/ArrayList" D g p s m args meth c) (hr : meth.sig.returnType = (Option.some (Jvm.ClassFile.FieldType.object "java/lang/Object"))) (hR : 0 ≤ R.frames ∧ 0 ≤ R.locals) {rv : Option Nat} {hF : xh_H} (N : Nat) (a0 : Option Nat) (a1 : Int32)  (h : xh_H) (H : Heap) (locs : List Loc) (cells slots kc ks : Nat) (ls : Array Slot) (hf : f_J2_elementData N a0 a1 h = some (rv, hF, kc, ks)) (hS : xh_T D g s R h H locs cells slots kc ks) (hl : xh_L ls 2 [(0, va_rf a0), (1, .int a1)]) : W p l e R s m args below meth c H locs cells slots (MQ below (xh_Q D g (some (va_rf rv)) hF) args s R.cells R.slots (xh_A g)) (F0 m 0 ls []) := by
  have hx := C.1
  have hb := C.2.1
  unfold f_J2_elementData at hf
  refine xr_aload_n C dJ2_elementData_0 rfl (hl.at 0 rfl) ?_
  refine xr_getR C hS xf_J2 1 (by decide) q106 (fun _ h => h) hf dJ2_elementData_1 (fun x1 hf => ?_)
  refine lv_iload_n hx hb dJ2_elementData_4 rfl (hl.at 1 rfl) ?_
  refine xr_aald C hS hf dJ2_elementData_5 (fun x5 hf => ?_)
  exact xr_aret C hS hr (Or.inl ⟨_, rfl⟩) hf dJ2_elementData_6
theorem ct_J2_elementData (l : Launch) (D : xh_D) {rv : Option Nat} {h hF : xh_H} {kc ks : Nat} (N : Nat) {a0 : Option Nat} {a1 : Int32} (hf : f_J2_elementData N a0 a1 h = some (rv, hF, kc, ks)) : xh_Ct l D yJ2_elementData (ws_ yJ2_elementData cJ2_elementData 2 (Option.some (Jvm.ClassFile.FieldType.object "java/lang/Object"))) 0 0 [va_rf a0, .int a1] h (some (va_rf rv)) hF kc ks :=
  xh_meth (cc := cJ2_elementData) l (by decide) (Nat.le_of_ble_eq_true rfl) (List.forall_mem_cons.mpr ⟨va_rf_cat _, List.forall_mem_cons.mpr ⟨rfl, fun _ h => absurd h List.not_mem_nil⟩⟩) fun p e s m below meth c ls C hr hnm hl hS => w_J2_elementData C hr ⟨Nat.le_refl _, Nat.le_refl _⟩ N a0 a1 h _ _ _ _ _ _ _ hf hS hl
theorem w_J8_checkIndex_b9 (C : xh_C cJ8_checkIndex 3 "jdk/internal/util/Preconditions" D g p s m args meth c) (hr : meth.sig.returnType = (Option.some Jvm.ClassFile.FieldType.int)) (hR : 0 ≤ R.frames ∧ 0 ≤ R.locals) {rv : Int32} {hF : xh_H} (N : Nat) : ∀ (a0 : Int32) (a1 : Int32) (a2 : Option Nat) (h : xh_H) (H : Heap) (locs : List Loc) (cells slots kc ks : Nat) (ls : Array Slot), f_J8_checkIndex_b9 N a0 a1 a2 h = some (rv, hF, kc, ks) → xh_T D g s R h H locs cells slots kc ks → xh_L ls 3 [(0, .int a0), (1, .int a1), (2, va_rf a2)] → W p l e R s m args below meth c H locs cells slots (MQ below (xh_Q D g (some (.int rv)) hF) args s R.cells R.slots (xh_A g)) (F0 m 9 ls []) := by
  intro a0 a1 a2 h H locs cells slots kc ks ls hf hS hl
  have hx := C.1
  have hb := C.2.1
  unfold f_J8_checkIndex_b9 at hf
  refine xr_aload_n C dJ8_checkIndex_9 rfl (hl.at 2 rfl) ?_
  refine lv_iload_n hx hb dJ8_checkIndex_10 rfl (hl.at 0 rfl) ?_
  refine lv_iload_n hx hb dJ8_checkIndex_11 rfl (hl.at 1 rfl) ?_
  cases hf
/-- jdk/internal/util/Preconditions.checkIndex(IILjava/util/function/BiFunction;)I -/
theorem w_J8_checkIndex (C : xh_C cJ8_checkIndex 3 "jdk/internal/util/Preconditions" D g p s m args meth c) (hr : meth.sig.returnType = (Option.some Jvm.ClassFile.FieldType.int)) (hR : 0 ≤ R.frames ∧ 0 ≤ R.locals) {rv : Int32} {hF : xh_H} (N : Nat) (a0 : Int32) (a1 : Int32) (a2 : Option Nat)  (h : xh_H) (H : Heap) (locs : List Loc) (cells slots kc ks : Nat) (ls : Array Slot) (hf : f_J8_checkIndex N a0 a1 a2 h = some (rv, hF, kc, ks)) (hS : xh_T D g s R h H locs cells slots kc ks) (hl : xh_L ls 3 [(0, .int a0), (1, .int a1), (2, va_rf a2)]) : W p l e R s m args below meth c H locs cells slots (MQ below (xh_Q D g (some (.int rv)) hF) args s R.cells R.slots (xh_A g)) (F0 m 0 ls []) := by
  have hx := C.1
  have hb := C.2.1
  unfold f_J8_checkIndex at hf
  refine lv_iload_n hx hb dJ8_checkIndex_0 rfl (hl.at 0 rfl) ?_
  refine lv_if_lt (tgt := 9) hx hb dJ8_checkIndex_1 (by decide) (fun c1 => ?_) (fun c1 => ?_)
  · replace hf := xb_pos c1 hf
    exact w_J8_checkIndex_b9 C hr hR N a0 a1 a2  h H locs cells slots kc ks ls hf hS (hl.sub [0, 1, 2] rfl)
  · replace hf := xb_neg c1 hf
    refine lv_iload_n hx hb dJ8_checkIndex_4 rfl (hl.at 0 rfl) ?_
    refine lv_iload_n hx hb dJ8_checkIndex_5 rfl (hl.at 1 rfl) ?_
    refine lv_icmp_lt (tgt := 16) hx hb dJ8_checkIndex_6 (by decide) (fun c6 => ?_) (fun c6 => ?_)
    · replace hf := xb_pos c6 hf
      refine lv_iload_n hx hb dJ8_checkIndex_16 rfl (hl.at 0 rfl) ?_
      exact xr_iret C hS hr hf dJ8_checkIndex_17
    · replace hf := xb_neg c6 hf
      exact w_J8_checkIndex_b9 C hr hR N a0 a1 a2  h H locs cells slots kc ks ls hf hS (hl.sub [0, 1, 2] rfl)
theorem ct_J8_checkIndex (l : Launch) (D : xh_D) {rv : Int32} {h hF : xh_H} {kc ks : Nat} (N : Nat) {a0 : Int32} {a1 : Int32} {a2 : Option Nat} (hf : f_J8_checkIndex N a0 a1 a2 h = some (rv, hF, kc, ks)) : xh_Ct l D yJ8_checkIndex (ws_ yJ8_checkIndex cJ8_checkIndex 3 (Option.some Jvm.ClassFile.FieldType.int)) 0 0 [.int a0, .int a1, va_rf a2] h (some (.int rv)) hF kc ks :=
  xh_meth (cc := cJ8_checkIndex) l (by decide) (Nat.le_of_ble_eq_true rfl) (List.forall_mem_cons.mpr ⟨rfl, List.forall_mem_cons.mpr ⟨rfl, List.forall_mem_cons.mpr ⟨va_rf_cat _, fun _ h => absurd h List.not_mem_nil⟩⟩⟩) fun p e s m below meth c ls C hr hnm hl hS => w_J8_checkIndex C hr ⟨Nat.le_refl _, Nat.le_refl _⟩ N a0 a1 a2 h _ _ _ _ _ _ _ hf hS hl
/-- java/util/Objects.checkIndex(II)I -/
theorem w_J7_checkIndex (C : xh_C cJ7_checkIndex 2 "java/util/Objects" D g p s m args meth c) (hr : meth.sig.returnType = (Option.some Jvm.ClassFile.FieldType.int)) (hR : 1 ≤ R.frames ∧ 22 ≤ R.locals) {rv : Int32} {hF : xh_H} (N : Nat) (a0 : Int32) (a1 : Int32)  (h : xh_H) (H : Heap) (locs : List Loc) (cells slots kc ks : Nat) (ls : Array Slot) (hf : f_J7_checkIndex N a0 a1 h = some (rv, hF, kc, ks)) (hS : xh_T D g s R h H locs cells slots kc ks) (hl : xh_L ls 2 [(0, .int a0), (1, .int a1)]) : W p l e R s m args below meth c H locs cells slots (MQ below (xh_Q D g (some (.int rv)) hF) args s R.cells R.slots (xh_A g)) (F0 m 0 ls []) := by
  have hx := C.1
  have hb := C.2.1
  unfold f_J7_checkIndex at hf
  refine lv_iload_n hx hb dJ7_checkIndex_0 rfl (hl.at 0 rfl) ?_
  refine lv_iload_n hx hb dJ7_checkIndex_1 rfl (hl.at 1 rfl) ?_
  refine xr_null C dJ7_checkIndex_2 ?_
  refine xr_S (V := fun v => some (.int v)) (n := 3) (fr := 0) (lo := 0) (As := [.int a0, .int a1, va_rf none]) C hS (lw_S q370 q371 q68 q372) hd_J8_checkIndex ⟨Nat.le_trans (Nat.le_of_ble_eq_true rfl) hR.1, Nat.le_trans (Nat.le_of_ble_eq_true rfl) hR.2⟩ rfl hl.1.1 rfl xm_r0 hf (fun v h1 k1 n1 e1 => ct_J8_checkIndex l D N e1) dJ7_checkIndex_3 (fun x3 h H locs cells slots kc ks hS hf => ?_)
  refine W.eq (g2 := F0 m 6 ls [.int x3]) rfl ?_
  exact xr_iret C hS hr hf dJ7_checkIndex_6
theorem ct_J7_checkIndex (l : Launch) (D : xh_D) {rv : Int32} {h hF : xh_H} {kc ks : Nat} (N : Nat) {a0 : Int32} {a1 : Int32} (hf : f_J7_checkIndex N a0 a1 h = some (rv, hF, kc, ks)) : xh_Ct l D yJ7_checkIndex (ws_ yJ7_checkIndex cJ7_checkIndex 2 (Option.some Jvm.ClassFile.FieldType.int)) 1 22 [.int a0, .int a1] h (some (.int rv)) hF kc ks :=
  xh_meth (cc := cJ7_checkIndex) l (by decide) (Nat.le_of_ble_eq_true rfl) (List.forall_mem_cons.mpr ⟨rfl, List.forall_mem_cons.mpr ⟨rfl, fun _ h => absurd h List.not_mem_nil⟩⟩) fun p e s m below meth c ls C hr hnm hl hS => w_J7_checkIndex C hr ⟨Nat.le_refl _, Nat.le_refl _⟩ N a0 a1 h _ _ _ _ _ _ _ hf hS hl
/-- java/util/ArrayList.get(I)Ljava/lang/Object; -/
theorem w_J2_get (C : xh_C cJ2_get 2 "java/util/ArrayList" D g p s m args meth c) (hr : meth.sig.returnType = (Option.some (Jvm.ClassFile.FieldType.object "java/lang/Object"))) (hR : 2 ≤ R.frames ∧ 43 ≤ R.locals) {rv : Option Nat} {hF : xh_H} (N : Nat) (a0 : Option Nat) (a1 : Int32)  (h : xh_H) (H : Heap) (locs : List Loc) (cells slots kc ks : Nat) (ls : Array Slot) (hf : f_J2_get N a0 a1 h = some (rv, hF, kc, ks)) (hS : xh_T D g s R h H locs cells slots kc ks) (hl : xh_L ls 2 [(0, va_rf a0), (1, .int a1)]) : W p l e R s m args below meth c H locs cells slots (MQ below (xh_Q D g (some (va_rf rv)) hF) args s R.cells R.slots (xh_A g)) (F0 m 0 ls []) := by
  have hx := C.1
  have hb := C.2.1
  unfold f_J2_get at hf
  refine lv_iload_n hx hb dJ2_get_0 rfl (hl.at 1 rfl) ?_
  refine xr_aload_n C dJ2_get_1 rfl (hl.at 0 rfl) ?_
  refine xr_getI C hS xf_J2 2 (by decide) q109 (fun _ h => h) hf dJ2_get_2 (fun x2 hf => ?_)
  refine xr_S (V := fun v => some (.int v)) (n := 2) (fr := 1) (lo := 22) (As := [.int a1, .int x2]) C hS (lw_S q367 q368 q67 q369) hd_J7_checkIndex ⟨Nat.le_trans (Nat.le_of_ble_eq_true rfl) hR.1, Nat.le_trans (Nat.le_of_ble_eq_true rfl) hR.2⟩ rfl hl.1.1 rfl xm_r0 hf (fun v h1 k1 n1 e1 => ct_J7_checkIndex l D N e1) dJ2_get_5 (fun x5 h H locs cells slots kc ks hS hf => ?_)
  refine W.eq (g2 := F0 m 8 ls [.int x5]) rfl ?_
  refine lv_pop hx hb dJ2_get_8 rfl ?_
  refine xr_aload_n C dJ2_get_9 rfl (hl.at 0 rfl) ?_
  refine lv_iload_n hx hb dJ2_get_10 rfl (hl.at 1 rfl) ?_
  refine xr_V (V := fun v => some (va_rf v)) (n := 1) (fr := 0) (lo := 0) (As := [.int a1]) C hS xf_J2 (lw_V q373 q374 q375 q59 q376) hdv_J2_elementData ⟨Nat.le_trans (Nat.le_of_ble_eq_true rfl) hR.1, Nat.le_trans (Nat.le_of_ble_eq_true rfl) hR.2⟩ rfl hl.1.1 rfl xm_r0 hf (fun v h1 k1 n1 e1 => ct_J2_elementData l D N e1) dJ2_get_11 (fun x11 h H locs cells slots kc ks hS hf => ?_)
  refine W.eq (g2 := F0 m 14 ls [va_rf x11]) rfl ?_
  exact xr_aret C hS hr (Or.inl ⟨_, rfl⟩) hf dJ2_get_14
theorem ct_J2_get (l : Launch) (D : xh_D) {rv : Option Nat} {h hF : xh_H} {kc ks : Nat} (N : Nat) {a0 : Option Nat} {a1 : Int32} (hf : f_J2_get N a0 a1 h = some (rv, hF, kc, ks)) : xh_Ct l D yJ2_get (ws_ yJ2_get cJ2_get 2 (Option.some (Jvm.ClassFile.FieldType.object "java/lang/Object"))) 2 43 [va_rf a0, .int a1] h (some (va_rf rv)) hF kc ks :=
  xh_meth (cc := cJ2_get) l (by decide) (Nat.le_of_ble_eq_true rfl) (List.forall_mem_cons.mpr ⟨va_rf_cat _, List.forall_mem_cons.mpr ⟨rfl, fun _ h => absurd h List.not_mem_nil⟩⟩) fun p e s m below meth c ls C hr hnm hl hS => w_J2_get C hr ⟨Nat.le_refl _, Nat.le_refl _⟩ N a0 a1 h _ _ _ _ _ _ _ hf hS hl
theorem w_J2_fastRemove_b34 (C : xh_C cJ2_fastRemove 4 "java/util/ArrayList" D g p s m args meth c) (hr : meth.sig.returnType = (Option.none : Option Jvm.ClassFile.FieldType)) (hR : 1 ≤ R.frames ∧ 60 ≤ R.locals) {rv : Unit} {hF : xh_H} (N : Nat) : ∀ (a0 : Option Nat) (a1 : Option Nat) (a3 : Int32) (h : xh_H) (H : Heap) (locs : List Loc) (cells slots kc ks : Nat) (ls : Array Slot), f_J2_fastRemove_b34 N a0 a1 a3 h = some (rv, hF, kc, ks) → xh_T D g s R h H locs cells slots kc ks → xh_L ls 4 [(0, va_rf a0), (1, va_rf a1), (3, .int a3)] → W p l e R s m args below meth c H locs cells slots (MQ below (xh_Q D g none hF) args s R.cells R.slots (xh_A g)) (F0 m 34 ls []) := by
  intro a0 a1 a3 h H locs cells slots kc ks ls hf hS hl
  have hx := C.1
  have hb := C.2.1
  unfold f_J2_fastRemove_b34 at hf
  refine xr_aload_n C dJ2_fastRemove_34 rfl (hl.at 1 rfl) ?_
  refine xr_aload_n C dJ2_fastRemove_35 rfl (hl.at 0 rfl) ?_
  refine lv_iload_n hx hb dJ2_fastRemove_36 rfl (hl.at 2 rfl) ?_
  refine lv_dup_x1 hx hb dJ2_fastRemove_37 rfl (va_rf_cat _) ?_
  refine xr_put C hS xf_J2 2 (by decide) q109 (fun _ h => h) rfl xv_int hf dJ2_fastRemove_38 (fun h H locs hS hf => ?_)
  refine xr_null C dJ2_fastRemove_41 ?_
  refine xr_aast C hS hf dJ2_fastRemove_42 (fun h H locs hS hf => ?_)
  exact xr_vret C hS hr hf dJ2_fastRemove_43
/-- java/util/ArrayList.fastRemove([Ljava/lang/Object;I)V -/
theorem w_J2_fastRemove (C : xh_C cJ2_fastRemove 4 "java/util/ArrayList" D g p s m args meth c) (hr : meth.sig.returnType = (Option.none : Option Jvm.ClassFile.FieldType)) (hR : 1 ≤ R.frames ∧ 60 ≤ R.locals) {rv : Unit} {hF : xh_H} (N : Nat) (a0 : Option Nat) (a1 : Option Nat) (a2 : Int32)  (h : xh_H) (H : Heap) (locs : List Loc) (cells slots kc ks : Nat) (ls : Array Slot) (hf : f_J2_fastRemove N a0 a1 a2 h = some (rv, hF, kc, ks)) (hS : xh_T D g s R h H locs cells slots kc ks) (hl : xh_L ls 4 [(0, va_rf a0), (1, va_rf a1), (2, .int a2)]) : W p l e R s m args below meth c H locs cells slots (MQ below (xh_Q D g none hF) args s R.cells R.slots (xh_A g)) (F0 m 0 ls []) := by
  have hx := C.1
  have hb := C.2.1
  unfold f_J2_fastRemove at hf
  refine xr_aload_n C dJ2_fastRemove_0 rfl (hl.at 0 rfl) ?_
  refine lv_dup hx hb dJ2_fastRemove_1 (va_rf_cat _) ?_
  refine xr_getI C hS xf_J2 0 (by decide) q113 (u_same (C.2.2.2.2.1 _ q112)) hf dJ2_fastRemove_2 (fun x2 hf => ?_)
  refine lv_iconst (v := 1) hx hb dJ2_fastRemove_5 xi_c1 ?_
  refine lv_iadd hx hb dJ2_fastRemove_6 ?_
  refine xr_put C hS xf_J2 0 (by decide) q113 (u_same (C.2.2.2.2.1 _ q112)) rfl xv_int hf dJ2_fastRemove_7 (fun h H locs hS hf => ?_)
  refine xr_aload_n C dJ2_fastRemove_10 rfl (hl.at 0 rfl) ?_
  refine xr_getI C hS xf_J2 2 (by decide) q109 (fun _ h => h) hf dJ2_fastRemove_11 (fun x11 hf => ?_)
  refine lv_iconst (v := 1) hx hb dJ2_fastRemove_14 xi_c1 ?_
  refine lv_isub hx hb dJ2_fastRemove_15 ?_
  refine lv_dup hx hb dJ2_fastRemove_16 rfl ?_
  refine xr_istore_n C dJ2_fastRemove_17 rfl hl (Nat.le_of_ble_eq_true rfl) (lv' := [(3, .int (x11 - (1 : Int32))), (0, va_rf a0), (1, va_rf a1), (2, .int a2)]) rfl (fun ls hl => ?_)
  refine lv_iload_n hx hb dJ2_fastRemove_18 rfl (hl.at 3 rfl) ?_
  refine lv_icmp_le (tgt := 34) hx hb dJ2_fastRemove_19 (by decide) (fun c19 => ?_) (fun c19 => ?_)
  · replace hf := xb_pos c19 hf
    exact w_J2_fastRemove_b34 C hr hR N a0 a1 (x11 - (1 : Int32))  h H locs cells slots kc ks ls hf hS (hl.sub [1, 2, 0] rfl)
  · replace hf := xb_neg c19 hf
    refine xr_aload_n C dJ2_fastRemove_22 rfl (hl.at 2 rfl) ?_
    refine lv_iload_n hx hb dJ2_fastRemove_23 rfl (hl.at 3 rfl) ?_
    refine lv_iconst (v := 1) hx hb dJ2_fastRemove_24 xi_c1 ?_
    refine lv_iadd hx hb dJ2_fastRemove_25 ?_
    refine xr_aload_n C dJ2_fastRemove_26 rfl (hl.at 2 rfl) ?_
    refine lv_iload_n hx hb dJ2_fastRemove_27 rfl (hl.at 3 rfl) ?_
    refine lv_iload_n hx hb dJ2_fastRemove_28 rfl (hl.at 0 rfl) ?_
    refine lv_iload_n hx hb dJ2_fastRemove_29 rfl (hl.at 3 rfl) ?_
    refine lv_isub hx hb dJ2_fastRemove_30 ?_
    refine xr_cpy C hS hl.1.1.symm q495 q325 q324 q66 (Nat.le_trans (Nat.le_of_ble_eq_true rfl) hR.1) (xm_cpy xm_r0 (Nat.le_trans (Nat.le_of_ble_eq_true rfl) hR.2)) hf dJ2_fastRemove_31 (fun h H locs hS hf => ?_)
    exact w_J2_fastRemove_b34 C hr hR N a0 a1 (x11 - (1 : Int32))  h H locs cells slots kc ks ls hf hS (hl.sub [1, 2, 0] rfl)
theorem ct_J2_fastRemove (l : Launch) (D : xh_D) {rv : Unit} {h hF : xh_H} {kc ks : Nat} (N : Nat) {a0 : Option Nat} {a1 : Option Nat} {a2 : Int32} (hf : f_J2_fastRemove N a0 a1 a2 h = some (rv, hF, kc, ks)) : xh_Ct l D yJ2_fastRemove (ws_ yJ2_fastRemove cJ2_fastRemove 4 (Option.none : Option Jvm.ClassFile.FieldType)) 1 60 [va_rf a0, va_rf a1, .int a2] h none hF kc ks :=
  xh_meth (cc := cJ2_fastRemove) l (by decide) (Nat.le_of_ble_eq_true rfl) (List.forall_mem_cons.mpr ⟨va_rf_cat _, List.forall_mem_cons.mpr ⟨va_rf_cat _, List.forall_mem_cons.mpr ⟨rfl, fun _ h => absurd h List.not_mem_nil⟩⟩⟩) fun p e s m below meth c ls C hr hnm hl hS => w_J2_fastRemove C hr ⟨Nat.le_refl _, Nat.le_refl _⟩ N a0 a1 a2 h _ _ _ _ _ _ _ hf hS hl
/-- java/util/ArrayList.remove(I)Ljava/lang/Object; -/
theorem w_J2_remove (C : xh_C cJ2_remove 4 "java/util/ArrayList" D g p s m args meth c) (hr : meth.sig.returnType = (Option.some (Jvm.ClassFile.FieldType.object "java/lang/Object"))) (hR : 2 ≤ R.frames ∧ 83 ≤ R.locals) {rv : Option Nat} {hF : xh_H} (N : Nat) (a0 : Option Nat) (a1 : Int32)  (h : xh_H) (H : Heap) (locs : List Loc) (cells slots kc ks : Nat) (ls : Array Slot) (hf : f_J2_remove N a0 a1 h = some (rv, hF, kc, ks)) (hS : xh_T D g s R h H locs cells slots kc ks) (hl : xh_L ls 4 [(0, va_rf a0), (1, .int a1)]) : W p l e R s m args below meth c H locs cells slots (MQ below (xh_Q D g (some (va_rf rv)) hF) args s R.cells R.slots (xh_A g)) (F0 m 0 ls []) := by
  have hx := C.1
  have hb := C.2.1
  unfold f_J2_remove at hf
  refine lv_iload_n hx hb dJ2_remove_0 rfl (hl.at 1 rfl) ?_
  refine xr_aload_n C dJ2_remove_1 rfl (hl.at 0 rfl) ?_
  refine xr_getI C hS xf_J2 2 (by decide) q109 (fun _ h => h) hf dJ2_remove_2 (fun x2 hf => ?_)
  refine xr_S (V := fun v => some (.int v)) (n := 2) (fr := 1) (lo := 22) (As := [.int a1, .int x2]) C hS (lw_S q367 q368 q67 q369) hd_J7_checkIndex ⟨Nat.le_trans (Nat.le_of_ble_eq_true rfl) hR.1, Nat.le_trans (Nat.le_of_ble_eq_true rfl) hR.2⟩ rfl hl.1.1 rfl xm_r0 hf (fun v h1 k1 n1 e1 => ct_J7_checkIndex l D N e1) dJ2_remove_5 (fun x5 h H locs cells slots kc ks hS hf => ?_)
  refine W.eq (g2 := F0 m 8 ls [.int x5]) rfl ?_
  refine lv_pop hx hb dJ2_remove_8 rfl ?_
  refine xr_aload_n C dJ2_remove_9 rfl (hl.at 0 rfl) ?_
  refine xr_getR C hS xf_J2 1 (by decide) q106 (fun _ h => h) hf dJ2_remove_10 (fun x10 hf => ?_)
  refine xr_astore_n C dJ2_remove_13 rfl hl (Nat.le_of_ble_eq_true rfl) (lv' := [(2, va_rf x10), (0, va_rf a0), (1, .int a1)]) rfl (fun ls hl => ?_)
  refine xr_aload_n C dJ2_remove_14 rfl (hl.at 0 rfl) ?_
  refine lv_iload_n hx hb dJ2_remove_15 rfl (hl.at 2 rfl) ?_
  refine xr_aald C hS hf dJ2_remove_16 (fun x16 hf => ?_)
  refine xr_astore_n C dJ2_remove_17 rfl hl (Nat.le_of_ble_eq_true rfl) (lv' := [(3, va_rf x16), (2, va_rf x10), (0, va_rf a0), (1, .int a1)]) rfl (fun ls hl => ?_)
  refine xr_aload_n C dJ2_remove_18 rfl (hl.at 2 rfl) ?_
  refine xr_aload_n C dJ2_remove_19 rfl (hl.at 1 rfl) ?_
  refine lv_iload_n hx hb dJ2_remove_20 rfl (hl.at 3 rfl) ?_
  refine xr_V (V := fun _ => none) (n := 2) (fr := 1) (lo := 60) (As := [va_rf x10, .int a1]) C hS xf_J2 (lw_V q491 q493 qs5 q59 q494) hdv_J2_fastRemove ⟨Nat.le_trans (Nat.le_of_ble_eq_true rfl) hR.1, Nat.le_trans (Nat.le_of_ble_eq_true rfl) hR.2⟩ rfl hl.1.1 rfl xm_r0 hf (fun v h1 k1 n1 e1 => ct_J2_fastRemove l D N e1) dJ2_remove_21 (fun _ h H locs cells slots kc ks hS hf => ?_)
  refine W.eq (g2 := F0 m 24 ls []) rfl ?_
  refine xr_aload_n C dJ2_remove_24 rfl (hl.at 0 rfl) ?_
  exact xr_aret C hS hr (Or.inl ⟨_, rfl⟩) hf dJ2_remove_25
theorem ct_J2_remove (l : Launch) (D : xh_D) {rv : Option Nat} {h hF : xh_H} {kc ks : Nat} (N : Nat) {a0 : Option Nat} {a1 : Int32} (hf : f_J2_remove N a0 a1 h = some (rv, hF, kc, ks)) : xh_Ct l D yJ2_remove (ws_ yJ2_remove cJ2_remove 4 (Option.some (Jvm.ClassFile.FieldType.object "java/lang/Object"))) 2 83 [va_rf a0, .int a1] h (some (va_rf rv)) hF kc ks :=
  xh_meth (cc := cJ2_remove) l (by decide) (Nat.le_of_ble_eq_true rfl) (List.forall_mem_cons.mpr ⟨va_rf_cat _, List.forall_mem_cons.mpr ⟨rfl, fun _ h => absurd h List.not_mem_nil⟩⟩) fun p e s m below meth c ls C hr hnm hl hS => w_J2_remove C hr ⟨Nat.le_refl _, Nat.le_refl _⟩ N a0 a1 h _ _ _ _ _ _ _ hf hS hl
def K_J2_clear_27 (p : Program) (l : Launch) (e : Env) (s : State) (m : MethodId) (args : Array Value) (below : List Frame) (meth : Method) (c : Code) (D : xh_D) (g : Nat → Nat) (R : Room) (rv : Unit) (hF : xh_H) (k : Option Nat → Int32 → Int32 → xh_H → xh_R Unit) : Prop := ∀ (a1 : Option Nat) (a2 : Int32) (a3 : Int32) (h : xh_H) (H : Heap) (locs : List Loc) (cells slots kc ks : Nat) (ls : Array Slot), k a1 a2 a3 h = some (rv, hF, kc, ks) → xh_T D g s R h H locs cells slots kc ks → xh_L ls 4 [(1, va_rf a1), (2, .int a2), (3, .int a3)] → W p l e R s m args below meth c H locs cells slots (MQ below (xh_Q D g none hF) args s R.cells R.slots (xh_A g)) (F0 m 27 ls [])
theorem w_J2_clear_b27 (C : xh_C cJ2_clear 4 "java/util/ArrayList" D g p s m args meth c) (hr : meth.sig.returnType = (Option.none : Option Jvm.ClassFile.FieldType)) (hR : 0 ≤ R.frames ∧ 0 ≤ R.locals) {rv : Unit} {hF : xh_H} (N : Nat) {k27 : Option Nat → Int32 → Int32 → xh_H → xh_R Unit} (hk27 : K_J2_clear_27 p l e s m args below meth c D g R rv hF k27) : ∀ (a1 : Option Nat) (a2 : Int32) (a3 : Int32) (h : xh_H) (H : Heap) (locs : List Loc) (cells slots kc ks : Nat) (ls : Array Slot), f_J2_clear_b27 N k27 a1 a2 a3 h = some (rv, hF, kc, ks) → xh_T D g s R h H locs cells slots kc ks → xh_L ls 4 [(1, va_rf a1), (2, .int a2), (3, .int a3)] → W p l e R s m args below meth c H locs cells slots (MQ below (xh_Q D g none hF) args s R.cells R.slots (xh_A g)) (F0 m 27 ls []) := by
  intro a1 a2 a3 h H locs cells slots kc ks ls hf hS hl
  have hx := C.1
  have hb := C.2.1
  unfold f_J2_clear_b27 at hf
  refine lv_iload_n hx hb dJ2_clear_27 rfl (hl.at 2 rfl) ?_
  refine lv_iload_n hx hb dJ2_clear_28 rfl (hl.at 1 rfl) ?_
  refine lv_icmp_ge (tgt := 42) hx hb dJ2_clear_29 (by decide) (fun c29 => ?_) (fun c29 => ?_)
  · replace hf := xb_pos c29 hf
    exact xr_vret C hS hr hf dJ2_clear_42
  · replace hf := xb_neg c29 hf
    refine xr_aload_n C dJ2_clear_32 rfl (hl.at 0 rfl) ?_
    refine lv_iload_n hx hb dJ2_clear_33 rfl (hl.at 2 rfl) ?_
    refine xr_null C dJ2_clear_34 ?_
    refine xr_aast C hS hf dJ2_clear_35 (fun h H locs hS hf => ?_)
    refine xr_iinc C dJ2_clear_36 hl (k := 2) rfl (xi_inc xi_c1) (Nat.le_of_ble_eq_true rfl) (lv' := [(3, .int (a3 + (1 : Int32))), (1, va_rf a1), (2, .int a2)]) rfl (fun ls hl => ?_)
    refine lv_goto (tgt := 27) hx hb dJ2_clear_39 (by decide) ?_
    exact hk27 a1 a2 (a3 + (1 : Int32))  h H locs cells slots kc ks ls hf hS (hl.sub [1, 2, 0] rfl)
theorem w_J2_clear_l27 (C : xh_C cJ2_clear 4 "java/util/ArrayList" D g p s m args meth c) (hr : meth.sig.returnType = (Option.none : Option Jvm.ClassFile.FieldType)) (hR : 0 ≤ R.frames ∧ 0 ≤ R.locals) {rv : Unit} {hF : xh_H} (N : Nat) : ∀ n : Nat, K_J2_clear_27 p l e s m args below meth c D g R rv hF (f_J2_clear_l27 N n) := by
  intro n
  induction n with
  | zero => exact fun a1 a2 a3 h H locs cells slots kc ks ls hf => absurd (show (none : xh_R Unit) = some _ from hf) (by intro q; cases q)
  | succ n ih => exact fun a1 a2 a3 h H locs cells slots kc ks ls hf => w_J2_clear_b27 C hr hR N ih a1 a2 a3 h H locs cells slots kc ks ls hf
/-- java/util/ArrayList.clear()V -/
theorem w_J2_clear (C : xh_C cJ2_clear 4 "java/util/ArrayList" D g p s m args meth c) (hr : meth.sig.returnType = (Option.none : Option Jvm.ClassFile.FieldType)) (hR : 0 ≤ R.frames ∧ 0 ≤ R.locals) {rv : Unit} {hF : xh_H} (N : Nat) (a0 : Option Nat)  (h : xh_H) (H : Heap) (locs : List Loc) (cells slots kc ks : Nat) (ls : Array Slot) (hf : f_J2_clear N a0 h = some (rv, hF, kc, ks)) (hS : xh_T D g s R h H locs cells slots kc ks) (hl : xh_L ls 4 [(0, va_rf a0)]) : W p l e R s m args below meth c H locs cells slots (MQ below (xh_Q D g none hF) args s R.cells R.slots (xh_A g)) (F0 m 0 ls []) := by
  have hx := C.1
  have hb := C.2.1
  unfold f_J2_clear at hf
  refine xr_aload_n C dJ2_clear_0 rfl (hl.at 0 rfl) ?_
  refine lv_dup hx hb dJ2_clear_1 (va_rf_cat _) ?_
  refine xr_getI C hS xf_J2 0 (by decide) q113 (u_same (C.2.2.2.2.1 _ q112)) hf dJ2_clear_2 (fun x2 hf => ?_)
  refine lv_iconst (v := 1) hx hb dJ2_clear_5 xi_c1 ?_
  refine lv_iadd hx hb dJ2_clear_6 ?_
  refine xr_put C hS xf_J2 0 (by decide) q113 (u_same (C.2.2.2.2.1 _ q112)) rfl xv_int hf dJ2_clear_7 (fun h H locs hS hf => ?_)
  refine xr_aload_n C dJ2_clear_10 rfl (hl.at 0 rfl) ?_
  refine xr_getR C hS xf_J2 1 (by decide) q106 (fun _ h => h) hf dJ2_clear_11 (fun x11 hf => ?_)
  refine xr_astore_n C dJ2_clear_14 rfl hl (Nat.le_of_ble_eq_true rfl) (lv' := [(1, va_rf x11), (0, va_rf a0)]) rfl (fun ls hl => ?_)
  refine xr_aload_n C dJ2_clear_15 rfl (hl.at 1 rfl) ?_
  refine xr_getI C hS xf_J2 2 (by decide) q109 (fun _ h => h) hf dJ2_clear_16 (fun x16 hf => ?_)
  refine xr_istore_n C dJ2_clear_19 rfl hl (Nat.le_of_ble_eq_true rfl) (lv' := [(2, .int x16), (1, va_rf x11), (0, va_rf a0)]) rfl (fun ls hl => ?_)
  refine xr_aload_n C dJ2_clear_20 rfl (hl.at 2 rfl) ?_
  refine lv_iconst (v := 0) hx hb dJ2_clear_21 xi_c0 ?_
  refine lv_dup_x1 hx hb dJ2_clear_22 rfl (va_rf_cat _) ?_
  refine xr_put C hS xf_J2 2 (by decide) q109 (fun _ h => h) rfl xv_int hf dJ2_clear_23 (fun h H locs hS hf => ?_)
  refine xr_istore_n C dJ2_clear_26 rfl hl (Nat.le_of_ble_eq_true rfl) (lv' := [(3, .int (0 : Int32)), (2, .int x16), (1, va_rf x11), (0, va_rf a0)]) rfl (fun ls hl => ?_)
  exact w_J2_clear_l27 C hr hR N N x11 x16 (0 : Int32)  h H locs cells slots kc ks ls hf hS (hl.sub [2, 1, 0] rfl)
theorem ct_J2_clear (l : Launch) (D : xh_D) {rv : Unit} {h hF : xh_H} {kc ks : Nat} (N : Nat) {a0 : Option Nat} (hf : f_J2_clear N a0 h = some (rv, hF, kc, ks)) : xh_Ct l D yJ2_clear (ws_ yJ2_clear cJ2_clear 4 (Option.none : Option Jvm.ClassFile.FieldType)) 0 0 [va_rf a0] h none hF kc ks :=
  xh_meth (cc := cJ2_clear) l (by decide) (Nat.le_of_ble_eq_true rfl) (List.forall_mem_cons.mpr ⟨va_rf_cat _, fun _ h => absurd h List.not_mem_nil⟩) fun p e s m below meth c ls C hr hnm hl hS => w_J2_clear C hr ⟨Nat.le_refl _, Nat.le_refl _⟩ N a0 h _ _ _ _ _ _ _ hf hS hl
/-- java/util/ArrayList$Itr.hasNext()Z -/
theorem w_J3_hasNext (C : xh_C cJ3_hasNext 1 "java/util/ArrayList$Itr" D g p s m args meth c) (hr : meth.sig.returnType = (Option.some Jvm.ClassFile.FieldType.boolean)) (hR : 0 ≤ R.frames ∧ 0 ≤ R.locals) {rv : Int32} {hF : xh_H} (N : Nat) (a0 : Option Nat)  (h : xh_H) (H : Heap) (locs : List Loc) (cells slots kc ks : Nat) (ls : Array Slot) (hf : f_J3_hasNext N a0 h = some (rv, hF, kc, ks)) (hS : xh_T D g s R h H locs cells slots kc ks) (hl : xh_L ls 1 [(0, va_rf a0)]) : W p l e R s m args below meth c H locs cells slots (MQ below (xh_Q D g (some (.int rv)) hF) args s R.cells R.slots (xh_A g)) (F0 m 0 ls []) := by
  have hx := C.1
  have hb := C.2.1
  unfold f_J3_hasNext at hf
  refine xr_aload_n C dJ3_hasNext_0 rfl (hl.at 0 rfl) ?_
  refine xr_getI C hS xf_J3 0 (by decide) q229 (fun _ h => h) hf dJ3_hasNext_1 (fun x1 hf => ?_)
  refine xr_aload_n C dJ3_hasNext_4 rfl (hl.at 0 rfl) ?_
  refine xr_getR C hS xf_J3 3 (by decide) q232 (fun _ h => h) hf dJ3_hasNext_5 (fun x5 hf => ?_)
  refine xr_getNI C hS xf_J2 2 (by decide) xn_q108 rfl hf dJ3_hasNext_8 (fun x8 hf => ?_)
  refine lv_icmp_eq (tgt := 18) hx hb dJ3_hasNext_11 (by decide) (fun c11 => ?_) (fun c11 => ?_)
  · replace hf := xb_pos c11 hf
    refine lv_iconst (v := 0) hx hb dJ3_hasNext_18 xi_c0 ?_
    exact xr_zret1 C hS hr (by decide) hf dJ3_hasNext_19
  · replace hf := xb_neg c11 hf
    refine lv_iconst (v := 1) hx hb dJ3_hasNext_14 xi_c1 ?_
    refine lv_goto (tgt := 19) hx hb dJ3_hasNext_15 (by decide) ?_
    exact xr_zret1 C hS hr (by decide) hf dJ3_hasNext_19
theorem ct_J3_hasNext (l : Launch) (D : xh_D) {rv : Int32} {h hF : xh_H} {kc ks : Nat} (N : Nat) {a0 : Option Nat} (hf : f_J3_hasNext N a0 h = some (rv, hF, kc, ks)) : xh_Ct l D yJ3_hasNext (ws_ yJ3_hasNext cJ3_hasNext 1 (Option.some Jvm.ClassFile.FieldType.boolean)) 0 0 [va_rf a0] h (some (.int rv)) hF kc ks :=
  xh_meth (cc := cJ3_hasNext) l (by decide) (Nat.le_of_ble_eq_true rfl) (List.forall_mem_cons.mpr ⟨va_rf_cat _, fun _ h => absurd h List.not_mem_nil⟩) fun p e s m below meth c ls C hr hnm hl hS => w_J3_hasNext C hr ⟨Nat.le_refl _, Nat.le_refl _⟩ N a0 h _ _ _ _ _ _ _ hf hS hl
/-- java/util/ArrayList$Itr.checkForComodification()V -/
theorem w_J3_checkForComodification (C : xh_C cJ3_checkForComodification 1 "java/util/ArrayList$Itr" D g p s m args meth c) (hr : meth.sig.returnType = (Option.none : Option Jvm.ClassFile.FieldType)) (hR : 0 ≤ R.frames ∧ 0 ≤ R.locals) {rv : Unit} {hF : xh_H} (N : Nat) (a0 : Option Nat)  (h : xh_H) (H : Heap) (locs : List Loc) (cells slots kc ks : Nat) (ls : Array Slot) (hf : f_J3_checkForComodification N a0 h = some (rv, hF, kc, ks)) (hS : xh_T D g s R h H locs cells slots kc ks) (hl : xh_L ls 1 [(0, va_rf a0)]) : W p l e R s m args below meth c H locs cells slots (MQ below (xh_Q D g none hF) args s R.cells R.slots (xh_A g)) (F0 m 0 ls []) := by
  have hx := C.1
  have hb := C.2.1
  unfold f_J3_checkForComodification at hf
  refine xr_aload_n C dJ3_checkForComodification_0 rfl (hl.at 0 rfl) ?_
  refine xr_getR C hS xf_J3 3 (by decide) q232 (fun _ h => h) hf dJ3_checkForComodification_1 (fun x1 hf => ?_)
  refine xr_getI C hS xf_J2 0 (by decide) q111 (u_same (C.2.2.2.2.1 _ q112)) hf dJ3_checkForComodification_4 (fun x4 hf => ?_)
  refine xr_aload_n C dJ3_checkForComodification_7 rfl (hl.at 0 rfl) ?_
  refine xr_getI C hS xf_J3 2 (by decide) q231 (fun _ h => h) hf dJ3_checkForComodification_8 (fun x8 hf => ?_)
  refine lv_icmp_eq (tgt := 22) hx hb dJ3_checkForComodification_11 (by decide) (fun c11 => ?_) (fun c11 => ?_)
  · replace hf := xb_pos c11 hf
    exact xr_vret C hS hr hf dJ3_checkForComodification_22
  · replace hf := xb_neg c11 hf
    cases hf
theorem ct_J3_checkForComodification (l : Launch) (D : xh_D) {rv : Unit} {h hF : xh_H} {kc ks : Nat} (N : Nat) {a0 : Option Nat} (hf : f_J3_checkForComodification N a0 h = some (rv, hF, kc, ks)) : xh_Ct l D yJ3_checkForComodification (ws_ yJ3_checkForComodification cJ3_checkForComodification 1 (Option.none : Option Jvm.ClassFile.FieldType)) 0 0 [va_rf a0] h none hF kc ks :=
  xh_meth (cc := cJ3_checkForComodification) l (by decide) (Nat.le_of_ble_eq_true rfl) (List.forall_mem_cons.mpr ⟨va_rf_cat _, fun _ h => absurd h List.not_mem_nil⟩) fun p e s m below meth c ls C hr hnm hl hS => w_J3_checkForComodification C hr ⟨Nat.le_refl _, Nat.le_refl _⟩ N a0 h _ _ _ _ _ _ _ hf hS hl
end WALK
