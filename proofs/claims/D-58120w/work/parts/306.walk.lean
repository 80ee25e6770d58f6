/-! WALKS, printed by gen/walk.py -/
set_option maxRecDepth 100000
section WALK
variable {p : Program} {l : Launch} {e : Env} {s : State} {m : MethodId} {args : Array Value} {below : List Frame} {meth : Method} {c : Code} {D : xh_D} {g : Nat → Nat} {R : Room}
/-- SungSlides.undo()I -/
theorem w_X0_undo (C : xh_C cX0_undo 1 "SungSlides" D g p s m args meth c) (hr : meth.sig.returnType = (Option.some Jvm.ClassFile.FieldType.int)) (hR : 3 ≤ R.frames ∧ 106 ≤ R.locals) {rv : Int32} {hF : xh_H} (N : Nat) (a0 : Option Nat)  (h : xh_H) (H : Heap) (locs : List Loc) (cells slots kc ks : Nat) (ls : Array Slot) (hf : f_X0_undo N a0 h = some (rv, hF, kc, ks)) (hS : xh_T D g s R h H locs cells slots kc ks) (hl : xh_L ls 1 [(0, va_rf a0)]) : W p l e R s m args below meth c H locs cells slots (MQ below (xh_Q D g (some (.int rv)) hF) args s R.cells R.slots (xh_A g)) (F0 m 0 ls []) := by
  have hx := C.1
  have hb := C.2.1
  unfold f_X0_undo at hf
  refine xr_aload_n C dX0_undo_0 rfl (hl.at 0 rfl) ?_
  refine xr_getR C hS xf_X0 1 (by decide) q140 (fun _ h => h) hf dX0_undo_1 (fun x1 hf => ?_)
  refine xr_F (V := fun v => some (.int v)) (n := 0) (fr := 0) (lo := 0) (As := []) C hS xf_J2 q503 q340 q342 q59 q344 xn_i4 hdi_J2_isEmpty ⟨Nat.le_trans (Nat.le_of_ble_eq_true rfl) hR.1, Nat.le_trans (Nat.le_of_ble_eq_true rfl) hR.2⟩ rfl hl.1.1 rfl xm_r0 hf (fun v h1 k1 n1 e1 => ct_J2_isEmpty l D N e1) dX0_undo_4 (fun x4 h H locs cells slots kc ks hS hf => ?_)
  refine W.eq (g2 := F0 m 9 ls [.int x4]) rfl ?_
  refine lv_if_eq (tgt := 15) hx hb dX0_undo_9 (by decide) (fun c9 => ?_) (fun c9 => ?_)
  · replace hf := xb_pos c9 hf
    refine xr_aload_n C dX0_undo_15 rfl (hl.at 0 rfl) ?_
    refine xr_aload_n C dX0_undo_16 rfl (hl.at 0 rfl) ?_
    refine xr_getR C hS xf_X0 1 (by decide) q140 (fun _ h => h) hf dX0_undo_17 (fun x17 hf => ?_)
    refine xr_aload_n C dX0_undo_20 rfl (hl.at 0 rfl) ?_
    refine xr_getR C hS xf_X0 1 (by decide) q140 (fun _ h => h) hf dX0_undo_21 (fun x21 hf => ?_)
    refine xr_F (V := fun v => some (.int v)) (n := 0) (fr := 0) (lo := 0) (As := []) C hS xf_J2 q481 q353 q355 q59 q357 xn_i5 hdi_J2_size ⟨Nat.le_trans (Nat.le_of_ble_eq_true rfl) hR.1, Nat.le_trans (Nat.le_of_ble_eq_true rfl) hR.2⟩ rfl hl.1.1 rfl (xm_rc (va_rf_cat _) (xm_rc (va_rf_cat _) xm_r0)) hf (fun v h1 k1 n1 e1 => ct_J2_size l D N e1) dX0_undo_24 (fun x24 h H locs cells slots kc ks hS hf => ?_)
    refine W.eq (g2 := F0 m 29 ls [.int x24, va_rf x17, va_rf a0]) rfl ?_
    refine lv_iconst (v := 1) hx hb dX0_undo_29 xi_c1 ?_
    refine lv_isub hx hb dX0_undo_30 ?_
    refine xr_F (V := fun v => some (va_rf v)) (n := 1) (fr := 2) (lo := 83) (As := [.int (x24 - (1 : Int32))]) C hS xf_J2 q483 q486 q488 q59 q490 xn_i7 hdi_J2_remove ⟨Nat.le_trans (Nat.le_of_ble_eq_true rfl) hR.1, Nat.le_trans (Nat.le_of_ble_eq_true rfl) hR.2⟩ rfl hl.1.1 rfl (xm_rc (va_rf_cat _) xm_r0) hf (fun v h1 k1 n1 e1 => ct_J2_remove l D N e1) dX0_undo_31 (fun x31 h H locs cells slots kc ks hS hf => ?_)
    refine W.eq (g2 := F0 m 36 ls [va_rf x31, va_rf a0]) rfl ?_
    refine xr_ccS C hS xf_X1 q83 hf dX0_undo_36 (fun hf => ?_)
    refine xr_put C hS xf_X0 0 (by decide) q139 (fun _ h => h) rfl xv_obj hf dX0_undo_39 (fun h H locs hS hf => ?_)
    refine xr_aload_n C dX0_undo_42 rfl (hl.at 0 rfl) ?_
    refine xr_getR C hS xf_X0 1 (by decide) q140 (fun _ h => h) hf dX0_undo_43 (fun x43 hf => ?_)
    refine xr_F (V := fun v => some (.int v)) (n := 0) (fr := 0) (lo := 0) (As := []) C hS xf_J2 q481 q353 q355 q59 q357 xn_i5 hdi_J2_size ⟨Nat.le_trans (Nat.le_of_ble_eq_true rfl) hR.1, Nat.le_trans (Nat.le_of_ble_eq_true rfl) hR.2⟩ rfl hl.1.1 rfl xm_r0 hf (fun v h1 k1 n1 e1 => ct_J2_size l D N e1) dX0_undo_46 (fun x46 h H locs cells slots kc ks hS hf => ?_)
    refine W.eq (g2 := F0 m 51 ls [.int x46]) rfl ?_
    exact xr_iret C hS hr hf dX0_undo_51
  · replace hf := xb_neg c9 hf
    refine lv_bipush (v := -5) hx hb dX0_undo_12 xi_bm5 ?_
    exact xr_iret C hS hr hf dX0_undo_14
theorem ct_X0_undo (l : Launch) (D : xh_D) {rv : Int32} {h hF : xh_H} {kc ks : Nat} (N : Nat) {a0 : Option Nat} (hf : f_X0_undo N a0 h = some (rv, hF, kc, ks)) : xh_Ct l D yX0_undo (ws_ yX0_undo cX0_undo 1 (Option.some Jvm.ClassFile.FieldType.int)) 3 106 [va_rf a0] h (some (.int rv)) hF kc ks :=
  xh_meth (cc := cX0_undo) l (by decide) (Nat.le_of_ble_eq_true rfl) (List.forall_mem_cons.mpr ⟨va_rf_cat _, fun _ h => absurd h List.not_mem_nil⟩) fun p e s m below meth c ls C hr hnm hl hS => w_X0_undo C hr ⟨Nat.le_refl _, Nat.le_refl _⟩ N a0 h _ _ _ _ _ _ _ hf hS hl
/-- SungSlides.keep()I -/
theorem w_X0_keep (C : xh_C cX0_keep 1 "SungSlides" D g p s m args meth c) (hr : meth.sig.returnType = (Option.some Jvm.ClassFile.FieldType.int)) (hR : 8 ≤ R.frames ∧ 214 ≤ R.locals) {rv : Int32} {hF : xh_H} (N : Nat) (a0 : Option Nat)  (h : xh_H) (H : Heap) (locs : List Loc) (cells slots kc ks : Nat) (ls : Array Slot) (hf : f_X0_keep N a0 h = some (rv, hF, kc, ks)) (hS : xh_T D g s R h H locs cells slots kc ks) (hl : xh_L ls 1 [(0, va_rf a0)]) : W p l e R s m args below meth c H locs cells slots (MQ below (xh_Q D g (some (.int rv)) hF) args s R.cells R.slots (xh_A g)) (F0 m 0 ls []) := by
  have hx := C.1
  have hb := C.2.1
  unfold f_X0_keep at hf
  refine xr_aload_n C dX0_keep_0 rfl (hl.at 0 rfl) ?_
  refine xr_aload_n C dX0_keep_1 rfl (hl.at 0 rfl) ?_
  refine xr_getR C hS xf_X0 0 (by decide) q139 (fun _ h => h) hf dX0_keep_2 (fun x2 hf => ?_)
  refine xr_V (V := fun v => some (va_rf v)) (n := 0) (fr := 7) (lo := 191) (As := []) C hS xf_X1 (lw_V q201 q202 q203 q56 q204) hdv_X1_copy ⟨Nat.le_trans (Nat.le_of_ble_eq_true rfl) hR.1, Nat.le_trans (Nat.le_of_ble_eq_true rfl) hR.2⟩ rfl hl.1.1 rfl (xm_rc (va_rf_cat _) xm_r0) hf (fun v h1 k1 n1 e1 => ct_X1_copy l D N e1) dX0_keep_5 (fun x5 h H locs cells slots kc ks hS hf => ?_)
  refine W.eq (g2 := F0 m 8 ls [va_rf x5, va_rf a0]) rfl ?_
  refine xr_put C hS xf_X0 2 (by decide) q141 (fun _ h => h) rfl xv_obj hf dX0_keep_8 (fun h H locs hS hf => ?_)
  refine xr_aload_n C dX0_keep_11 rfl (hl.at 0 rfl) ?_
  refine xr_getR C hS xf_X0 0 (by decide) q139 (fun _ h => h) hf dX0_keep_12 (fun x12 hf => ?_)
  refine xr_V (V := fun v => some (.int v)) (n := 0) (fr := 1) (lo := 20) (As := []) C hS xf_X1 (lw_V q472 q346 q347 q56 q348) hdv_X1_many ⟨Nat.le_trans (Nat.le_of_ble_eq_true rfl) hR.1, Nat.le_trans (Nat.le_of_ble_eq_true rfl) hR.2⟩ rfl hl.1.1 rfl xm_r0 hf (fun v h1 k1 n1 e1 => ct_X1_many l D N e1) dX0_keep_15 (fun x15 h H locs cells slots kc ks hS hf => ?_)
  refine W.eq (g2 := F0 m 18 ls [.int x15]) rfl ?_
  exact xr_iret C hS hr hf dX0_keep_18
theorem ct_X0_keep (l : Launch) (D : xh_D) {rv : Int32} {h hF : xh_H} {kc ks : Nat} (N : Nat) {a0 : Option Nat} (hf : f_X0_keep N a0 h = some (rv, hF, kc, ks)) : xh_Ct l D yX0_keep (ws_ yX0_keep cX0_keep 1 (Option.some Jvm.ClassFile.FieldType.int)) 8 214 [va_rf a0] h (some (.int rv)) hF kc ks :=
  xh_meth (cc := cX0_keep) l (by decide) (Nat.le_of_ble_eq_true rfl) (List.forall_mem_cons.mpr ⟨va_rf_cat _, fun _ h => absurd h List.not_mem_nil⟩) fun p e s m below meth c ls C hr hnm hl hS => w_X0_keep C hr ⟨Nat.le_refl _, Nat.le_refl _⟩ N a0 h _ _ _ _ _ _ _ hf hS hl
/-- SungSlides.restore()I -/
theorem w_X0_restore (C : xh_C cX0_restore 2 "SungSlides" D g p s m args meth c) (hr : meth.sig.returnType = (Option.some Jvm.ClassFile.FieldType.int)) (hR : 8 ≤ R.frames ∧ 214 ≤ R.locals) {rv : Int32} {hF : xh_H} (N : Nat) (a0 : Option Nat)  (h : xh_H) (H : Heap) (locs : List Loc) (cells slots kc ks : Nat) (ls : Array Slot) (hf : f_X0_restore N a0 h = some (rv, hF, kc, ks)) (hS : xh_T D g s R h H locs cells slots kc ks) (hl : xh_L ls 2 [(0, va_rf a0)]) : W p l e R s m args below meth c H locs cells slots (MQ below (xh_Q D g (some (.int rv)) hF) args s R.cells R.slots (xh_A g)) (F0 m 0 ls []) := by
  have hx := C.1
  have hb := C.2.1
  unfold f_X0_restore at hf
  refine xr_aload_n C dX0_restore_0 rfl (hl.at 0 rfl) ?_
  refine xr_getR C hS xf_X0 2 (by decide) q141 (fun _ h => h) hf dX0_restore_1 (fun x1 hf => ?_)
  refine xr_ifnonnull C (tgt := 10) dX0_restore_4 (by decide) (fun c4 => ?_) (fun c4 => ?_)
  · replace hf := xb_neg c4 hf
    refine xr_aload_n C dX0_restore_10 rfl (hl.at 0 rfl) ?_
    refine xr_getR C hS xf_X0 0 (by decide) q139 (fun _ h => h) hf dX0_restore_11 (fun x11 hf => ?_)
    refine xr_astore_n C dX0_restore_14 rfl hl (Nat.le_of_ble_eq_true rfl) (lv' := [(1, va_rf x11), (0, va_rf a0)]) rfl (fun ls hl => ?_)
    refine xr_aload_n C dX0_restore_15 rfl (hl.at 1 rfl) ?_
    refine xr_aload_n C dX0_restore_16 rfl (hl.at 1 rfl) ?_
    refine xr_getR C hS xf_X0 2 (by decide) q141 (fun _ h => h) hf dX0_restore_17 (fun x17 hf => ?_)
    refine xr_V (V := fun v => some (va_rf v)) (n := 0) (fr := 7) (lo := 191) (As := []) C hS xf_X1 (lw_V q201 q202 q203 q56 q204) hdv_X1_copy ⟨Nat.le_trans (Nat.le_of_ble_eq_true rfl) hR.1, Nat.le_trans (Nat.le_of_ble_eq_true rfl) hR.2⟩ rfl hl.1.1 rfl (xm_rc (va_rf_cat _) xm_r0) hf (fun v h1 k1 n1 e1 => ct_X1_copy l D N e1) dX0_restore_20 (fun x20 h H locs cells slots kc ks hS hf => ?_)
    refine W.eq (g2 := F0 m 23 ls [va_rf x20, va_rf a0]) rfl ?_
    refine xr_put C hS xf_X0 0 (by decide) q139 (fun _ h => h) rfl xv_obj hf dX0_restore_23 (fun h H locs hS hf => ?_)
    refine xr_aload_n C dX0_restore_26 rfl (hl.at 1 rfl) ?_
    refine xr_aload_n C dX0_restore_27 rfl (hl.at 0 rfl) ?_
    refine xr_aload_n C dX0_restore_28 rfl (hl.at 1 rfl) ?_
    refine xr_getR C hS xf_X0 0 (by decide) q139 (fun _ h => h) hf dX0_restore_29 (fun x29 hf => ?_)
    refine xr_V (V := fun v => some (.int v)) (n := 0) (fr := 1) (lo := 20) (As := []) C hS xf_X1 (lw_V q472 q346 q347 q56 q348) hdv_X1_many ⟨Nat.le_trans (Nat.le_of_ble_eq_true rfl) hR.1, Nat.le_trans (Nat.le_of_ble_eq_true rfl) hR.2⟩ rfl hl.1.1 rfl (xm_rc (va_rf_cat _) (xm_rc (va_rf_cat _) xm_r0)) hf (fun v h1 k1 n1 e1 => ct_X1_many l D N e1) dX0_restore_32 (fun x32 h H locs cells slots kc ks hS hf => ?_)
    refine W.eq (g2 := F0 m 35 ls [.int x32, va_rf x11, va_rf a0]) rfl ?_
    refine xr_V (V := fun v => some (.int v)) (n := 2) (fr := 7) (lo := 191) (As := [va_rf x11, .int x32]) C hS xf_X0 (lw_V q476 q478 qs4 q55 q479) hdv_X0_changed ⟨Nat.le_trans (Nat.le_of_ble_eq_true rfl) hR.1, Nat.le_trans (Nat.le_of_ble_eq_true rfl) hR.2⟩ rfl hl.1.1 rfl xm_r0 hf (fun v h1 k1 n1 e1 => ct_X0_changed l D N e1) dX0_restore_35 (fun x35 h H locs cells slots kc ks hS hf => ?_)
    refine W.eq (g2 := F0 m 38 ls [.int x35]) rfl ?_
    exact xr_iret C hS hr hf dX0_restore_38
  · replace hf := xb_pos c4 hf
    refine lv_bipush (v := -5) hx hb dX0_restore_7 xi_bm5 ?_
    exact xr_iret C hS hr hf dX0_restore_9
theorem ct_X0_restore (l : Launch) (D : xh_D) {rv : Int32} {h hF : xh_H} {kc ks : Nat} (N : Nat) {a0 : Option Nat} (hf : f_X0_restore N a0 h = some (rv, hF, kc, ks)) : xh_Ct l D yX0_restore (ws_ yX0_restore cX0_restore 2 (Option.some Jvm.ClassFile.FieldType.int)) 8 214 [va_rf a0] h (some (.int rv)) hF kc ks :=
  xh_meth (cc := cX0_restore) l (by decide) (Nat.le_of_ble_eq_true rfl) (List.forall_mem_cons.mpr ⟨va_rf_cat _, fun _ h => absurd h List.not_mem_nil⟩) fun p e s m below meth c ls C hr hnm hl hS => w_X0_restore C hr ⟨Nat.le_refl _, Nat.le_refl _⟩ N a0 h _ _ _ _ _ _ _ hf hS hl
/-- SungSlides.ofJudge(LSungSlides$Judge;II)I -/
theorem w_X0_ofJudge (C : xh_C cX0_ofJudge 4 "SungSlides" D g p s m args meth c) (hr : meth.sig.returnType = (Option.some Jvm.ClassFile.FieldType.int)) (hR : 4 ≤ R.frames ∧ 85 ≤ R.locals) {rv : Int32} {hF : xh_H} (N : Nat) (a0 : Option Nat) (a1 : Option Nat) (a2 : Int32) (a3 : Int32)  (h : xh_H) (H : Heap) (locs : List Loc) (cells slots kc ks : Nat) (ls : Array Slot) (hf : f_X0_ofJudge N a0 a1 a2 a3 h = some (rv, hF, kc, ks)) (hS : xh_T D g s R h H locs cells slots kc ks) (hl : xh_L ls 4 [(0, va_rf a0), (1, va_rf a1), (2, .int a2), (3, .int a3)]) : W p l e R s m args below meth c H locs cells slots (MQ below (xh_Q D g (some (.int rv)) hF) args s R.cells R.slots (xh_A g)) (F0 m 0 ls []) := by
  have hx := C.1
  have hb := C.2.1
  unfold f_X0_ofJudge at hf
  refine lv_iload_n hx hb dX0_ofJudge_0 rfl (hl.at 3 rfl) ?_
  by_cases c1_5 : a3 = 5
  · replace hf := xb_pos c1_5 hf
    refine xr_tab c1_5 C dX0_ofJudge_1 (by decide) (by decide) (off := 43) (tgt := 44) (by decide) (by decide) ?_
    refine xr_aload_n C dX0_ofJudge_44 rfl (hl.at 1 rfl) ?_
    refine xr_aload_n C dX0_ofJudge_45 rfl (hl.at 0 rfl) ?_
    refine xr_getR C hS xf_X0 0 (by decide) q139 (fun _ h => h) hf dX0_ofJudge_46 (fun x46 hf => ?_)
    refine xr_getNR C hS xf_X1 0 (by decide) xn_q124 rfl hf dX0_ofJudge_49 (fun x49 hf => ?_)
    refine lv_iload_n hx hb dX0_ofJudge_52 rfl (hl.at 2 rfl) ?_
    refine xr_F (V := fun v => some (va_rf v)) (n := 1) (fr := 2) (lo := 43) (As := [.int a2]) C hS xf_J2 q474 q362 q364 q59 q366 xn_i6 hdi_J2_get ⟨Nat.le_trans (Nat.le_of_ble_eq_true rfl) hR.1, Nat.le_trans (Nat.le_of_ble_eq_true rfl) hR.2⟩ rfl hl.1.1 rfl (xm_rc (va_rf_cat _) xm_r0) hf (fun v h1 k1 n1 e1 => ct_J2_get l D N e1) dX0_ofJudge_53 (fun x53 h H locs cells slots kc ks hS hf => ?_)
    refine W.eq (g2 := F0 m 58 ls [va_rf x53, va_rf a1]) rfl ?_
    refine xr_ccS C hS xf_X5 q475 hf dX0_ofJudge_58 (fun hf => ?_)
    refine lv_iconst (v := 0) hx hb dX0_ofJudge_61 xi_c0 ?_
    refine xr_V (V := fun v => some (.int v)) (n := 2) (fr := 2) (lo := 47) (As := [va_rf x53, .int (0 : Int32)]) C hS xf_X7 (lw_V q721 q671 q672 q74 q673) hdv_X7_bars ⟨Nat.le_trans (Nat.le_of_ble_eq_true rfl) hR.1, Nat.le_trans (Nat.le_of_ble_eq_true rfl) hR.2⟩ rfl hl.1.1 rfl xm_r0 hf (fun v h1 k1 n1 e1 => ct_X7_bars l D N e1) dX0_ofJudge_62 (fun x62 h H locs cells slots kc ks hS hf => ?_)
    refine W.eq (g2 := F0 m 65 ls [.int x62]) rfl ?_
    exact xr_iret C hS hr hf dX0_ofJudge_65
  replace hf := xb_neg c1_5 hf
  by_cases c1_6 : a3 = 6
  · replace hf := xb_pos c1_6 hf
    refine xr_tab c1_6 C dX0_ofJudge_1 (by decide) (by decide) (off := 65) (tgt := 66) (by decide) (by decide) ?_
    refine xr_aload_n C dX0_ofJudge_66 rfl (hl.at 1 rfl) ?_
    refine xr_getNR C hS xf_X7 1 (by decide) xn_q603 rfl hf dX0_ofJudge_67 (fun x67 hf => ?_)
    refine lv_iload_n hx hb dX0_ofJudge_70 rfl (hl.at 2 rfl) ?_
    refine xr_iald C hS hf dX0_ofJudge_71 (fun x71 hf => ?_)
    exact xr_iret C hS hr hf dX0_ofJudge_72
  replace hf := xb_neg c1_6 hf
  by_cases c1_7 : a3 = 7
  · replace hf := xb_pos c1_7 hf
    refine xr_tab c1_7 C dX0_ofJudge_1 (by decide) (by decide) (off := 72) (tgt := 73) (by decide) (by decide) ?_
    refine xr_aload_n C dX0_ofJudge_73 rfl (hl.at 1 rfl) ?_
    refine lv_iload_n hx hb dX0_ofJudge_74 rfl (hl.at 2 rfl) ?_
    refine xr_V (V := fun v => some (.int v)) (n := 1) (fr := 3) (lo := 64) (As := [.int a2]) C hS xf_X7 (lw_V q722 q667 q668 q74 q669) hdv_X7_share ⟨Nat.le_trans (Nat.le_of_ble_eq_true rfl) hR.1, Nat.le_trans (Nat.le_of_ble_eq_true rfl) hR.2⟩ rfl hl.1.1 rfl xm_r0 hf (fun v h1 k1 n1 e1 => ct_X7_share l D N e1) dX0_ofJudge_75 (fun x75 h H locs cells slots kc ks hS hf => ?_)
    refine W.eq (g2 := F0 m 78 ls [.int x75]) rfl ?_
    exact xr_iret C hS hr hf dX0_ofJudge_78
  replace hf := xb_neg c1_7 hf
  by_cases c1_8 : a3 = 8
  · replace hf := xb_pos c1_8 hf
    refine xr_tab c1_8 C dX0_ofJudge_1 (by decide) (by decide) (off := 78) (tgt := 79) (by decide) (by decide) ?_
    refine xr_aload_n C dX0_ofJudge_79 rfl (hl.at 1 rfl) ?_
    refine xr_getNR C hS xf_X7 2 (by decide) xn_q605 rfl hf dX0_ofJudge_80 (fun x80 hf => ?_)
    refine lv_iload_n hx hb dX0_ofJudge_83 rfl (hl.at 2 rfl) ?_
    refine xr_iald C hS hf dX0_ofJudge_84 (fun x84 hf => ?_)
    exact xr_iret C hS hr hf dX0_ofJudge_85
  replace hf := xb_neg c1_8 hf
  by_cases c1_9 : a3 = 9
  · replace hf := xb_pos c1_9 hf
    refine xr_tab c1_9 C dX0_ofJudge_1 (by decide) (by decide) (off := 85) (tgt := 86) (by decide) (by decide) ?_
    refine xr_aload_n C dX0_ofJudge_86 rfl (hl.at 1 rfl) ?_
    refine xr_getNR C hS xf_X7 3 (by decide) xn_q607 rfl hf dX0_ofJudge_87 (fun x87 hf => ?_)
    refine lv_iload_n hx hb dX0_ofJudge_90 rfl (hl.at 2 rfl) ?_
    refine xr_iald C hS hf dX0_ofJudge_91 (fun x91 hf => ?_)
    exact xr_iret C hS hr hf dX0_ofJudge_92
  replace hf := xb_neg c1_9 hf
  by_cases c1_10 : a3 = 10
  · replace hf := xb_pos c1_10 hf
    refine xr_tab c1_10 C dX0_ofJudge_1 (by decide) (by decide) (off := 92) (tgt := 93) (by decide) (by decide) ?_
    refine xr_aload_n C dX0_ofJudge_93 rfl (hl.at 1 rfl) ?_
    refine xr_getNR C hS xf_X7 5 (by decide) xn_q611 rfl hf dX0_ofJudge_94 (fun x94 hf => ?_)
    refine lv_iload_n hx hb dX0_ofJudge_97 rfl (hl.at 2 rfl) ?_
    refine xr_iald C hS hf dX0_ofJudge_98 (fun x98 hf => ?_)
    exact xr_iret C hS hr hf dX0_ofJudge_99
  replace hf := xb_neg c1_10 hf
  by_cases c1_11 : a3 = 11
  · replace hf := xb_pos c1_11 hf
    refine xr_tab c1_11 C dX0_ofJudge_1 (by decide) (by decide) (off := 99) (tgt := 100) (by decide) (by decide) ?_
    refine xr_aload_n C dX0_ofJudge_100 rfl (hl.at 1 rfl) ?_
    refine xr_getNR C hS xf_X7 4 (by decide) xn_q609 rfl hf dX0_ofJudge_101 (fun x101 hf => ?_)
    refine lv_iload_n hx hb dX0_ofJudge_104 rfl (hl.at 2 rfl) ?_
    refine xr_iald C hS hf dX0_ofJudge_105 (fun x105 hf => ?_)
    exact xr_iret C hS hr hf dX0_ofJudge_106
  replace hf := xb_neg c1_11 hf
  refine lv_tableOut (tgt := 107) hx hb dX0_ofJudge_1 (by have ec1_5 := lv_neT c1_5 (a := 5) (by decide); have ec1_6 := lv_neT c1_6 (a := 6) (by decide); have ec1_7 := lv_neT c1_7 (a := 7) (by decide); have ec1_8 := lv_neT c1_8 (a := 8) (by decide); have ec1_9 := lv_neT c1_9 (a := 9) (by decide); have ec1_10 := lv_neT c1_10 (a := 10) (by decide); have ec1_11 := lv_neT c1_11 (a := 11) (by decide); omega) (by decide) ?_
  refine lv_bipush (v := -2) hx hb dX0_ofJudge_107 xi_bm2 ?_
  exact xr_iret C hS hr hf dX0_ofJudge_109
theorem ct_X0_ofJudge (l : Launch) (D : xh_D) {rv : Int32} {h hF : xh_H} {kc ks : Nat} (N : Nat) {a0 : Option Nat} {a1 : Option Nat} {a2 : Int32} {a3 : Int32} (hf : f_X0_ofJudge N a0 a1 a2 a3 h = some (rv, hF, kc, ks)) : xh_Ct l D yX0_ofJudge (ws_ yX0_ofJudge cX0_ofJudge 4 (Option.some Jvm.ClassFile.FieldType.int)) 4 85 [va_rf a0, va_rf a1, .int a2, .int a3] h (some (.int rv)) hF kc ks :=
  xh_meth (cc := cX0_ofJudge) l (by decide) (Nat.le_of_ble_eq_true rfl) (List.forall_mem_cons.mpr ⟨va_rf_cat _, List.forall_mem_cons.mpr ⟨va_rf_cat _, List.forall_mem_cons.mpr ⟨rfl, List.forall_mem_cons.mpr ⟨rfl, fun _ h => absurd h List.not_mem_nil⟩⟩⟩⟩) fun p e s m below meth c ls C hr hnm hl hS => w_X0_ofJudge C hr ⟨Nat.le_refl _, Nat.le_refl _⟩ N a0 a1 a2 a3 h _ _ _ _ _ _ _ hf hS hl
/-- SungSlides.syllable(II)I -/
theorem w_X0_syllable (C : xh_C cX0_syllable 4 "SungSlides" D g p s m args meth c) (hr : meth.sig.returnType = (Option.some Jvm.ClassFile.FieldType.int)) (hR : 8 ≤ R.frames ∧ 175 ≤ R.locals) {rv : Int32} {hF : xh_H} (N : Nat) (a0 : Option Nat) (a1 : Int32) (a2 : Int32)  (h : xh_H) (H : Heap) (locs : List Loc) (cells slots kc ks : Nat) (ls : Array Slot) (hf : f_X0_syllable N a0 a1 a2 h = some (rv, hF, kc, ks)) (hS : xh_T D g s R h H locs cells slots kc ks) (hl : xh_L ls 4 [(0, va_rf a0), (1, .int a1), (2, .int a2)]) : W p l e R s m args below meth c H locs cells slots (MQ below (xh_Q D g (some (.int rv)) hF) args s R.cells R.slots (xh_A g)) (F0 m 0 ls []) := by
  have hx := C.1
  have hb := C.2.1
  unfold f_X0_syllable at hf
  refine xr_aload_n C dX0_syllable_0 rfl (hl.at 0 rfl) ?_
  refine lv_iload_n hx hb dX0_syllable_1 rfl (hl.at 1 rfl) ?_
  refine xr_V (V := fun v => some (.int v)) (n := 1) (fr := 2) (lo := 40) (As := [.int a1]) C hS xf_X0 (lw_V q687 q689 qs16 q55 q690) hdv_X0_isSyllable ⟨Nat.le_trans (Nat.le_of_ble_eq_true rfl) hR.1, Nat.le_trans (Nat.le_of_ble_eq_true rfl) hR.2⟩ rfl hl.1.1 rfl xm_r0 hf (fun v h1 k1 n1 e1 => ct_X0_isSyllable l D N e1) dX0_syllable_2 (fun x2 h H locs cells slots kc ks hS hf => ?_)
  refine W.eq (g2 := F0 m 5 ls [.int x2]) rfl ?_
  refine lv_if_ne (tgt := 10) hx hb dX0_syllable_5 (by decide) (fun c5 => ?_) (fun c5 => ?_)
  · replace hf := xb_neg c5 hf
    refine xr_aload_n C dX0_syllable_10 rfl (hl.at 0 rfl) ?_
    refine xr_getR C hS xf_X0 0 (by decide) q139 (fun _ h => h) hf dX0_syllable_11 (fun x11 hf => ?_)
    refine xr_getNR C hS xf_X1 0 (by decide) xn_q124 rfl hf dX0_syllable_14 (fun x14 hf => ?_)
    refine lv_iload_n hx hb dX0_syllable_17 rfl (hl.at 1 rfl) ?_
    refine xr_F (V := fun v => some (va_rf v)) (n := 1) (fr := 2) (lo := 43) (As := [.int a1]) C hS xf_J2 q474 q362 q364 q59 q366 xn_i6 hdi_J2_get ⟨Nat.le_trans (Nat.le_of_ble_eq_true rfl) hR.1, Nat.le_trans (Nat.le_of_ble_eq_true rfl) hR.2⟩ rfl hl.1.1 rfl xm_r0 hf (fun v h1 k1 n1 e1 => ct_J2_get l D N e1) dX0_syllable_18 (fun x18 h H locs cells slots kc ks hS hf => ?_)
    refine W.eq (g2 := F0 m 23 ls [va_rf x18]) rfl ?_
    refine xr_ccS C hS xf_X5 q475 hf dX0_syllable_23 (fun hf => ?_)
    refine xr_astore_n C dX0_syllable_26 rfl hl (Nat.le_of_ble_eq_true rfl) (lv' := [(3, va_rf x18), (0, va_rf a0), (1, .int a1), (2, .int a2)]) rfl (fun ls hl => ?_)
    refine lv_iload_n hx hb dX0_syllable_27 rfl (hl.at 3 rfl) ?_
    by_cases c28_0 : a2 = 0
    · replace hf := xb_pos c28_0 hf
      refine xr_tab c28_0 C dX0_syllable_28 (by decide) (by decide) (off := 36) (tgt := 64) (by decide) (by decide) ?_
      refine xr_aload_n C dX0_syllable_64 rfl (hl.at 0 rfl) ?_
      refine xr_getNI C hS xf_X5 0 (by decide) xn_q448 rfl hf dX0_syllable_65 (fun x65 hf => ?_)
      exact xr_iret C hS hr hf dX0_syllable_68
    replace hf := xb_neg c28_0 hf
    by_cases c28_1 : a2 = 1
    · replace hf := xb_pos c28_1 hf
      refine xr_tab c28_1 C dX0_syllable_28 (by decide) (by decide) (off := 41) (tgt := 69) (by decide) (by decide) ?_
      refine xr_aload_n C dX0_syllable_69 rfl (hl.at 0 rfl) ?_
      refine xr_getNI C hS xf_X5 1 (by decide) xn_q452 rfl hf dX0_syllable_70 (fun x70 hf => ?_)
      exact xr_iret C hS hr hf dX0_syllable_73
    replace hf := xb_neg c28_1 hf
    by_cases c28_2 : a2 = 2
    · replace hf := xb_pos c28_2 hf
      refine xr_tab c28_2 C dX0_syllable_28 (by decide) (by decide) (off := 46) (tgt := 74) (by decide) (by decide) ?_
      refine xr_aload_n C dX0_syllable_74 rfl (hl.at 0 rfl) ?_
      refine xr_getNI C hS xf_X5 2 (by decide) xn_q454 rfl hf dX0_syllable_75 (fun x75 hf => ?_)
      exact xr_iret C hS hr hf dX0_syllable_78
    replace hf := xb_neg c28_2 hf
    by_cases c28_3 : a2 = 3
    · replace hf := xb_pos c28_3 hf
      refine xr_tab c28_3 C dX0_syllable_28 (by decide) (by decide) (off := 51) (tgt := 79) (by decide) (by decide) ?_
      refine xr_aload_n C dX0_syllable_79 rfl (hl.at 0 rfl) ?_
      refine xr_getNI C hS xf_X5 3 (by decide) xn_q456 rfl hf dX0_syllable_80 (fun x80 hf => ?_)
      exact xr_iret C hS hr hf dX0_syllable_83
    replace hf := xb_neg c28_3 hf
    by_cases c28_4 : a2 = 4
    · replace hf := xb_pos c28_4 hf
      refine xr_tab c28_4 C dX0_syllable_28 (by decide) (by decide) (off := 56) (tgt := 84) (by decide) (by decide) ?_
      refine xr_aload_n C dX0_syllable_84 rfl (hl.at 0 rfl) ?_
      refine xr_getNI C hS xf_X5 4 (by decide) xn_q460 rfl hf dX0_syllable_85 (fun x85 hf => ?_)
      exact xr_iret C hS hr hf dX0_syllable_88
    replace hf := xb_neg c28_4 hf
    refine lv_tableOut (tgt := 89) hx hb dX0_syllable_28 (by have ec28_0 := lv_neT c28_0 (a := 0) (by decide); have ec28_1 := lv_neT c28_1 (a := 1) (by decide); have ec28_2 := lv_neT c28_2 (a := 2) (by decide); have ec28_3 := lv_neT c28_3 (a := 3) (by decide); have ec28_4 := lv_neT c28_4 (a := 4) (by decide); omega) (by decide) ?_
    refine xr_aload_n C dX0_syllable_89 rfl (hl.at 1 rfl) ?_
    refine xr_aload_n C dX0_syllable_90 rfl (hl.at 1 rfl) ?_
    refine xr_V (V := fun v => some (va_rf v)) (n := 0) (fr := 7) (lo := 155) (As := []) C hS xf_X0 (lw_V q591 q593 qs10 q55 q594) hdv_X0_judged ⟨Nat.le_trans (Nat.le_of_ble_eq_true rfl) hR.1, Nat.le_trans (Nat.le_of_ble_eq_true rfl) hR.2⟩ rfl hl.1.1 rfl (xm_rc (va_rf_cat _) xm_r0) hf (fun v h1 k1 n1 e1 => ct_X0_judged l D N e1) dX0_syllable_91 (fun x91 h H locs cells slots kc ks hS hf => ?_)
    refine W.eq (g2 := F0 m 94 ls [va_rf x91, va_rf a0]) rfl ?_
    refine lv_iload_n hx hb dX0_syllable_94 rfl (hl.at 2 rfl) ?_
    refine lv_iload_n hx hb dX0_syllable_95 rfl (hl.at 3 rfl) ?_
    refine xr_V (V := fun v => some (.int v)) (n := 3) (fr := 4) (lo := 85) (As := [va_rf x91, .int a1, .int a2]) C hS xf_X0 (lw_V q717 q719 qs17 q55 q720) hdv_X0_ofJudge ⟨Nat.le_trans (Nat.le_of_ble_eq_true rfl) hR.1, Nat.le_trans (Nat.le_of_ble_eq_true rfl) hR.2⟩ rfl hl.1.1 rfl xm_r0 hf (fun v h1 k1 n1 e1 => ct_X0_ofJudge l D N e1) dX0_syllable_96 (fun x96 h H locs cells slots kc ks hS hf => ?_)
    refine W.eq (g2 := F0 m 99 ls [.int x96]) rfl ?_
    exact xr_iret C hS hr hf dX0_syllable_99
  · replace hf := xb_pos c5 hf
    refine lv_iconst (v := -1) hx hb dX0_syllable_8 xi_cm1 ?_
    exact xr_iret C hS hr hf dX0_syllable_9
theorem ct_X0_syllable (l : Launch) (D : xh_D) {rv : Int32} {h hF : xh_H} {kc ks : Nat} (N : Nat) {a0 : Option Nat} {a1 : Int32} {a2 : Int32} (hf : f_X0_syllable N a0 a1 a2 h = some (rv, hF, kc, ks)) : xh_Ct l D yX0_syllable (ws_ yX0_syllable cX0_syllable 4 (Option.some Jvm.ClassFile.FieldType.int)) 8 175 [va_rf a0, .int a1, .int a2] h (some (.int rv)) hF kc ks :=
  xh_meth (cc := cX0_syllable) l (by decide) (Nat.le_of_ble_eq_true rfl) (List.forall_mem_cons.mpr ⟨va_rf_cat _, List.forall_mem_cons.mpr ⟨rfl, List.forall_mem_cons.mpr ⟨rfl, fun _ h => absurd h List.not_mem_nil⟩⟩⟩) fun p e s m below meth c ls C hr hnm hl hS => w_X0_syllable C hr ⟨Nat.le_refl _, Nat.le_refl _⟩ N a0 a1 a2 h _ _ _ _ _ _ _ hf hS hl
def K_X1_at_10 (p : Program) (l : Launch) (e : Env) (s : State) (m : MethodId) (args : Array Value) (below : List Frame) (meth : Method) (c : Code) (D : xh_D) (g : Nat → Nat) (R : Room) (rv : Option Nat) (hF : xh_H) (k : Int32 → Option Nat → xh_H → xh_R (Option Nat)) : Prop := ∀ (a1 : Int32) (a2 : Option Nat) (h : xh_H) (H : Heap) (locs : List Loc) (cells slots kc ks : Nat) (ls : Array Slot), k a1 a2 h = some (rv, hF, kc, ks) → xh_T D g s R h H locs cells slots kc ks → xh_L ls 4 [(1, .int a1), (2, va_rf a2)] → W p l e R s m args below meth c H locs cells slots (MQ below (xh_Q D g (some (va_rf rv)) hF) args s R.cells R.slots (xh_A g)) (F0 m 10 ls [])
theorem w_X1_at_b51 (C : xh_C cX1_at 4 "SungSlides$Song" D g p s m args meth c) (hr : meth.sig.returnType = (Option.some (Jvm.ClassFile.FieldType.object "SungSlides$Syllable"))) (hR : 3 ≤ R.frames ∧ 61 ≤ R.locals) {rv : Option Nat} {hF : xh_H} (N : Nat) : ∀ (h : xh_H) (H : Heap) (locs : List Loc) (cells slots kc ks : Nat) (ls : Array Slot), f_X1_at_b51 N  h = some (rv, hF, kc, ks) → xh_T D g s R h H locs cells slots kc ks → xh_L ls 4 [] → W p l e R s m args below meth c H locs cells slots (MQ below (xh_Q D g (some (va_rf rv)) hF) args s R.cells R.slots (xh_A g)) (F0 m 51 ls []) := by
  intro  h H locs cells slots kc ks ls hf hS hl
  have hx := C.1
  have hb := C.2.1
  unfold f_X1_at_b51 at hf
  refine xr_null C dX1_at_51 ?_
  exact xr_aret C hS hr (Or.inl ⟨_, rfl⟩) hf dX1_at_52
theorem w_X1_at_b46 (C : xh_C cX1_at 4 "SungSlides$Song" D g p s m args meth c) (hr : meth.sig.returnType = (Option.some (Jvm.ClassFile.FieldType.object "SungSlides$Syllable"))) (hR : 3 ≤ R.frames ∧ 61 ≤ R.locals) {rv : Option Nat} {hF : xh_H} (N : Nat) : ∀ (a3 : Option Nat) (h : xh_H) (H : Heap) (locs : List Loc) (cells slots kc ks : Nat) (ls : Array Slot), f_X1_at_b46 N a3 h = some (rv, hF, kc, ks) → xh_T D g s R h H locs cells slots kc ks → xh_L ls 4 [(3, va_rf a3)] → W p l e R s m args below meth c H locs cells slots (MQ below (xh_Q D g (some (va_rf rv)) hF) args s R.cells R.slots (xh_A g)) (F0 m 46 ls []) := by
  intro a3 h H locs cells slots kc ks ls hf hS hl
  have hx := C.1
  have hb := C.2.1
  unfold f_X1_at_b46 at hf
  refine xr_aload_n C dX1_at_46 rfl (hl.at 0 rfl) ?_
  exact xr_aret C hS hr (Or.inl ⟨_, rfl⟩) hf dX1_at_47
theorem w_X1_at_b10 (C : xh_C cX1_at 4 "SungSlides$Song" D g p s m args meth c) (hr : meth.sig.returnType = (Option.some (Jvm.ClassFile.FieldType.object "SungSlides$Syllable"))) (hR : 3 ≤ R.frames ∧ 61 ≤ R.locals) {rv : Option Nat} {hF : xh_H} (N : Nat) {k10 : Int32 → Option Nat → xh_H → xh_R (Option Nat)} (hk10 : K_X1_at_10 p l e s m args below meth c D g R rv hF k10) : ∀ (a1 : Int32) (a2 : Option Nat) (h : xh_H) (H : Heap) (locs : List Loc) (cells slots kc ks : Nat) (ls : Array Slot), f_X1_at_b10 N k10 a1 a2 h = some (rv, hF, kc, ks) → xh_T D g s R h H locs cells slots kc ks → xh_L ls 4 [(1, .int a1), (2, va_rf a2)] → W p l e R s m args below meth c H locs cells slots (MQ below (xh_Q D g (some (va_rf rv)) hF) args s R.cells R.slots (xh_A g)) (F0 m 10 ls []) := by
  intro a1 a2 h H locs cells slots kc ks ls hf hS hl
  have hx := C.1
  have hb := C.2.1
  unfold f_X1_at_b10 at hf
  refine xr_aload_n C dX1_at_10 rfl (hl.at 1 rfl) ?_
  refine xr_F (V := fun v => some (.int v)) (n := 0) (fr := 0) (lo := 0) (As := []) C hS xf_J3 q243 q247 q249 q62 q251 xn_i0 hdi_J3_hasNext ⟨Nat.le_trans (Nat.le_of_ble_eq_true rfl) hR.1, Nat.le_trans (Nat.le_of_ble_eq_true rfl) hR.2⟩ rfl hl.1.1 rfl xm_r0 hf (fun v h1 k1 n1 e1 => ct_J3_hasNext l D N e1) dX1_at_11 (fun x11 h H locs cells slots kc ks hS hf => ?_)
  refine W.eq (g2 := F0 m 16 ls [.int x11]) rfl ?_
  refine lv_if_eq (tgt := 51) hx hb dX1_at_16 (by decide) (fun c16 => ?_) (fun c16 => ?_)
  · replace hf := xb_pos c16 hf
    exact w_X1_at_b51 C hr hR N  h H locs cells slots kc ks ls hf hS (hl.sub [] rfl)
  · replace hf := xb_neg c16 hf
    refine xr_aload_n C dX1_at_19 rfl (hl.at 1 rfl) ?_
    refine xr_F (V := fun v => some (va_rf v)) (n := 0) (fr := 1) (lo := 20) (As := []) C hS xf_J3 q253 q256 q258 q62 q260 xn_i1 hdi_J3_next ⟨Nat.le_trans (Nat.le_of_ble_eq_true rfl) hR.1, Nat.le_trans (Nat.le_of_ble_eq_true rfl) hR.2⟩ rfl hl.1.1 rfl xm_r0 hf (fun v h1 k1 n1 e1 => ct_J3_next l D N e1) dX1_at_20 (fun x20 h H locs cells slots kc ks hS hf => ?_)
    refine W.eq (g2 := F0 m 25 ls [va_rf x20]) rfl ?_
    refine xr_ccS C hS xf_X5 q265 hf dX1_at_25 (fun hf => ?_)
    refine xr_astore_n C dX1_at_28 rfl hl (Nat.le_of_ble_eq_true rfl) (lv' := [(3, va_rf x20), (1, .int a1), (2, va_rf a2)]) rfl (fun ls hl => ?_)
    refine lv_iload_n hx hb dX1_at_29 rfl (hl.at 1 rfl) ?_
    refine xr_aload_n C dX1_at_30 rfl (hl.at 0 rfl) ?_
    refine xr_getNI C hS xf_X5 0 (by decide) xn_q449 rfl hf dX1_at_31 (fun x31 hf => ?_)
    refine xr_aload_n C dX1_at_34 rfl (hl.at 0 rfl) ?_
    refine xr_V (V := fun v => some (.int v)) (n := 0) (fr := 0) (lo := 0) (As := []) C hS xf_X5 (lw_V q377 q378 q379 q72 q380) hdv_X5_end ⟨Nat.le_trans (Nat.le_of_ble_eq_true rfl) hR.1, Nat.le_trans (Nat.le_of_ble_eq_true rfl) hR.2⟩ rfl hl.1.1 rfl (xm_rc rfl (xm_rc rfl xm_r0)) hf (fun v h1 k1 n1 e1 => ct_X5_end l D N e1) dX1_at_35 (fun x35 h H locs cells slots kc ks hS hf => ?_)
    refine W.eq (g2 := F0 m 38 ls [.int x35, .int x31, .int a1]) rfl ?_
    refine lv_iconst (v := 1) hx hb dX1_at_38 xi_c1 ?_
    refine lv_isub hx hb dX1_at_39 ?_
    refine xr_SN (V := fun v => some (.int v)) (n := 3) (fr := 0) (lo := 0) (As := [.int a1, .int x31, .int (x35 - (1 : Int32))]) C hS xn_q731 q195 q55 q196 hd_X0_isBetween ⟨Nat.le_trans (Nat.le_of_ble_eq_true rfl) hR.1, Nat.le_trans (Nat.le_of_ble_eq_true rfl) hR.2⟩ rfl hl.1.1 rfl xm_r0 hf (fun v h1 k1 n1 e1 => ct_X0_isBetween l D N e1) dX1_at_40 (fun x40 h H locs cells slots kc ks hS hf => ?_)
    refine W.eq (g2 := F0 m 43 ls [.int x40]) rfl ?_
    refine lv_if_eq (tgt := 48) hx hb dX1_at_43 (by decide) (fun c43 => ?_) (fun c43 => ?_)
    · replace hf := xb_pos c43 hf
      refine lv_goto (tgt := 10) hx hb dX1_at_48 (by decide) ?_
      exact hk10 a1 a2  h H locs cells slots kc ks ls hf hS (hl.sub [1, 2] rfl)
    · replace hf := xb_neg c43 hf
      exact w_X1_at_b46 C hr hR N x20  h H locs cells slots kc ks ls hf hS (hl.sub [0] rfl)
theorem w_X1_at_l10 (C : xh_C cX1_at 4 "SungSlides$Song" D g p s m args meth c) (hr : meth.sig.returnType = (Option.some (Jvm.ClassFile.FieldType.object "SungSlides$Syllable"))) (hR : 3 ≤ R.frames ∧ 61 ≤ R.locals) {rv : Option Nat} {hF : xh_H} (N : Nat) : ∀ n : Nat, K_X1_at_10 p l e s m args below meth c D g R rv hF (f_X1_at_l10 N n) := by
  intro n
  induction n with
  | zero => exact fun a1 a2 h H locs cells slots kc ks ls hf => absurd (show (none : xh_R (Option Nat)) = some _ from hf) (by intro q; cases q)
  | succ n ih => exact fun a1 a2 h H locs cells slots kc ks ls hf => w_X1_at_b10 C hr hR N ih a1 a2 h H locs cells slots kc ks ls hf
/-- SungSlides$Song.at(I)LSungSlides$Syllable; -/
theorem w_X1_at (C : xh_C cX1_at 4 "SungSlides$Song" D g p s m args meth c) (hr : meth.sig.returnType = (Option.some (Jvm.ClassFile.FieldType.object "SungSlides$Syllable"))) (hR : 3 ≤ R.frames ∧ 61 ≤ R.locals) {rv : Option Nat} {hF : xh_H} (N : Nat) (a0 : Option Nat) (a1 : Int32)  (h : xh_H) (H : Heap) (locs : List Loc) (cells slots kc ks : Nat) (ls : Array Slot) (hf : f_X1_at N a0 a1 h = some (rv, hF, kc, ks)) (hS : xh_T D g s R h H locs cells slots kc ks) (hl : xh_L ls 4 [(0, va_rf a0), (1, .int a1)]) : W p l e R s m args below meth c H locs cells slots (MQ below (xh_Q D g (some (va_rf rv)) hF) args s R.cells R.slots (xh_A g)) (F0 m 0 ls []) := by
  have hx := C.1
  have hb := C.2.1
  unfold f_X1_at at hf
  refine xr_aload_n C dX1_at_0 rfl (hl.at 0 rfl) ?_
  refine xr_getR C hS xf_X1 0 (by decide) q122 (fun _ h => h) hf dX1_at_1 (fun x1 hf => ?_)
  refine xr_F (V := fun v => some (va_rf v)) (n := 0) (fr := 2) (lo := 41) (As := []) C hS xf_J2 q214 q218 q220 q59 q222 xn_i2 hdi_J2_iterator ⟨Nat.le_trans (Nat.le_of_ble_eq_true rfl) hR.1, Nat.le_trans (Nat.le_of_ble_eq_true rfl) hR.2⟩ rfl hl.1.1 rfl xm_r0 hf (fun v h1 k1 n1 e1 => ct_J2_iterator l D N e1) dX1_at_4 (fun x4 h H locs cells slots kc ks hS hf => ?_)
  refine W.eq (g2 := F0 m 9 ls [va_rf x4]) rfl ?_
  refine xr_astore_n C dX1_at_9 rfl hl (Nat.le_of_ble_eq_true rfl) (lv' := [(2, va_rf x4), (0, va_rf a0), (1, .int a1)]) rfl (fun ls hl => ?_)
  exact w_X1_at_l10 C hr hR N N a1 x4  h H locs cells slots kc ks ls hf hS (hl.sub [2, 0] rfl)
theorem ct_X1_at (l : Launch) (D : xh_D) {rv : Option Nat} {h hF : xh_H} {kc ks : Nat} (N : Nat) {a0 : Option Nat} {a1 : Int32} (hf : f_X1_at N a0 a1 h = some (rv, hF, kc, ks)) : xh_Ct l D yX1_at (ws_ yX1_at cX1_at 4 (Option.some (Jvm.ClassFile.FieldType.object "SungSlides$Syllable"))) 3 61 [va_rf a0, .int a1] h (some (va_rf rv)) hF kc ks :=
  xh_meth (cc := cX1_at) l (by decide) (Nat.le_of_ble_eq_true rfl) (List.forall_mem_cons.mpr ⟨va_rf_cat _, List.forall_mem_cons.mpr ⟨rfl, fun _ h => absurd h List.not_mem_nil⟩⟩) fun p e s m below meth c ls C hr hnm hl hS => w_X1_at C hr ⟨Nat.le_refl _, Nat.le_refl _⟩ N a0 a1 h _ _ _ _ _ _ _ hf hS hl
/-- SungSlides.wanted(I)I -/
theorem w_X0_wanted (C : xh_C cX0_wanted 3 "SungSlides" D g p s m args meth c) (hr : meth.sig.returnType = (Option.some Jvm.ClassFile.FieldType.int)) (hR : 4 ≤ R.frames ∧ 84 ≤ R.locals) {rv : Int32} {hF : xh_H} (N : Nat) (a0 : Option Nat) (a1 : Int32)  (h : xh_H) (H : Heap) (locs : List Loc) (cells slots kc ks : Nat) (ls : Array Slot) (hf : f_X0_wanted N a0 a1 h = some (rv, hF, kc, ks)) (hS : xh_T D g s R h H locs cells slots kc ks) (hl : xh_L ls 3 [(0, va_rf a0), (1, .int a1)]) : W p l e R s m args below meth c H locs cells slots (MQ below (xh_Q D g (some (.int rv)) hF) args s R.cells R.slots (xh_A g)) (F0 m 0 ls []) := by
  have hx := C.1
  have hb := C.2.1
  unfold f_X0_wanted at hf
  refine lv_iload_n hx hb dX0_wanted_0 rfl (hl.at 1 rfl) ?_
  refine xr_S (V := fun v => some (.int v)) (n := 1) (fr := 1) (lo := 22) (As := [.int a1]) C hS (lw_S q587 q588 q55 q589) hd_X0_isTick ⟨Nat.le_trans (Nat.le_of_ble_eq_true rfl) hR.1, Nat.le_trans (Nat.le_of_ble_eq_true rfl) hR.2⟩ rfl hl.1.1 rfl xm_r0 hf (fun v h1 k1 n1 e1 => ct_X0_isTick l D N e1) dX0_wanted_1 (fun x1 h H locs cells slots kc ks hS hf => ?_)
  refine W.eq (g2 := F0 m 4 ls [.int x1]) rfl ?_
  refine lv_if_ne (tgt := 10) hx hb dX0_wanted_4 (by decide) (fun c4 => ?_) (fun c4 => ?_)
  · replace hf := xb_neg c4 hf
    refine xr_aload_n C dX0_wanted_10 rfl (hl.at 0 rfl) ?_
    refine xr_getR C hS xf_X0 0 (by decide) q139 (fun _ h => h) hf dX0_wanted_11 (fun x11 hf => ?_)
    refine lv_iload_n hx hb dX0_wanted_14 rfl (hl.at 1 rfl) ?_
    refine xr_V (V := fun v => some (va_rf v)) (n := 1) (fr := 3) (lo := 61) (As := [.int a1]) C hS xf_X1 (lw_V q727 q728 q729 q56 q730) hdv_X1_at ⟨Nat.le_trans (Nat.le_of_ble_eq_true rfl) hR.1, Nat.le_trans (Nat.le_of_ble_eq_true rfl) hR.2⟩ rfl hl.1.1 rfl xm_r0 hf (fun v h1 k1 n1 e1 => ct_X1_at l D N e1) dX0_wanted_15 (fun x15 h H locs cells slots kc ks hS hf => ?_)
    refine W.eq (g2 := F0 m 18 ls [va_rf x15]) rfl ?_
    refine xr_astore_n C dX0_wanted_18 rfl hl (Nat.le_of_ble_eq_true rfl) (lv' := [(2, va_rf x15), (0, va_rf a0), (1, .int a1)]) rfl (fun ls hl => ?_)
    refine xr_aload_n C dX0_wanted_19 rfl (hl.at 0 rfl) ?_
    refine xr_ifnonnull C (tgt := 28) dX0_wanted_20 (by decide) (fun c20 => ?_) (fun c20 => ?_)
    · replace hf := xb_neg c20 hf
      refine xr_aload_n C dX0_wanted_28 rfl (hl.at 0 rfl) ?_
      refine lv_iload_n hx hb dX0_wanted_29 rfl (hl.at 2 rfl) ?_
      refine xr_V (V := fun v => some (.int v)) (n := 1) (fr := 0) (lo := 0) (As := [.int a1]) C hS xf_X5 (lw_V q692 q646 q647 q72 q648) hdv_X5_wanted ⟨Nat.le_trans (Nat.le_of_ble_eq_true rfl) hR.1, Nat.le_trans (Nat.le_of_ble_eq_true rfl) hR.2⟩ rfl hl.1.1 rfl xm_r0 hf (fun v h1 k1 n1 e1 => ct_X5_wanted l D N e1) dX0_wanted_30 (fun x30 h H locs cells slots kc ks hS hf => ?_)
      refine W.eq (g2 := F0 m 33 ls [.int x30]) rfl ?_
      exact xr_iret C hS hr hf dX0_wanted_33
    · replace hf := xb_pos c20 hf
      refine lv_bipush (v := -5) hx hb dX0_wanted_23 xi_bm5 ?_
      refine lv_goto (tgt := 33) hx hb dX0_wanted_25 (by decide) ?_
      exact xr_iret C hS hr hf dX0_wanted_33
  · replace hf := xb_pos c4 hf
    refine lv_bipush (v := -2) hx hb dX0_wanted_7 xi_bm2 ?_
    exact xr_iret C hS hr hf dX0_wanted_9
theorem ct_X0_wanted (l : Launch) (D : xh_D) {rv : Int32} {h hF : xh_H} {kc ks : Nat} (N : Nat) {a0 : Option Nat} {a1 : Int32} (hf : f_X0_wanted N a0 a1 h = some (rv, hF, kc, ks)) : xh_Ct l D yX0_wanted (ws_ yX0_wanted cX0_wanted 3 (Option.some Jvm.ClassFile.FieldType.int)) 4 84 [va_rf a0, .int a1] h (some (.int rv)) hF kc ks :=
  xh_meth (cc := cX0_wanted) l (by decide) (Nat.le_of_ble_eq_true rfl) (List.forall_mem_cons.mpr ⟨va_rf_cat _, List.forall_mem_cons.mpr ⟨rfl, fun _ h => absurd h List.not_mem_nil⟩⟩) fun p e s m below meth c ls C hr hnm hl hS => w_X0_wanted C hr ⟨Nat.le_refl _, Nat.le_refl _⟩ N a0 a1 h _ _ _ _ _ _ _ hf hS hl
/-- SungSlides.sung(I)I -/
theorem w_X0_sung (C : xh_C cX0_sung 2 "SungSlides" D g p s m args meth c) (hr : meth.sig.returnType = (Option.some Jvm.ClassFile.FieldType.int)) (hR : 2 ≤ R.frames ∧ 42 ≤ R.locals) {rv : Int32} {hF : xh_H} (N : Nat) (a0 : Option Nat) (a1 : Int32)  (h : xh_H) (H : Heap) (locs : List Loc) (cells slots kc ks : Nat) (ls : Array Slot) (hf : f_X0_sung N a0 a1 h = some (rv, hF, kc, ks)) (hS : xh_T D g s R h H locs cells slots kc ks) (hl : xh_L ls 2 [(0, va_rf a0), (1, .int a1)]) : W p l e R s m args below meth c H locs cells slots (MQ below (xh_Q D g (some (.int rv)) hF) args s R.cells R.slots (xh_A g)) (F0 m 0 ls []) := by
  have hx := C.1
  have hb := C.2.1
  unfold f_X0_sung at hf
  refine lv_iload_n hx hb dX0_sung_0 rfl (hl.at 1 rfl) ?_
  refine xr_S (V := fun v => some (.int v)) (n := 1) (fr := 1) (lo := 22) (As := [.int a1]) C hS (lw_S q587 q588 q55 q589) hd_X0_isTick ⟨Nat.le_trans (Nat.le_of_ble_eq_true rfl) hR.1, Nat.le_trans (Nat.le_of_ble_eq_true rfl) hR.2⟩ rfl hl.1.1 rfl xm_r0 hf (fun v h1 k1 n1 e1 => ct_X0_isTick l D N e1) dX0_sung_1 (fun x1 h H locs cells slots kc ks hS hf => ?_)
  refine W.eq (g2 := F0 m 4 ls [.int x1]) rfl ?_
  refine lv_if_ne (tgt := 10) hx hb dX0_sung_4 (by decide) (fun c4 => ?_) (fun c4 => ?_)
  · replace hf := xb_neg c4 hf
    refine xr_aload_n C dX0_sung_10 rfl (hl.at 0 rfl) ?_
    refine xr_getR C hS xf_X0 0 (by decide) q139 (fun _ h => h) hf dX0_sung_11 (fun x11 hf => ?_)
    refine xr_getNR C hS xf_X1 1 (by decide) xn_q126 rfl hf dX0_sung_14 (fun x14 hf => ?_)
    refine lv_iload_n hx hb dX0_sung_17 rfl (hl.at 1 rfl) ?_
    refine xr_iald C hS hf dX0_sung_18 (fun x18 hf => ?_)
    refine lv_iconst (v := -1) hx hb dX0_sung_19 xi_cm1 ?_
    refine lv_icmp_ne (tgt := 28) hx hb dX0_sung_20 (by decide) (fun c20 => ?_) (fun c20 => ?_)
    · replace hf := xb_neg c20 hf
      refine xr_aload_n C dX0_sung_28 rfl (hl.at 0 rfl) ?_
      refine xr_getR C hS xf_X0 0 (by decide) q139 (fun _ h => h) hf dX0_sung_29 (fun x29 hf => ?_)
      refine xr_getNR C hS xf_X1 1 (by decide) xn_q126 rfl hf dX0_sung_32 (fun x32 hf => ?_)
      refine lv_iload_n hx hb dX0_sung_35 rfl (hl.at 1 rfl) ?_
      refine xr_iald C hS hf dX0_sung_36 (fun x36 hf => ?_)
      exact xr_iret C hS hr hf dX0_sung_37
    · replace hf := xb_pos c20 hf
      refine lv_bipush (v := -5) hx hb dX0_sung_23 xi_bm5 ?_
      refine lv_goto (tgt := 37) hx hb dX0_sung_25 (by decide) ?_
      exact xr_iret C hS hr hf dX0_sung_37
  · replace hf := xb_pos c4 hf
    refine lv_bipush (v := -2) hx hb dX0_sung_7 xi_bm2 ?_
    exact xr_iret C hS hr hf dX0_sung_9
theorem ct_X0_sung (l : Launch) (D : xh_D) {rv : Int32} {h hF : xh_H} {kc ks : Nat} (N : Nat) {a0 : Option Nat} {a1 : Int32} (hf : f_X0_sung N a0 a1 h = some (rv, hF, kc, ks)) : xh_Ct l D yX0_sung (ws_ yX0_sung cX0_sung 2 (Option.some Jvm.ClassFile.FieldType.int)) 2 42 [va_rf a0, .int a1] h (some (.int rv)) hF kc ks :=
  xh_meth (cc := cX0_sung) l (by decide) (Nat.le_of_ble_eq_true rfl) (List.forall_mem_cons.mpr ⟨va_rf_cat _, List.forall_mem_cons.mpr ⟨rfl, fun _ h => absurd h List.not_mem_nil⟩⟩) fun p e s m below meth c ls C hr hnm hl hS => w_X0_sung C hr ⟨Nat.le_refl _, Nat.le_refl _⟩ N a0 a1 h _ _ _ _ _ _ _ hf hS hl
/-- SungSlides.lit(II)I -/
theorem w_X0_lit (C : xh_C cX0_lit 4 "SungSlides" D g p s m args meth c) (hr : meth.sig.returnType = (Option.some Jvm.ClassFile.FieldType.int)) (hR : 3 ≤ R.frames ∧ 64 ≤ R.locals) {rv : Int32} {hF : xh_H} (N : Nat) (a0 : Option Nat) (a1 : Int32) (a2 : Int32)  (h : xh_H) (H : Heap) (locs : List Loc) (cells slots kc ks : Nat) (ls : Array Slot) (hf : f_X0_lit N a0 a1 a2 h = some (rv, hF, kc, ks)) (hS : xh_T D g s R h H locs cells slots kc ks) (hl : xh_L ls 4 [(0, va_rf a0), (1, .int a1), (2, .int a2)]) : W p l e R s m args below meth c H locs cells slots (MQ below (xh_Q D g (some (.int rv)) hF) args s R.cells R.slots (xh_A g)) (F0 m 0 ls []) := by
  have hx := C.1
  have hb := C.2.1
  unfold f_X0_lit at hf
  refine xr_aload_n C dX0_lit_0 rfl (hl.at 0 rfl) ?_
  refine lv_iload_n hx hb dX0_lit_1 rfl (hl.at 1 rfl) ?_
  refine xr_V (V := fun v => some (.int v)) (n := 1) (fr := 2) (lo := 40) (As := [.int a1]) C hS xf_X0 (lw_V q687 q689 qs16 q55 q690) hdv_X0_isSyllable ⟨Nat.le_trans (Nat.le_of_ble_eq_true rfl) hR.1, Nat.le_trans (Nat.le_of_ble_eq_true rfl) hR.2⟩ rfl hl.1.1 rfl xm_r0 hf (fun v h1 k1 n1 e1 => ct_X0_isSyllable l D N e1) dX0_lit_2 (fun x2 h H locs cells slots kc ks hS hf => ?_)
  refine W.eq (g2 := F0 m 5 ls [.int x2]) rfl ?_
  refine lv_if_ne (tgt := 10) hx hb dX0_lit_5 (by decide) (fun c5 => ?_) (fun c5 => ?_)
  · replace hf := xb_neg c5 hf
    refine lv_iload_n hx hb dX0_lit_10 rfl (hl.at 2 rfl) ?_
    refine xr_S (V := fun v => some (.int v)) (n := 1) (fr := 1) (lo := 22) (As := [.int a2]) C hS (lw_S q587 q588 q55 q589) hd_X0_isTick ⟨Nat.le_trans (Nat.le_of_ble_eq_true rfl) hR.1, Nat.le_trans (Nat.le_of_ble_eq_true rfl) hR.2⟩ rfl hl.1.1 rfl xm_r0 hf (fun v h1 k1 n1 e1 => ct_X0_isTick l D N e1) dX0_lit_11 (fun x11 h H locs cells slots kc ks hS hf => ?_)
    refine W.eq (g2 := F0 m 14 ls [.int x11]) rfl ?_
    refine lv_if_ne (tgt := 20) hx hb dX0_lit_14 (by decide) (fun c14 => ?_) (fun c14 => ?_)
    · replace hf := xb_neg c14 hf
      refine xr_aload_n C dX0_lit_20 rfl (hl.at 0 rfl) ?_
      refine xr_getR C hS xf_X0 0 (by decide) q139 (fun _ h => h) hf dX0_lit_21 (fun x21 hf => ?_)
      refine xr_getNR C hS xf_X1 0 (by decide) xn_q124 rfl hf dX0_lit_24 (fun x24 hf => ?_)
      refine lv_iload_n hx hb dX0_lit_27 rfl (hl.at 1 rfl) ?_
      refine xr_F (V := fun v => some (va_rf v)) (n := 1) (fr := 2) (lo := 43) (As := [.int a1]) C hS xf_J2 q474 q362 q364 q59 q366 xn_i6 hdi_J2_get ⟨Nat.le_trans (Nat.le_of_ble_eq_true rfl) hR.1, Nat.le_trans (Nat.le_of_ble_eq_true rfl) hR.2⟩ rfl hl.1.1 rfl xm_r0 hf (fun v h1 k1 n1 e1 => ct_J2_get l D N e1) dX0_lit_28 (fun x28 h H locs cells slots kc ks hS hf => ?_)
      refine W.eq (g2 := F0 m 33 ls [va_rf x28]) rfl ?_
      refine xr_ccS C hS xf_X5 q475 hf dX0_lit_33 (fun hf => ?_)
      refine xr_astore_n C dX0_lit_36 rfl hl (Nat.le_of_ble_eq_true rfl) (lv' := [(3, va_rf x28), (0, va_rf a0), (1, .int a1), (2, .int a2)]) rfl (fun ls hl => ?_)
      refine lv_iconst (v := 0) hx hb dX0_lit_37 xi_c0 ?_
      refine xr_aload_n C dX0_lit_38 rfl (hl.at 0 rfl) ?_
      refine xr_getNI C hS xf_X5 1 (by decide) xn_q452 rfl hf dX0_lit_39 (fun x39 hf => ?_)
      refine lv_iload_n hx hb dX0_lit_42 rfl (hl.at 3 rfl) ?_
      refine xr_aload_n C dX0_lit_43 rfl (hl.at 0 rfl) ?_
      refine xr_getNI C hS xf_X5 0 (by decide) xn_q448 rfl hf dX0_lit_44 (fun x44 hf => ?_)
      refine lv_isub hx hb dX0_lit_47 ?_
      refine lv_iconst (v := 1) hx hb dX0_lit_48 xi_c1 ?_
      refine lv_iadd hx hb dX0_lit_49 ?_
      refine xr_mn C hS hl.1.1.symm q740 q321 q64 q322 (Nat.le_trans (Nat.le_of_ble_eq_true rfl) hR.1) (xm_m13 (xm_rc rfl xm_r0) (Nat.le_trans (Nat.le_of_ble_eq_true rfl) hR.2)) dX0_lit_50 ?_
      refine xr_mx C hS hl.1.1.symm q741 q291 q64 q292 (Nat.le_trans (Nat.le_of_ble_eq_true rfl) hR.1) (xm_m13 xm_r0 (Nat.le_trans (Nat.le_of_ble_eq_true rfl) hR.2)) dX0_lit_53 ?_
      exact xr_iret C hS hr hf dX0_lit_56
    · replace hf := xb_pos c14 hf
      refine lv_bipush (v := -2) hx hb dX0_lit_17 xi_bm2 ?_
      exact xr_iret C hS hr hf dX0_lit_19
  · replace hf := xb_pos c5 hf
    refine lv_iconst (v := -1) hx hb dX0_lit_8 xi_cm1 ?_
    exact xr_iret C hS hr hf dX0_lit_9
theorem ct_X0_lit (l : Launch) (D : xh_D) {rv : Int32} {h hF : xh_H} {kc ks : Nat} (N : Nat) {a0 : Option Nat} {a1 : Int32} {a2 : Int32} (hf : f_X0_lit N a0 a1 a2 h = some (rv, hF, kc, ks)) : xh_Ct l D yX0_lit (ws_ yX0_lit cX0_lit 4 (Option.some Jvm.ClassFile.FieldType.int)) 3 64 [va_rf a0, .int a1, .int a2] h (some (.int rv)) hF kc ks :=
  xh_meth (cc := cX0_lit) l (by decide) (Nat.le_of_ble_eq_true rfl) (List.forall_mem_cons.mpr ⟨va_rf_cat _, List.forall_mem_cons.mpr ⟨rfl, List.forall_mem_cons.mpr ⟨rfl, fun _ h => absurd h List.not_mem_nil⟩⟩⟩) fun p e s m below meth c ls C hr hnm hl hS => w_X0_lit C hr ⟨Nat.le_refl _, Nat.le_refl _⟩ N a0 a1 a2 h _ _ _ _ _ _ _ hf hS hl
def K_X7_first_2 (p : Program) (l : Launch) (e : Env) (s : State) (m : MethodId) (args : Array Value) (below : List Frame) (meth : Method) (c : Code) (D : xh_D) (g : Nat → Nat) (R : Room) (rv : Int32) (hF : xh_H) (k : Option Nat → Int32 → Int32 → xh_H → xh_R Int32) : Prop := ∀ (a0 : Option Nat) (a1 : Int32) (a2 : Int32) (h : xh_H) (H : Heap) (locs : List Loc) (cells slots kc ks : Nat) (ls : Array Slot), k a0 a1 a2 h = some (rv, hF, kc, ks) → xh_T D g s R h H locs cells slots kc ks → xh_L ls 3 [(0, va_rf a0), (1, .int a1), (2, .int a2)] → W p l e R s m args below meth c H locs cells slots (MQ below (xh_Q D g (some (.int rv)) hF) args s R.cells R.slots (xh_A g)) (F0 m 2 ls [])
theorem w_X7_first_b31 (C : xh_C cX7_first 3 "SungSlides$Judge" D g p s m args meth c) (hr : meth.sig.returnType = (Option.some Jvm.ClassFile.FieldType.int)) (hR : 3 ≤ R.frames ∧ 64 ≤ R.locals) {rv : Int32} {hF : xh_H} (N : Nat) : ∀ (a2 : Int32) (h : xh_H) (H : Heap) (locs : List Loc) (cells slots kc ks : Nat) (ls : Array Slot), f_X7_first_b31 N a2 h = some (rv, hF, kc, ks) → xh_T D g s R h H locs cells slots kc ks → xh_L ls 3 [(2, .int a2)] → W p l e R s m args below meth c H locs cells slots (MQ below (xh_Q D g (some (.int rv)) hF) args s R.cells R.slots (xh_A g)) (F0 m 31 ls []) := by
  intro a2 h H locs cells slots kc ks ls hf hS hl
  have hx := C.1
  have hb := C.2.1
  unfold f_X7_first_b31 at hf
  refine lv_iload_n hx hb dX7_first_31 rfl (hl.at 0 rfl) ?_
  exact xr_iret C hS hr hf dX7_first_32
theorem w_X7_first_b2 (C : xh_C cX7_first 3 "SungSlides$Judge" D g p s m args meth c) (hr : meth.sig.returnType = (Option.some Jvm.ClassFile.FieldType.int)) (hR : 3 ≤ R.frames ∧ 64 ≤ R.locals) {rv : Int32} {hF : xh_H} (N : Nat) {k2 : Option Nat → Int32 → Int32 → xh_H → xh_R Int32} (hk2 : K_X7_first_2 p l e s m args below meth c D g R rv hF k2) : ∀ (a0 : Option Nat) (a1 : Int32) (a2 : Int32) (h : xh_H) (H : Heap) (locs : List Loc) (cells slots kc ks : Nat) (ls : Array Slot), f_X7_first_b2 N k2 a0 a1 a2 h = some (rv, hF, kc, ks) → xh_T D g s R h H locs cells slots kc ks → xh_L ls 3 [(0, va_rf a0), (1, .int a1), (2, .int a2)] → W p l e R s m args below meth c H locs cells slots (MQ below (xh_Q D g (some (.int rv)) hF) args s R.cells R.slots (xh_A g)) (F0 m 2 ls []) := by
  intro a0 a1 a2 h H locs cells slots kc ks ls hf hS hl
  have hx := C.1
  have hb := C.2.1
  unfold f_X7_first_b2 at hf
  refine xr_aload_n C dX7_first_2 rfl (hl.at 0 rfl) ?_
  refine xr_getR C hS xf_X7 0 (by decide) q601 (fun _ h => h) hf dX7_first_3 (fun x3 hf => ?_)
  refine xr_getNR C hS xf_X1 0 (by decide) xn_q123 rfl hf dX7_first_6 (fun x6 hf => ?_)
  refine lv_iload_n hx hb dX7_first_9 rfl (hl.at 2 rfl) ?_
  refine xr_F (V := fun v => some (va_rf v)) (n := 1) (fr := 2) (lo := 43) (As := [.int a2]) C hS xf_J2 q638 q362 q364 q59 q366 xn_i6 hdi_J2_get ⟨Nat.le_trans (Nat.le_of_ble_eq_true rfl) hR.1, Nat.le_trans (Nat.le_of_ble_eq_true rfl) hR.2⟩ rfl hl.1.1 rfl xm_r0 hf (fun v h1 k1 n1 e1 => ct_J2_get l D N e1) dX7_first_10 (fun x10 h H locs cells slots kc ks hS hf => ?_)
  refine W.eq (g2 := F0 m 15 ls [va_rf x10]) rfl ?_
  refine xr_ccS C hS xf_X5 q639 hf dX7_first_15 (fun hf => ?_)
  refine xr_getNI C hS xf_X5 4 (by decide) xn_q459 rfl hf dX7_first_18 (fun x18 hf => ?_)
  refine lv_iload_n hx hb dX7_first_21 rfl (hl.at 1 rfl) ?_
  refine lv_icmp_ge (tgt := 31) hx hb dX7_first_22 (by decide) (fun c22 => ?_) (fun c22 => ?_)
  · replace hf := xb_pos c22 hf
    exact w_X7_first_b31 C hr hR N a2  h H locs cells slots kc ks ls hf hS (hl.sub [2] rfl)
  · replace hf := xb_neg c22 hf
    refine xr_iinc C dX7_first_25 hl (k := 2) rfl (xi_inc xi_c1) (Nat.le_of_ble_eq_true rfl) (lv' := [(2, .int (a2 + (1 : Int32))), (0, va_rf a0), (1, .int a1)]) rfl (fun ls hl => ?_)
    refine lv_goto (tgt := 2) hx hb dX7_first_28 (by decide) ?_
    exact hk2 a0 a1 (a2 + (1 : Int32))  h H locs cells slots kc ks ls hf hS (hl.sub [1, 2, 0] rfl)
theorem w_X7_first_l2 (C : xh_C cX7_first 3 "SungSlides$Judge" D g p s m args meth c) (hr : meth.sig.returnType = (Option.some Jvm.ClassFile.FieldType.int)) (hR : 3 ≤ R.frames ∧ 64 ≤ R.locals) {rv : Int32} {hF : xh_H} (N : Nat) : ∀ n : Nat, K_X7_first_2 p l e s m args below meth c D g R rv hF (f_X7_first_l2 N n) := by
  intro n
  induction n with
  | zero => exact fun a0 a1 a2 h H locs cells slots kc ks ls hf => absurd (show (none : xh_R Int32) = some _ from hf) (by intro q; cases q)
  | succ n ih => exact fun a0 a1 a2 h H locs cells slots kc ks ls hf => w_X7_first_b2 C hr hR N ih a0 a1 a2 h H locs cells slots kc ks ls hf
/-- SungSlides$Judge.first(I)I -/
theorem w_X7_first (C : xh_C cX7_first 3 "SungSlides$Judge" D g p s m args meth c) (hr : meth.sig.returnType = (Option.some Jvm.ClassFile.FieldType.int)) (hR : 3 ≤ R.frames ∧ 64 ≤ R.locals) {rv : Int32} {hF : xh_H} (N : Nat) (a0 : Option Nat) (a1 : Int32)  (h : xh_H) (H : Heap) (locs : List Loc) (cells slots kc ks : Nat) (ls : Array Slot) (hf : f_X7_first N a0 a1 h = some (rv, hF, kc, ks)) (hS : xh_T D g s R h H locs cells slots kc ks) (hl : xh_L ls 3 [(0, va_rf a0), (1, .int a1)]) : W p l e R s m args below meth c H locs cells slots (MQ below (xh_Q D g (some (.int rv)) hF) args s R.cells R.slots (xh_A g)) (F0 m 0 ls []) := by
  have hx := C.1
  have hb := C.2.1
  unfold f_X7_first at hf
  refine lv_iconst (v := 0) hx hb dX7_first_0 xi_c0 ?_
  refine xr_istore_n C dX7_first_1 rfl hl (Nat.le_of_ble_eq_true rfl) (lv' := [(2, .int (0 : Int32)), (0, va_rf a0), (1, .int a1)]) rfl (fun ls hl => ?_)
  exact w_X7_first_l2 C hr hR N N a0 a1 (0 : Int32)  h H locs cells slots kc ks ls hf hS (hl.sub [1, 2, 0] rfl)
theorem ct_X7_first (l : Launch) (D : xh_D) {rv : Int32} {h hF : xh_H} {kc ks : Nat} (N : Nat) {a0 : Option Nat} {a1 : Int32} (hf : f_X7_first N a0 a1 h = some (rv, hF, kc, ks)) : xh_Ct l D yX7_first (ws_ yX7_first cX7_first 3 (Option.some Jvm.ClassFile.FieldType.int)) 3 64 [va_rf a0, .int a1] h (some (.int rv)) hF kc ks :=
  xh_meth (cc := cX7_first) l (by decide) (Nat.le_of_ble_eq_true rfl) (List.forall_mem_cons.mpr ⟨va_rf_cat _, List.forall_mem_cons.mpr ⟨rfl, fun _ h => absurd h List.not_mem_nil⟩⟩) fun p e s m below meth c ls C hr hnm hl hS => w_X7_first C hr ⟨Nat.le_refl _, Nat.le_refl _⟩ N a0 a1 h _ _ _ _ _ _ _ hf hS hl
def K_X7_longestRow_7 (p : Program) (l : Launch) (e : Env) (s : State) (m : MethodId) (args : Array Value) (below : List Frame) (meth : Method) (c : Code) (D : xh_D) (g : Nat → Nat) (R : Room) (rv : Int32) (hF : xh_H) (k : Option Nat → Int32 → Int32 → Int32 → Int32 → xh_H → xh_R Int32) : Prop := ∀ (a0 : Option Nat) (a1 : Int32) (a2 : Int32) (a3 : Int32) (a4 : Int32) (h : xh_H) (H : Heap) (locs : List Loc) (cells slots kc ks : Nat) (ls : Array Slot), k a0 a1 a2 a3 a4 h = some (rv, hF, kc, ks) → xh_T D g s R h H locs cells slots kc ks → xh_L ls 6 [(0, va_rf a0), (1, .int a1), (2, .int a2), (3, .int a3), (4, .int a4)] → W p l e R s m args below meth c H locs cells slots (MQ below (xh_Q D g (some (.int rv)) hF) args s R.cells R.slots (xh_A g)) (F0 m 7 ls [])
theorem w_X7_longestRow_b85 (C : xh_C cX7_longestRow 6 "SungSlides$Judge" D g p s m args meth c) (hr : meth.sig.returnType = (Option.some Jvm.ClassFile.FieldType.int)) (hR : 3 ≤ R.frames ∧ 64 ≤ R.locals) {rv : Int32} {hF : xh_H} (N : Nat) : ∀ (a2 : Int32) (h : xh_H) (H : Heap) (locs : List Loc) (cells slots kc ks : Nat) (ls : Array Slot), f_X7_longestRow_b85 N a2 h = some (rv, hF, kc, ks) → xh_T D g s R h H locs cells slots kc ks → xh_L ls 6 [(2, .int a2)] → W p l e R s m args below meth c H locs cells slots (MQ below (xh_Q D g (some (.int rv)) hF) args s R.cells R.slots (xh_A g)) (F0 m 85 ls []) := by
  intro a2 h H locs cells slots kc ks ls hf hS hl
  have hx := C.1
  have hb := C.2.1
  unfold f_X7_longestRow_b85 at hf
  refine lv_iload_n hx hb dX7_longestRow_85 rfl (hl.at 0 rfl) ?_
  exact xr_iret C hS hr hf dX7_longestRow_86
theorem w_X7_longestRow_b72 (C : xh_C cX7_longestRow 6 "SungSlides$Judge" D g p s m args meth c) (hr : meth.sig.returnType = (Option.some Jvm.ClassFile.FieldType.int)) (hR : 3 ≤ R.frames ∧ 64 ≤ R.locals) {rv : Int32} {hF : xh_H} (N : Nat) {k7 : Option Nat → Int32 → Int32 → Int32 → Int32 → xh_H → xh_R Int32} (hk7 : K_X7_longestRow_7 p l e s m args below meth c D g R rv hF k7) : ∀ (a0 : Option Nat) (a1 : Int32) (a2 : Int32) (a4 : Int32) (t0 : Int32) (h : xh_H) (H : Heap) (locs : List Loc) (cells slots kc ks : Nat) (ls : Array Slot), f_X7_longestRow_b72 N k7 a0 a1 a2 a4 t0 h = some (rv, hF, kc, ks) → xh_T D g s R h H locs cells slots kc ks → xh_L ls 6 [(0, va_rf a0), (1, .int a1), (2, .int a2), (4, .int a4)] → W p l e R s m args below meth c H locs cells slots (MQ below (xh_Q D g (some (.int rv)) hF) args s R.cells R.slots (xh_A g)) (F0 m 72 ls [.int t0]) := by
  intro a0 a1 a2 a4 t0 h H locs cells slots kc ks ls hf hS hl
  have hx := C.1
  have hb := C.2.1
  unfold f_X7_longestRow_b72 at hf
  refine xr_istore_n C dX7_longestRow_72 rfl hl (Nat.le_of_ble_eq_true rfl) (lv' := [(3, .int t0), (0, va_rf a0), (1, .int a1), (2, .int a2), (4, .int a4)]) rfl (fun ls hl => ?_)
  refine lv_iload_n hx hb dX7_longestRow_73 rfl (hl.at 3 rfl) ?_
  refine lv_iload_n hx hb dX7_longestRow_74 rfl (hl.at 0 rfl) ?_
  refine xr_mx C hS hl.1.1.symm q674 q291 q64 q292 (Nat.le_trans (Nat.le_of_ble_eq_true rfl) hR.1) (xm_m13 xm_r0 (Nat.le_trans (Nat.le_of_ble_eq_true rfl) hR.2)) dX7_longestRow_75 ?_
  refine xr_istore_n C dX7_longestRow_78 rfl hl (Nat.le_of_ble_eq_true rfl) (lv' := [(2, .int (xh_mx a2 t0)), (3, .int t0), (0, va_rf a0), (1, .int a1), (4, .int a4)]) rfl (fun ls hl => ?_)
  refine xr_iinc C dX7_longestRow_79 hl (k := 4) rfl (xi_inc xi_c1) (Nat.le_of_ble_eq_true rfl) (lv' := [(4, .int (a4 + (1 : Int32))), (2, .int (xh_mx a2 t0)), (3, .int t0), (0, va_rf a0), (1, .int a1)]) rfl (fun ls hl => ?_)
  refine lv_goto (tgt := 7) hx hb dX7_longestRow_82 (by decide) ?_
  exact hk7 a0 a1 (xh_mx a2 t0) t0 (a4 + (1 : Int32))  h H locs cells slots kc ks ls hf hS (hl.sub [3, 4, 1, 2, 0] rfl)
theorem w_X7_longestRow_b58 (C : xh_C cX7_longestRow 6 "SungSlides$Judge" D g p s m args meth c) (hr : meth.sig.returnType = (Option.some Jvm.ClassFile.FieldType.int)) (hR : 3 ≤ R.frames ∧ 64 ≤ R.locals) {rv : Int32} {hF : xh_H} (N : Nat) {k7 : Option Nat → Int32 → Int32 → Int32 → Int32 → xh_H → xh_R Int32} (hk7 : K_X7_longestRow_7 p l e s m args below meth c D g R rv hF k7) : ∀ (a0 : Option Nat) (a1 : Int32) (a2 : Int32) (a3 : Int32) (a4 : Int32) (t0 : Int32) (h : xh_H) (H : Heap) (locs : List Loc) (cells slots kc ks : Nat) (ls : Array Slot), f_X7_longestRow_b58 N k7 a0 a1 a2 a3 a4 t0 h = some (rv, hF, kc, ks) → xh_T D g s R h H locs cells slots kc ks → xh_L ls 6 [(0, va_rf a0), (1, .int a1), (2, .int a2), (3, .int a3), (4, .int a4)] → W p l e R s m args below meth c H locs cells slots (MQ below (xh_Q D g (some (.int rv)) hF) args s R.cells R.slots (xh_A g)) (F0 m 58 ls [.int t0]) := by
  intro a0 a1 a2 a3 a4 t0 h H locs cells slots kc ks ls hf hS hl
  have hx := C.1
  have hb := C.2.1
  unfold f_X7_longestRow_b58 at hf
  refine xr_istore C dX7_longestRow_58 hl (Nat.le_of_ble_eq_true rfl) (lv' := [(5, .int t0), (0, va_rf a0), (1, .int a1), (2, .int a2), (3, .int a3), (4, .int a4)]) rfl (fun ls hl => ?_)
  refine lv_iload hx hb dX7_longestRow_60 (hl.at 0 rfl) ?_
  refine lv_if_eq (tgt := 71) hx hb dX7_longestRow_62 (by decide) (fun c62 => ?_) (fun c62 => ?_)
  · replace hf := xb_pos c62 hf
    refine lv_iconst (v := 0) hx hb dX7_longestRow_71 xi_c0 ?_
    exact w_X7_longestRow_b72 C hr hR N hk7 a0 a1 a2 a4 (0 : Int32) h H locs cells slots kc ks ls hf hS (hl.sub [1, 2, 3, 5] rfl)
  · replace hf := xb_neg c62 hf
    refine lv_iload_n hx hb dX7_longestRow_65 rfl (hl.at 4 rfl) ?_
    refine lv_iconst (v := 1) hx hb dX7_longestRow_66 xi_c1 ?_
    refine lv_iadd hx hb dX7_longestRow_67 ?_
    refine lv_goto (tgt := 72) hx hb dX7_longestRow_68 (by decide) ?_
    exact w_X7_longestRow_b72 C hr hR N hk7 a0 a1 a2 a4 (a3 + (1 : Int32)) h H locs cells slots kc ks ls hf hS (hl.sub [1, 2, 3, 5] rfl)
theorem w_X7_longestRow_b57 (C : xh_C cX7_longestRow 6 "SungSlides$Judge" D g p s m args meth c) (hr : meth.sig.returnType = (Option.some Jvm.ClassFile.FieldType.int)) (hR : 3 ≤ R.frames ∧ 64 ≤ R.locals) {rv : Int32} {hF : xh_H} (N : Nat) {k7 : Option Nat → Int32 → Int32 → Int32 → Int32 → xh_H → xh_R Int32} (hk7 : K_X7_longestRow_7 p l e s m args below meth c D g R rv hF k7) : ∀ (a0 : Option Nat) (a1 : Int32) (a2 : Int32) (a3 : Int32) (a4 : Int32) (h : xh_H) (H : Heap) (locs : List Loc) (cells slots kc ks : Nat) (ls : Array Slot), f_X7_longestRow_b57 N k7 a0 a1 a2 a3 a4 h = some (rv, hF, kc, ks) → xh_T D g s R h H locs cells slots kc ks → xh_L ls 6 [(0, va_rf a0), (1, .int a1), (2, .int a2), (3, .int a3), (4, .int a4)] → W p l e R s m args below meth c H locs cells slots (MQ below (xh_Q D g (some (.int rv)) hF) args s R.cells R.slots (xh_A g)) (F0 m 57 ls []) := by
  intro a0 a1 a2 a3 a4 h H locs cells slots kc ks ls hf hS hl
  have hx := C.1
  have hb := C.2.1
  unfold f_X7_longestRow_b57 at hf
  refine lv_iconst (v := 0) hx hb dX7_longestRow_57 xi_c0 ?_
  exact w_X7_longestRow_b58 C hr hR N hk7 a0 a1 a2 a3 a4 (0 : Int32) h H locs cells slots kc ks ls hf hS (hl.sub [0, 1, 2, 3, 4] rfl)
theorem w_X7_longestRow_b7 (C : xh_C cX7_longestRow 6 "SungSlides$Judge" D g p s m args meth c) (hr : meth.sig.returnType = (Option.some Jvm.ClassFile.FieldType.int)) (hR : 3 ≤ R.frames ∧ 64 ≤ R.locals) {rv : Int32} {hF : xh_H} (N : Nat) {k7 : Option Nat → Int32 → Int32 → Int32 → Int32 → xh_H → xh_R Int32} (hk7 : K_X7_longestRow_7 p l e s m args below meth c D g R rv hF k7) : ∀ (a0 : Option Nat) (a1 : Int32) (a2 : Int32) (a3 : Int32) (a4 : Int32) (h : xh_H) (H : Heap) (locs : List Loc) (cells slots kc ks : Nat) (ls : Array Slot), f_X7_longestRow_b7 N k7 a0 a1 a2 a3 a4 h = some (rv, hF, kc, ks) → xh_T D g s R h H locs cells slots kc ks → xh_L ls 6 [(0, va_rf a0), (1, .int a1), (2, .int a2), (3, .int a3), (4, .int a4)] → W p l e R s m args below meth c H locs cells slots (MQ below (xh_Q D g (some (.int rv)) hF) args s R.cells R.slots (xh_A g)) (F0 m 7 ls []) := by
  intro a0 a1 a2 a3 a4 h H locs cells slots kc ks ls hf hS hl
  have hx := C.1
  have hb := C.2.1
  unfold f_X7_longestRow_b7 at hf
  refine lv_iload hx hb dX7_longestRow_7 (hl.at 4 rfl) ?_
  refine xr_aload_n C dX7_longestRow_9 rfl (hl.at 0 rfl) ?_
  refine xr_getR C hS xf_X7 0 (by decide) q601 (fun _ h => h) hf dX7_longestRow_10 (fun x10 hf => ?_)
  refine xr_V (V := fun v => some (.int v)) (n := 0) (fr := 1) (lo := 20) (As := []) C hS xf_X1 (lw_V q632 q346 q347 q56 q348) hdv_X1_many ⟨Nat.le_trans (Nat.le_of_ble_eq_true rfl) hR.1, Nat.le_trans (Nat.le_of_ble_eq_true rfl) hR.2⟩ rfl hl.1.1 rfl (xm_rc rfl xm_r0) hf (fun v h1 k1 n1 e1 => ct_X1_many l D N e1) dX7_longestRow_13 (fun x13 h H locs cells slots kc ks hS hf => ?_)
  refine W.eq (g2 := F0 m 16 ls [.int x13, .int a4]) rfl ?_
  refine lv_icmp_ge (tgt := 85) hx hb dX7_longestRow_16 (by decide) (fun c16 => ?_) (fun c16 => ?_)
  · replace hf := xb_pos c16 hf
    exact w_X7_longestRow_b85 C hr hR N a2  h H locs cells slots kc ks ls hf hS (hl.sub [2] rfl)
  · replace hf := xb_neg c16 hf
    refine xr_aload_n C dX7_longestRow_19 rfl (hl.at 0 rfl) ?_
    refine xr_getR C hS xf_X7 0 (by decide) q601 (fun _ h => h) hf dX7_longestRow_20 (fun x20 hf => ?_)
    refine xr_getNR C hS xf_X1 0 (by decide) xn_q123 rfl hf dX7_longestRow_23 (fun x23 hf => ?_)
    refine lv_iload hx hb dX7_longestRow_26 (hl.at 4 rfl) ?_
    refine xr_F (V := fun v => some (va_rf v)) (n := 1) (fr := 2) (lo := 43) (As := [.int a4]) C hS xf_J2 q638 q362 q364 q59 q366 xn_i6 hdi_J2_get ⟨Nat.le_trans (Nat.le_of_ble_eq_true rfl) hR.1, Nat.le_trans (Nat.le_of_ble_eq_true rfl) hR.2⟩ rfl hl.1.1 rfl xm_r0 hf (fun v h1 k1 n1 e1 => ct_J2_get l D N e1) dX7_longestRow_28 (fun x28 h H locs cells slots kc ks hS hf => ?_)
    refine W.eq (g2 := F0 m 33 ls [va_rf x28]) rfl ?_
    refine xr_ccS C hS xf_X5 q639 hf dX7_longestRow_33 (fun hf => ?_)
    refine xr_getNI C hS xf_X5 4 (by decide) xn_q459 rfl hf dX7_longestRow_36 (fun x36 hf => ?_)
    refine lv_iload_n hx hb dX7_longestRow_39 rfl (hl.at 1 rfl) ?_
    refine lv_icmp_ne (tgt := 57) hx hb dX7_longestRow_40 (by decide) (fun c40 => ?_) (fun c40 => ?_)
    · replace hf := xb_neg c40 hf
      exact w_X7_longestRow_b57 C hr hR N hk7 a0 a1 a2 a3 a4  h H locs cells slots kc ks ls hf hS (hl.sub [0, 1, 2, 3, 4] rfl)
    · replace hf := xb_pos c40 hf
      refine xr_aload_n C dX7_longestRow_43 rfl (hl.at 0 rfl) ?_
      refine xr_getR C hS xf_X7 3 (by decide) q606 (fun _ h => h) hf dX7_longestRow_44 (fun x44 hf => ?_)
      refine lv_iload hx hb dX7_longestRow_47 (hl.at 4 rfl) ?_
      refine xr_iald C hS hf dX7_longestRow_49 (fun x49 hf => ?_)
      refine lv_if_ne (tgt := 57) hx hb dX7_longestRow_50 (by decide) (fun c50 => ?_) (fun c50 => ?_)
      · replace hf := xb_neg c50 hf
        exact w_X7_longestRow_b57 C hr hR N hk7 a0 a1 a2 a3 a4  h H locs cells slots kc ks ls hf hS (hl.sub [0, 1, 2, 3, 4] rfl)
      · replace hf := xb_pos c50 hf
        refine lv_iconst (v := 1) hx hb dX7_longestRow_53 xi_c1 ?_
        refine lv_goto (tgt := 58) hx hb dX7_longestRow_54 (by decide) ?_
        exact w_X7_longestRow_b58 C hr hR N hk7 a0 a1 a2 a3 a4 (1 : Int32) h H locs cells slots kc ks ls hf hS (hl.sub [0, 1, 2, 3, 4] rfl)
theorem w_X7_longestRow_l7 (C : xh_C cX7_longestRow 6 "SungSlides$Judge" D g p s m args meth c) (hr : meth.sig.returnType = (Option.some Jvm.ClassFile.FieldType.int)) (hR : 3 ≤ R.frames ∧ 64 ≤ R.locals) {rv : Int32} {hF : xh_H} (N : Nat) : ∀ n : Nat, K_X7_longestRow_7 p l e s m args below meth c D g R rv hF (f_X7_longestRow_l7 N n) := by
  intro n
  induction n with
  | zero => exact fun a0 a1 a2 a3 a4 h H locs cells slots kc ks ls hf => absurd (show (none : xh_R Int32) = some _ from hf) (by intro q; cases q)
  | succ n ih => exact fun a0 a1 a2 a3 a4 h H locs cells slots kc ks ls hf => w_X7_longestRow_b7 C hr hR N ih a0 a1 a2 a3 a4 h H locs cells slots kc ks ls hf
/-- SungSlides$Judge.longestRow(I)I -/
theorem w_X7_longestRow (C : xh_C cX7_longestRow 6 "SungSlides$Judge" D g p s m args meth c) (hr : meth.sig.returnType = (Option.some Jvm.ClassFile.FieldType.int)) (hR : 3 ≤ R.frames ∧ 64 ≤ R.locals) {rv : Int32} {hF : xh_H} (N : Nat) (a0 : Option Nat) (a1 : Int32)  (h : xh_H) (H : Heap) (locs : List Loc) (cells slots kc ks : Nat) (ls : Array Slot) (hf : f_X7_longestRow N a0 a1 h = some (rv, hF, kc, ks)) (hS : xh_T D g s R h H locs cells slots kc ks) (hl : xh_L ls 6 [(0, va_rf a0), (1, .int a1)]) : W p l e R s m args below meth c H locs cells slots (MQ below (xh_Q D g (some (.int rv)) hF) args s R.cells R.slots (xh_A g)) (F0 m 0 ls []) := by
  have hx := C.1
  have hb := C.2.1
  unfold f_X7_longestRow at hf
  refine lv_iconst (v := 0) hx hb dX7_longestRow_0 xi_c0 ?_
  refine xr_istore_n C dX7_longestRow_1 rfl hl (Nat.le_of_ble_eq_true rfl) (lv' := [(2, .int (0 : Int32)), (0, va_rf a0), (1, .int a1)]) rfl (fun ls hl => ?_)
  refine lv_iconst (v := 0) hx hb dX7_longestRow_2 xi_c0 ?_
  refine xr_istore_n C dX7_longestRow_3 rfl hl (Nat.le_of_ble_eq_true rfl) (lv' := [(3, .int (0 : Int32)), (2, .int (0 : Int32)), (0, va_rf a0), (1, .int a1)]) rfl (fun ls hl => ?_)
  refine lv_iconst (v := 0) hx hb dX7_longestRow_4 xi_c0 ?_
  refine xr_istore C dX7_longestRow_5 hl (Nat.le_of_ble_eq_true rfl) (lv' := [(4, .int (0 : Int32)), (3, .int (0 : Int32)), (2, .int (0 : Int32)), (0, va_rf a0), (1, .int a1)]) rfl (fun ls hl => ?_)
  exact w_X7_longestRow_l7 C hr hR N N a0 a1 (0 : Int32) (0 : Int32) (0 : Int32)  h H locs cells slots kc ks ls hf hS (hl.sub [3, 4, 2, 1, 0] rfl)
theorem ct_X7_longestRow (l : Launch) (D : xh_D) {rv : Int32} {h hF : xh_H} {kc ks : Nat} (N : Nat) {a0 : Option Nat} {a1 : Int32} (hf : f_X7_longestRow N a0 a1 h = some (rv, hF, kc, ks)) : xh_Ct l D yX7_longestRow (ws_ yX7_longestRow cX7_longestRow 6 (Option.some Jvm.ClassFile.FieldType.int)) 3 64 [va_rf a0, .int a1] h (some (.int rv)) hF kc ks :=
  xh_meth (cc := cX7_longestRow) l (by decide) (Nat.le_of_ble_eq_true rfl) (List.forall_mem_cons.mpr ⟨va_rf_cat _, List.forall_mem_cons.mpr ⟨rfl, fun _ h => absurd h List.not_mem_nil⟩⟩) fun p e s m below meth c ls C hr hnm hl hS => w_X7_longestRow C hr ⟨Nat.le_refl _, Nat.le_refl _⟩ N a0 a1 h _ _ _ _ _ _ _ hf hS hl
def K_X7_many_15 (p : Program) (l : Launch) (e : Env) (s : State) (m : MethodId) (args : Array Value) (below : List Frame) (meth : Method) (c : Code) (D : xh_D) (g : Nat → Nat) (R : Room) (rv : Int32) (hF : xh_H) (k : Int32 → Int32 → Option Nat → xh_H → xh_R Int32) : Prop := ∀ (a1 : Int32) (a2 : Int32) (a3 : Option Nat) (h : xh_H) (H : Heap) (locs : List Loc) (cells slots kc ks : Nat) (ls : Array Slot), k a1 a2 a3 h = some (rv, hF, kc, ks) → xh_T D g s R h H locs cells slots kc ks → xh_L ls 5 [(1, .int a1), (2, .int a2), (3, va_rf a3)] → W p l e R s m args below meth c H locs cells slots (MQ below (xh_Q D g (some (.int rv)) hF) args s R.cells R.slots (xh_A g)) (F0 m 15 ls [])
theorem w_X7_many_b55 (C : xh_C cX7_many 5 "SungSlides$Judge" D g p s m args meth c) (hr : meth.sig.returnType = (Option.some Jvm.ClassFile.FieldType.int)) (hR : 3 ≤ R.frames ∧ 61 ≤ R.locals) {rv : Int32} {hF : xh_H} (N : Nat) : ∀ (a2 : Int32) (h : xh_H) (H : Heap) (locs : List Loc) (cells slots kc ks : Nat) (ls : Array Slot), f_X7_many_b55 N a2 h = some (rv, hF, kc, ks) → xh_T D g s R h H locs cells slots kc ks → xh_L ls 5 [(2, .int a2)] → W p l e R s m args below meth c H locs cells slots (MQ below (xh_Q D g (some (.int rv)) hF) args s R.cells R.slots (xh_A g)) (F0 m 55 ls []) := by
  intro a2 h H locs cells slots kc ks ls hf hS hl
  have hx := C.1
  have hb := C.2.1
  unfold f_X7_many_b55 at hf
  refine lv_iload_n hx hb dX7_many_55 rfl (hl.at 0 rfl) ?_
  exact xr_iret C hS hr hf dX7_many_56
theorem w_X7_many_b50 (C : xh_C cX7_many 5 "SungSlides$Judge" D g p s m args meth c) (hr : meth.sig.returnType = (Option.some Jvm.ClassFile.FieldType.int)) (hR : 3 ≤ R.frames ∧ 61 ≤ R.locals) {rv : Int32} {hF : xh_H} (N : Nat) {k15 : Int32 → Int32 → Option Nat → xh_H → xh_R Int32} (hk15 : K_X7_many_15 p l e s m args below meth c D g R rv hF k15) : ∀ (a1 : Int32) (a3 : Option Nat) (t0 : Int32) (t1 : Int32) (h : xh_H) (H : Heap) (locs : List Loc) (cells slots kc ks : Nat) (ls : Array Slot), f_X7_many_b50 N k15 a1 a3 t0 t1 h = some (rv, hF, kc, ks) → xh_T D g s R h H locs cells slots kc ks → xh_L ls 5 [(1, .int a1), (3, va_rf a3)] → W p l e R s m args below meth c H locs cells slots (MQ below (xh_Q D g (some (.int rv)) hF) args s R.cells R.slots (xh_A g)) (F0 m 50 ls [.int t1, .int t0]) := by
  intro a1 a3 t0 t1 h H locs cells slots kc ks ls hf hS hl
  have hx := C.1
  have hb := C.2.1
  unfold f_X7_many_b50 at hf
  refine lv_iadd hx hb dX7_many_50 ?_
  refine xr_istore_n C dX7_many_51 rfl hl (Nat.le_of_ble_eq_true rfl) (lv' := [(2, .int (t0 + t1)), (1, .int a1), (3, va_rf a3)]) rfl (fun ls hl => ?_)
  refine lv_goto (tgt := 15) hx hb dX7_many_52 (by decide) ?_
  exact hk15 a1 (t0 + t1) a3  h H locs cells slots kc ks ls hf hS (hl.sub [1, 0, 2] rfl)
theorem w_X7_many_b15 (C : xh_C cX7_many 5 "SungSlides$Judge" D g p s m args meth c) (hr : meth.sig.returnType = (Option.some Jvm.ClassFile.FieldType.int)) (hR : 3 ≤ R.frames ∧ 61 ≤ R.locals) {rv : Int32} {hF : xh_H} (N : Nat) {k15 : Int32 → Int32 → Option Nat → xh_H → xh_R Int32} (hk15 : K_X7_many_15 p l e s m args below meth c D g R rv hF k15) : ∀ (a1 : Int32) (a2 : Int32) (a3 : Option Nat) (h : xh_H) (H : Heap) (locs : List Loc) (cells slots kc ks : Nat) (ls : Array Slot), f_X7_many_b15 N k15 a1 a2 a3 h = some (rv, hF, kc, ks) → xh_T D g s R h H locs cells slots kc ks → xh_L ls 5 [(1, .int a1), (2, .int a2), (3, va_rf a3)] → W p l e R s m args below meth c H locs cells slots (MQ below (xh_Q D g (some (.int rv)) hF) args s R.cells R.slots (xh_A g)) (F0 m 15 ls []) := by
  intro a1 a2 a3 h H locs cells slots kc ks ls hf hS hl
  have hx := C.1
  have hb := C.2.1
  unfold f_X7_many_b15 at hf
  refine xr_aload_n C dX7_many_15 rfl (hl.at 2 rfl) ?_
  refine xr_F (V := fun v => some (.int v)) (n := 0) (fr := 0) (lo := 0) (As := []) C hS xf_J3 q758 q247 q249 q62 q251 xn_i0 hdi_J3_hasNext ⟨Nat.le_trans (Nat.le_of_ble_eq_true rfl) hR.1, Nat.le_trans (Nat.le_of_ble_eq_true rfl) hR.2⟩ rfl hl.1.1 rfl xm_r0 hf (fun v h1 k1 n1 e1 => ct_J3_hasNext l D N e1) dX7_many_16 (fun x16 h H locs cells slots kc ks hS hf => ?_)
  refine W.eq (g2 := F0 m 21 ls [.int x16]) rfl ?_
  refine lv_if_eq (tgt := 55) hx hb dX7_many_21 (by decide) (fun c21 => ?_) (fun c21 => ?_)
  · replace hf := xb_pos c21 hf
    exact w_X7_many_b55 C hr hR N a2  h H locs cells slots kc ks ls hf hS (hl.sub [1] rfl)
  · replace hf := xb_neg c21 hf
    refine xr_aload_n C dX7_many_24 rfl (hl.at 2 rfl) ?_
    refine xr_F (V := fun v => some (va_rf v)) (n := 0) (fr := 1) (lo := 20) (As := []) C hS xf_J3 q760 q256 q258 q62 q260 xn_i1 hdi_J3_next ⟨Nat.le_trans (Nat.le_of_ble_eq_true rfl) hR.1, Nat.le_trans (Nat.le_of_ble_eq_true rfl) hR.2⟩ rfl hl.1.1 rfl xm_r0 hf (fun v h1 k1 n1 e1 => ct_J3_next l D N e1) dX7_many_25 (fun x25 h H locs cells slots kc ks hS hf => ?_)
    refine W.eq (g2 := F0 m 30 ls [va_rf x25]) rfl ?_
    refine xr_ccS C hS xf_X5 q639 hf dX7_many_30 (fun hf => ?_)
    refine xr_astore C dX7_many_33 hl (Nat.le_of_ble_eq_true rfl) (lv' := [(4, va_rf x25), (1, .int a1), (2, .int a2), (3, va_rf a3)]) rfl (fun ls hl => ?_)
    refine lv_iload_n hx hb dX7_many_35 rfl (hl.at 2 rfl) ?_
    refine xr_aload C dX7_many_36 (hl.at 0 rfl) ?_
    refine xr_getNI C hS xf_X5 4 (by decide) xn_q459 rfl hf dX7_many_38 (fun x38 hf => ?_)
    refine lv_iload_n hx hb dX7_many_41 rfl (hl.at 1 rfl) ?_
    refine lv_icmp_ne (tgt := 49) hx hb dX7_many_42 (by decide) (fun c42 => ?_) (fun c42 => ?_)
    · replace hf := xb_neg c42 hf
      refine lv_iconst (v := 0) hx hb dX7_many_49 xi_c0 ?_
      exact w_X7_many_b50 C hr hR N hk15 a1 a3 a2 (0 : Int32) h H locs cells slots kc ks ls hf hS (hl.sub [1, 3] rfl)
    · replace hf := xb_pos c42 hf
      refine lv_iconst (v := 1) hx hb dX7_many_45 xi_c1 ?_
      refine lv_goto (tgt := 50) hx hb dX7_many_46 (by decide) ?_
      exact w_X7_many_b50 C hr hR N hk15 a1 a3 a2 (1 : Int32) h H locs cells slots kc ks ls hf hS (hl.sub [1, 3] rfl)
theorem w_X7_many_l15 (C : xh_C cX7_many 5 "SungSlides$Judge" D g p s m args meth c) (hr : meth.sig.returnType = (Option.some Jvm.ClassFile.FieldType.int)) (hR : 3 ≤ R.frames ∧ 61 ≤ R.locals) {rv : Int32} {hF : xh_H} (N : Nat) : ∀ n : Nat, K_X7_many_15 p l e s m args below meth c D g R rv hF (f_X7_many_l15 N n) := by
  intro n
  induction n with
  | zero => exact fun a1 a2 a3 h H locs cells slots kc ks ls hf => absurd (show (none : xh_R Int32) = some _ from hf) (by intro q; cases q)
  | succ n ih => exact fun a1 a2 a3 h H locs cells slots kc ks ls hf => w_X7_many_b15 C hr hR N ih a1 a2 a3 h H locs cells slots kc ks ls hf
/-- SungSlides$Judge.many(I)I -/
theorem w_X7_many (C : xh_C cX7_many 5 "SungSlides$Judge" D g p s m args meth c) (hr : meth.sig.returnType = (Option.some Jvm.ClassFile.FieldType.int)) (hR : 3 ≤ R.frames ∧ 61 ≤ R.locals) {rv : Int32} {hF : xh_H} (N : Nat) (a0 : Option Nat) (a1 : Int32)  (h : xh_H) (H : Heap) (locs : List Loc) (cells slots kc ks : Nat) (ls : Array Slot) (hf : f_X7_many N a0 a1 h = some (rv, hF, kc, ks)) (hS : xh_T D g s R h H locs cells slots kc ks) (hl : xh_L ls 5 [(0, va_rf a0), (1, .int a1)]) : W p l e R s m args below meth c H locs cells slots (MQ below (xh_Q D g (some (.int rv)) hF) args s R.cells R.slots (xh_A g)) (F0 m 0 ls []) := by
  have hx := C.1
  have hb := C.2.1
  unfold f_X7_many at hf
  refine lv_iconst (v := 0) hx hb dX7_many_0 xi_c0 ?_
  refine xr_istore_n C dX7_many_1 rfl hl (Nat.le_of_ble_eq_true rfl) (lv' := [(2, .int (0 : Int32)), (0, va_rf a0), (1, .int a1)]) rfl (fun ls hl => ?_)
  refine xr_aload_n C dX7_many_2 rfl (hl.at 1 rfl) ?_
  refine xr_getR C hS xf_X7 0 (by decide) q601 (fun _ h => h) hf dX7_many_3 (fun x3 hf => ?_)
  refine xr_getNR C hS xf_X1 0 (by decide) xn_q123 rfl hf dX7_many_6 (fun x6 hf => ?_)
  refine xr_F (V := fun v => some (va_rf v)) (n := 0) (fr := 2) (lo := 41) (As := []) C hS xf_J2 q756 q218 q220 q59 q222 xn_i2 hdi_J2_iterator ⟨Nat.le_trans (Nat.le_of_ble_eq_true rfl) hR.1, Nat.le_trans (Nat.le_of_ble_eq_true rfl) hR.2⟩ rfl hl.1.1 rfl xm_r0 hf (fun v h1 k1 n1 e1 => ct_J2_iterator l D N e1) dX7_many_9 (fun x9 h H locs cells slots kc ks hS hf => ?_)
  refine W.eq (g2 := F0 m 14 ls [va_rf x9]) rfl ?_
  refine xr_astore_n C dX7_many_14 rfl hl (Nat.le_of_ble_eq_true rfl) (lv' := [(3, va_rf x9), (2, .int (0 : Int32)), (0, va_rf a0), (1, .int a1)]) rfl (fun ls hl => ?_)
  exact w_X7_many_l15 C hr hR N N a1 (0 : Int32) x9  h H locs cells slots kc ks ls hf hS (hl.sub [3, 1, 0] rfl)
theorem ct_X7_many (l : Launch) (D : xh_D) {rv : Int32} {h hF : xh_H} {kc ks : Nat} (N : Nat) {a0 : Option Nat} {a1 : Int32} (hf : f_X7_many N a0 a1 h = some (rv, hF, kc, ks)) : xh_Ct l D yX7_many (ws_ yX7_many cX7_many 5 (Option.some Jvm.ClassFile.FieldType.int)) 3 61 [va_rf a0, .int a1] h (some (.int rv)) hF kc ks :=
  xh_meth (cc := cX7_many) l (by decide) (Nat.le_of_ble_eq_true rfl) (List.forall_mem_cons.mpr ⟨va_rf_cat _, List.forall_mem_cons.mpr ⟨rfl, fun _ h => absurd h List.not_mem_nil⟩⟩) fun p e s m below meth c ls C hr hnm hl hS => w_X7_many C hr ⟨Nat.le_refl _, Nat.le_refl _⟩ N a0 a1 h _ _ _ _ _ _ _ hf hS hl
end WALK
