/-! WALKS, printed by gen/walk.py -/
set_option maxRecDepth 100000
section WALK
variable {p : Program} {l : Launch} {e : Env} {s : State} {m : MethodId} {args : Array Value} {below : List Frame} {meth : Method} {c : Code} {D : xh_D} {g : Nat → Nat} {R : Room}
/-- SungSlidesModel.settingError(II)I -/
theorem w_X2_settingError (C : xh_C cX2_settingError 2 "SungSlidesModel" D g p s m args meth c) (hr : meth.sig.returnType = (Option.some Jvm.ClassFile.FieldType.int)) (hR : 1 ≤ R.frames ∧ 22 ≤ R.locals) {rv : Int32} {hF : xh_H} (N : Nat) (a0 : Int32) (a1 : Int32)  (h : xh_H) (H : Heap) (locs : List Loc) (cells slots kc ks : Nat) (ls : Array Slot) (hf : f_X2_settingError N a0 a1 h = some (rv, hF, kc, ks)) (hS : xh_T D g s R h H locs cells slots kc ks) (hl : xh_L ls 2 [(0, .int a0), (1, .int a1)]) : W p l e R s m args below meth c H locs cells slots (MQ below (xh_Q D g (some (.int rv)) hF) args s R.cells R.slots (xh_A g)) (F0 m 0 ls []) := by
  have hx := C.1
  have hb := C.2.1
  unfold f_X2_settingError at hf
  refine lv_iload_n hx hb dX2_settingError_0 rfl (hl.at 0 rfl) ?_
  by_cases c1_0 : a0 = 0
  · replace hf := xb_pos c1_0 hf
    refine xr_tab c1_0 C dX2_settingError_1 (by decide) (by decide) (off := 35) (tgt := 36) (by decide) (by decide) ?_
    refine lv_iload_n hx hb dX2_settingError_36 rfl (hl.at 1 rfl) ?_
    refine lv_iconst (v := 2) hx hb dX2_settingError_37 xi_c2 ?_
    refine lv_bipush (v := 64) hx hb dX2_settingError_38 xi_b64 ?_
    refine xr_S (V := fun v => some (.int v)) (n := 3) (fr := 0) (lo := 0) (As := [.int a1, .int (2 : Int32), .int (64 : Int32)]) C hS (lw_S q873 q874 q60 q875) hd_X2_in ⟨Nat.le_trans (Nat.le_of_ble_eq_true rfl) hR.1, Nat.le_trans (Nat.le_of_ble_eq_true rfl) hR.2⟩ rfl hl.1.1 rfl xm_r0 hf (fun v h1 k1 n1 e1 => ct_X2_in l D N e1) dX2_settingError_40 (fun x40 h H locs cells slots kc ks hS hf => ?_)
    refine W.eq (g2 := F0 m 43 ls [.int x40]) rfl ?_
    refine lv_if_eq (tgt := 50) hx hb dX2_settingError_43 (by decide) (fun c43 => ?_) (fun c43 => ?_)
    · replace hf := xb_pos c43 hf
      refine lv_bipush (v := -2) hx hb dX2_settingError_50 xi_bm2 ?_
      exact xr_iret C hS hr hf dX2_settingError_52
    · replace hf := xb_neg c43 hf
      refine lv_iconst (v := 0) hx hb dX2_settingError_46 xi_c0 ?_
      refine lv_goto (tgt := 52) hx hb dX2_settingError_47 (by decide) ?_
      exact xr_iret C hS hr hf dX2_settingError_52
  replace hf := xb_neg c1_0 hf
  by_cases c1_1 : a0 = 1
  · replace hf := xb_pos c1_1 hf
    refine xr_tab c1_1 C dX2_settingError_1 (by decide) (by decide) (off := 52) (tgt := 53) (by decide) (by decide) ?_
    refine lv_iload_n hx hb dX2_settingError_53 rfl (hl.at 1 rfl) ?_
    refine lv_iconst (v := 0) hx hb dX2_settingError_54 xi_c0 ?_
    refine lv_bipush (v := 6) hx hb dX2_settingError_55 xi_b6 ?_
    refine xr_S (V := fun v => some (.int v)) (n := 3) (fr := 0) (lo := 0) (As := [.int a1, .int (0 : Int32), .int (6 : Int32)]) C hS (lw_S q873 q874 q60 q875) hd_X2_in ⟨Nat.le_trans (Nat.le_of_ble_eq_true rfl) hR.1, Nat.le_trans (Nat.le_of_ble_eq_true rfl) hR.2⟩ rfl hl.1.1 rfl xm_r0 hf (fun v h1 k1 n1 e1 => ct_X2_in l D N e1) dX2_settingError_57 (fun x57 h H locs cells slots kc ks hS hf => ?_)
    refine W.eq (g2 := F0 m 60 ls [.int x57]) rfl ?_
    refine lv_if_eq (tgt := 67) hx hb dX2_settingError_60 (by decide) (fun c60 => ?_) (fun c60 => ?_)
    · replace hf := xb_pos c60 hf
      refine lv_bipush (v := -2) hx hb dX2_settingError_67 xi_bm2 ?_
      exact xr_iret C hS hr hf dX2_settingError_69
    · replace hf := xb_neg c60 hf
      refine lv_iconst (v := 0) hx hb dX2_settingError_63 xi_c0 ?_
      refine lv_goto (tgt := 69) hx hb dX2_settingError_64 (by decide) ?_
      exact xr_iret C hS hr hf dX2_settingError_69
  replace hf := xb_neg c1_1 hf
  by_cases c1_2 : a0 = 2
  · replace hf := xb_pos c1_2 hf
    refine xr_tab c1_2 C dX2_settingError_1 (by decide) (by decide) (off := 69) (tgt := 70) (by decide) (by decide) ?_
    refine lv_iload_n hx hb dX2_settingError_70 rfl (hl.at 1 rfl) ?_
    refine lv_iconst (v := 0) hx hb dX2_settingError_71 xi_c0 ?_
    refine lv_bipush (v := 8) hx hb dX2_settingError_72 xi_b8 ?_
    refine xr_S (V := fun v => some (.int v)) (n := 3) (fr := 0) (lo := 0) (As := [.int a1, .int (0 : Int32), .int (8 : Int32)]) C hS (lw_S q873 q874 q60 q875) hd_X2_in ⟨Nat.le_trans (Nat.le_of_ble_eq_true rfl) hR.1, Nat.le_trans (Nat.le_of_ble_eq_true rfl) hR.2⟩ rfl hl.1.1 rfl xm_r0 hf (fun v h1 k1 n1 e1 => ct_X2_in l D N e1) dX2_settingError_74 (fun x74 h H locs cells slots kc ks hS hf => ?_)
    refine W.eq (g2 := F0 m 77 ls [.int x74]) rfl ?_
    refine lv_if_eq (tgt := 84) hx hb dX2_settingError_77 (by decide) (fun c77 => ?_) (fun c77 => ?_)
    · replace hf := xb_pos c77 hf
      refine lv_bipush (v := -2) hx hb dX2_settingError_84 xi_bm2 ?_
      exact xr_iret C hS hr hf dX2_settingError_86
    · replace hf := xb_neg c77 hf
      refine lv_iconst (v := 0) hx hb dX2_settingError_80 xi_c0 ?_
      refine lv_goto (tgt := 86) hx hb dX2_settingError_81 (by decide) ?_
      exact xr_iret C hS hr hf dX2_settingError_86
  replace hf := xb_neg c1_2 hf
  by_cases c1_3 : a0 = 3
  · replace hf := xb_pos c1_3 hf
    refine xr_tab c1_3 C dX2_settingError_1 (by decide) (by decide) (off := 86) (tgt := 87) (by decide) (by decide) ?_
    refine lv_iload_n hx hb dX2_settingError_87 rfl (hl.at 1 rfl) ?_
    refine lv_iconst (v := 0) hx hb dX2_settingError_88 xi_c0 ?_
    refine lv_iconst (v := 1) hx hb dX2_settingError_89 xi_c1 ?_
    refine xr_S (V := fun v => some (.int v)) (n := 3) (fr := 0) (lo := 0) (As := [.int a1, .int (0 : Int32), .int (1 : Int32)]) C hS (lw_S q873 q874 q60 q875) hd_X2_in ⟨Nat.le_trans (Nat.le_of_ble_eq_true rfl) hR.1, Nat.le_trans (Nat.le_of_ble_eq_true rfl) hR.2⟩ rfl hl.1.1 rfl xm_r0 hf (fun v h1 k1 n1 e1 => ct_X2_in l D N e1) dX2_settingError_90 (fun x90 h H locs cells slots kc ks hS hf => ?_)
    refine W.eq (g2 := F0 m 93 ls [.int x90]) rfl ?_
    refine lv_if_eq (tgt := 100) hx hb dX2_settingError_93 (by decide) (fun c93 => ?_) (fun c93 => ?_)
    · replace hf := xb_pos c93 hf
      refine lv_bipush (v := -2) hx hb dX2_settingError_100 xi_bm2 ?_
      exact xr_iret C hS hr hf dX2_settingError_102
    · replace hf := xb_neg c93 hf
      refine lv_iconst (v := 0) hx hb dX2_settingError_96 xi_c0 ?_
      refine lv_goto (tgt := 102) hx hb dX2_settingError_97 (by decide) ?_
      exact xr_iret C hS hr hf dX2_settingError_102
  replace hf := xb_neg c1_3 hf
  by_cases c1_4 : a0 = 4
  · replace hf := xb_pos c1_4 hf
    refine xr_tab c1_4 C dX2_settingError_1 (by decide) (by decide) (off := 102) (tgt := 103) (by decide) (by decide) ?_
    refine lv_iload_n hx hb dX2_settingError_103 rfl (hl.at 1 rfl) ?_
    refine lv_iconst (v := 1) hx hb dX2_settingError_104 xi_c1 ?_
    refine lv_bipush (v := 100) hx hb dX2_settingError_105 xi_b100 ?_
    refine xr_S (V := fun v => some (.int v)) (n := 3) (fr := 0) (lo := 0) (As := [.int a1, .int (1 : Int32), .int (100 : Int32)]) C hS (lw_S q873 q874 q60 q875) hd_X2_in ⟨Nat.le_trans (Nat.le_of_ble_eq_true rfl) hR.1, Nat.le_trans (Nat.le_of_ble_eq_true rfl) hR.2⟩ rfl hl.1.1 rfl xm_r0 hf (fun v h1 k1 n1 e1 => ct_X2_in l D N e1) dX2_settingError_107 (fun x107 h H locs cells slots kc ks hS hf => ?_)
    refine W.eq (g2 := F0 m 110 ls [.int x107]) rfl ?_
    refine lv_if_eq (tgt := 117) hx hb dX2_settingError_110 (by decide) (fun c110 => ?_) (fun c110 => ?_)
    · replace hf := xb_pos c110 hf
      refine lv_bipush (v := -2) hx hb dX2_settingError_117 xi_bm2 ?_
      exact xr_iret C hS hr hf dX2_settingError_119
    · replace hf := xb_neg c110 hf
      refine lv_iconst (v := 0) hx hb dX2_settingError_113 xi_c0 ?_
      refine lv_goto (tgt := 119) hx hb dX2_settingError_114 (by decide) ?_
      exact xr_iret C hS hr hf dX2_settingError_119
  replace hf := xb_neg c1_4 hf
  refine lv_tableOut (tgt := 120) hx hb dX2_settingError_1 (by have ec1_0 := lv_neT c1_0 (a := 0) (by decide); have ec1_1 := lv_neT c1_1 (a := 1) (by decide); have ec1_2 := lv_neT c1_2 (a := 2) (by decide); have ec1_3 := lv_neT c1_3 (a := 3) (by decide); have ec1_4 := lv_neT c1_4 (a := 4) (by decide); omega) (by decide) ?_
  refine lv_iconst (v := -1) hx hb dX2_settingError_120 xi_cm1 ?_
  exact xr_iret C hS hr hf dX2_settingError_121
theorem ct_X2_settingError (l : Launch) (D : xh_D) {rv : Int32} {h hF : xh_H} {kc ks : Nat} (N : Nat) {a0 : Int32} {a1 : Int32} (hf : f_X2_settingError N a0 a1 h = some (rv, hF, kc, ks)) : xh_Ct l D yX2_settingError (ws_ yX2_settingError cX2_settingError 2 (Option.some Jvm.ClassFile.FieldType.int)) 1 22 [.int a0, .int a1] h (some (.int rv)) hF kc ks :=
  xh_meth (cc := cX2_settingError) l (by decide) (Nat.le_of_ble_eq_true rfl) (List.forall_mem_cons.mpr ⟨rfl, List.forall_mem_cons.mpr ⟨rfl, fun _ h => absurd h List.not_mem_nil⟩⟩) fun p e s m below meth c ls C hr hnm hl hS => w_X2_settingError C hr ⟨Nat.le_refl _, Nat.le_refl _⟩ N a0 a1 h _ _ _ _ _ _ _ hf hS hl
theorem w_X2_set_b20 (C : xh_C cX2_set 5 "SungSlidesModel" D g p s m args meth c) (hr : meth.sig.returnType = (Option.some Jvm.ClassFile.FieldType.int)) (hR : 2 ≤ R.frames ∧ 45 ≤ R.locals) {rv : Int32} {hF : xh_H} (N : Nat) : ∀ (a3 : Int32) (h : xh_H) (H : Heap) (locs : List Loc) (cells slots kc ks : Nat) (ls : Array Slot), f_X2_set_b20 N a3 h = some (rv, hF, kc, ks) → xh_T D g s R h H locs cells slots kc ks → xh_L ls 5 [(3, .int a3)] → W p l e R s m args below meth c H locs cells slots (MQ below (xh_Q D g (some (.int rv)) hF) args s R.cells R.slots (xh_A g)) (F0 m 20 ls []) := by
  intro a3 h H locs cells slots kc ks ls hf hS hl
  have hx := C.1
  have hb := C.2.1
  unfold f_X2_set_b20 at hf
  refine lv_iload_n hx hb dX2_set_20 rfl (hl.at 0 rfl) ?_
  refine lv_if_ge (tgt := 28) hx hb dX2_set_21 (by decide) (fun c21 => ?_) (fun c21 => ?_)
  · replace hf := xb_pos c21 hf
    refine lv_bipush (v := -5) hx hb dX2_set_28 xi_bm5 ?_
    exact xr_iret C hS hr hf dX2_set_30
  · replace hf := xb_neg c21 hf
    refine lv_iload_n hx hb dX2_set_24 rfl (hl.at 0 rfl) ?_
    refine lv_goto (tgt := 30) hx hb dX2_set_25 (by decide) ?_
    exact xr_iret C hS hr hf dX2_set_30
/-- SungSlidesModel.set(II)I -/
theorem w_X2_set (C : xh_C cX2_set 5 "SungSlidesModel" D g p s m args meth c) (hr : meth.sig.returnType = (Option.some Jvm.ClassFile.FieldType.int)) (hR : 2 ≤ R.frames ∧ 45 ≤ R.locals) {rv : Int32} {hF : xh_H} (N : Nat) (a0 : Option Nat) (a1 : Int32) (a2 : Int32)  (h : xh_H) (H : Heap) (locs : List Loc) (cells slots kc ks : Nat) (ls : Array Slot) (hf : f_X2_set N a0 a1 a2 h = some (rv, hF, kc, ks)) (hS : xh_T D g s R h H locs cells slots kc ks) (hl : xh_L ls 5 [(0, va_rf a0), (1, .int a1), (2, .int a2)]) : W p l e R s m args below meth c H locs cells slots (MQ below (xh_Q D g (some (.int rv)) hF) args s R.cells R.slots (xh_A g)) (F0 m 0 ls []) := by
  have hx := C.1
  have hb := C.2.1
  unfold f_X2_set at hf
  refine lv_iload_n hx hb dX2_set_0 rfl (hl.at 1 rfl) ?_
  refine lv_iload_n hx hb dX2_set_1 rfl (hl.at 2 rfl) ?_
  refine xr_S (V := fun v => some (.int v)) (n := 2) (fr := 1) (lo := 22) (As := [.int a1, .int a2]) C hS (lw_S q915 q916 q60 q917) hd_X2_settingError ⟨Nat.le_trans (Nat.le_of_ble_eq_true rfl) hR.1, Nat.le_trans (Nat.le_of_ble_eq_true rfl) hR.2⟩ rfl hl.1.1 rfl xm_r0 hf (fun v h1 k1 n1 e1 => ct_X2_settingError l D N e1) dX2_set_2 (fun x2 h H locs cells slots kc ks hS hf => ?_)
  refine W.eq (g2 := F0 m 5 ls [.int x2]) rfl ?_
  refine xr_istore_n C dX2_set_5 rfl hl (Nat.le_of_ble_eq_true rfl) (lv' := [(3, .int x2), (0, va_rf a0), (1, .int a1), (2, .int a2)]) rfl (fun ls hl => ?_)
  refine lv_iload_n hx hb dX2_set_6 rfl (hl.at 0 rfl) ?_
  refine lv_if_lt (tgt := 20) hx hb dX2_set_7 (by decide) (fun c7 => ?_) (fun c7 => ?_)
  · replace hf := xb_pos c7 hf
    exact w_X2_set_b20 C hr hR N x2  h H locs cells slots kc ks ls hf hS (hl.sub [0] rfl)
  · replace hf := xb_neg c7 hf
    refine xr_aload_n C dX2_set_10 rfl (hl.at 1 rfl) ?_
    refine xr_getR C hS xf_X2 0 (by decide) q817 (fun _ h => h) hf dX2_set_11 (fun x11 hf => ?_)
    refine lv_iload_n hx hb dX2_set_14 rfl (hl.at 2 rfl) ?_
    refine xr_iald C hS hf dX2_set_15 (fun x15 hf => ?_)
    refine lv_iload_n hx hb dX2_set_16 rfl (hl.at 3 rfl) ?_
    refine lv_icmp_ne (tgt := 31) hx hb dX2_set_17 (by decide) (fun c17 => ?_) (fun c17 => ?_)
    · replace hf := xb_neg c17 hf
      refine xr_aload_n C dX2_set_31 rfl (hl.at 1 rfl) ?_
      refine xr_V (V := fun _ => none) (n := 0) (fr := 1) (lo := 24) (As := []) C hS xf_X2 (lw_V q892 q894 qs24 q60 q895) hdv_X2_record ⟨Nat.le_trans (Nat.le_of_ble_eq_true rfl) hR.1, Nat.le_trans (Nat.le_of_ble_eq_true rfl) hR.2⟩ rfl hl.1.1 rfl xm_r0 hf (fun v h1 k1 n1 e1 => ct_X2_record l D N e1) dX2_set_32 (fun _ h H locs cells slots kc ks hS hf => ?_)
      refine W.eq (g2 := F0 m 35 ls []) rfl ?_
      refine xr_aload_n C dX2_set_35 rfl (hl.at 1 rfl) ?_
      refine xr_getR C hS xf_X2 0 (by decide) q817 (fun _ h => h) hf dX2_set_36 (fun x36 hf => ?_)
      refine lv_iload_n hx hb dX2_set_39 rfl (hl.at 2 rfl) ?_
      refine xr_iald C hS hf dX2_set_40 (fun x40 hf => ?_)
      refine xr_istore C dX2_set_41 hl (Nat.le_of_ble_eq_true rfl) (lv' := [(4, .int x40), (3, .int x2), (0, va_rf a0), (1, .int a1), (2, .int a2)]) rfl (fun ls hl => ?_)
      refine xr_aload_n C dX2_set_43 rfl (hl.at 2 rfl) ?_
      refine xr_getR C hS xf_X2 0 (by decide) q817 (fun _ h => h) hf dX2_set_44 (fun x44 hf => ?_)
      refine lv_iload_n hx hb dX2_set_47 rfl (hl.at 3 rfl) ?_
      refine lv_iload_n hx hb dX2_set_48 rfl (hl.at 4 rfl) ?_
      refine xr_iast C hS hf dX2_set_49 (fun h H locs hS hf => ?_)
      refine lv_iload hx hb dX2_set_50 (hl.at 0 rfl) ?_
      exact xr_iret C hS hr hf dX2_set_52
    · replace hf := xb_pos c17 hf
      exact w_X2_set_b20 C hr hR N x2  h H locs cells slots kc ks ls hf hS (hl.sub [0] rfl)
theorem ct_X2_set (l : Launch) (D : xh_D) {rv : Int32} {h hF : xh_H} {kc ks : Nat} (N : Nat) {a0 : Option Nat} {a1 : Int32} {a2 : Int32} (hf : f_X2_set N a0 a1 a2 h = some (rv, hF, kc, ks)) : xh_Ct l D yX2_set (ws_ yX2_set cX2_set 5 (Option.some Jvm.ClassFile.FieldType.int)) 2 45 [va_rf a0, .int a1, .int a2] h (some (.int rv)) hF kc ks :=
  xh_meth (cc := cX2_set) l (by decide) (Nat.le_of_ble_eq_true rfl) (List.forall_mem_cons.mpr ⟨va_rf_cat _, List.forall_mem_cons.mpr ⟨rfl, List.forall_mem_cons.mpr ⟨rfl, fun _ h => absurd h List.not_mem_nil⟩⟩⟩) fun p e s m below meth c ls C hr hnm hl hS => w_X2_set C hr ⟨Nat.le_refl _, Nat.le_refl _⟩ N a0 a1 a2 h _ _ _ _ _ _ _ hf hS hl
def K_X2_hits_4 (p : Program) (l : Launch) (e : Env) (s : State) (m : MethodId) (args : Array Value) (below : List Frame) (meth : Method) (c : Code) (D : xh_D) (g : Nat → Nat) (R : Room) (rv : Int32) (hF : xh_H) (k : Option Nat → Int32 → Int32 → xh_H → xh_R Int32) : Prop := ∀ (a0 : Option Nat) (a1 : Int32) (a2 : Int32) (h : xh_H) (H : Heap) (locs : List Loc) (cells slots kc ks : Nat) (ls : Array Slot), k a0 a1 a2 h = some (rv, hF, kc, ks) → xh_T D g s R h H locs cells slots kc ks → xh_L ls 3 [(0, va_rf a0), (1, .int a1), (2, .int a2)] → W p l e R s m args below meth c H locs cells slots (MQ below (xh_Q D g (some (.int rv)) hF) args s R.cells R.slots (xh_A g)) (F0 m 4 ls [])
theorem w_X2_hits_b37 (C : xh_C cX2_hits 3 "SungSlidesModel" D g p s m args meth c) (hr : meth.sig.returnType = (Option.some Jvm.ClassFile.FieldType.int)) (hR : 0 ≤ R.frames ∧ 0 ≤ R.locals) {rv : Int32} {hF : xh_H} (N : Nat) : ∀ (a1 : Int32) (h : xh_H) (H : Heap) (locs : List Loc) (cells slots kc ks : Nat) (ls : Array Slot), f_X2_hits_b37 N a1 h = some (rv, hF, kc, ks) → xh_T D g s R h H locs cells slots kc ks → xh_L ls 3 [(1, .int a1)] → W p l e R s m args below meth c H locs cells slots (MQ below (xh_Q D g (some (.int rv)) hF) args s R.cells R.slots (xh_A g)) (F0 m 37 ls []) := by
  intro a1 h H locs cells slots kc ks ls hf hS hl
  have hx := C.1
  have hb := C.2.1
  unfold f_X2_hits_b37 at hf
  refine lv_iload_n hx hb dX2_hits_37 rfl (hl.at 0 rfl) ?_
  exact xr_iret C hS hr hf dX2_hits_38
theorem w_X2_hits_b29 (C : xh_C cX2_hits 3 "SungSlidesModel" D g p s m args meth c) (hr : meth.sig.returnType = (Option.some Jvm.ClassFile.FieldType.int)) (hR : 0 ≤ R.frames ∧ 0 ≤ R.locals) {rv : Int32} {hF : xh_H} (N : Nat) {k4 : Option Nat → Int32 → Int32 → xh_H → xh_R Int32} (hk4 : K_X2_hits_4 p l e s m args below meth c D g R rv hF k4) : ∀ (a0 : Option Nat) (a2 : Int32) (t0 : Int32) (t1 : Int32) (h : xh_H) (H : Heap) (locs : List Loc) (cells slots kc ks : Nat) (ls : Array Slot), f_X2_hits_b29 N k4 a0 a2 t0 t1 h = some (rv, hF, kc, ks) → xh_T D g s R h H locs cells slots kc ks → xh_L ls 3 [(0, va_rf a0), (2, .int a2)] → W p l e R s m args below meth c H locs cells slots (MQ below (xh_Q D g (some (.int rv)) hF) args s R.cells R.slots (xh_A g)) (F0 m 29 ls [.int t1, .int t0]) := by
  intro a0 a2 t0 t1 h H locs cells slots kc ks ls hf hS hl
  have hx := C.1
  have hb := C.2.1
  unfold f_X2_hits_b29 at hf
  refine lv_iadd hx hb dX2_hits_29 ?_
  refine xr_istore_n C dX2_hits_30 rfl hl (Nat.le_of_ble_eq_true rfl) (lv' := [(1, .int (t0 + t1)), (0, va_rf a0), (2, .int a2)]) rfl (fun ls hl => ?_)
  refine xr_iinc C dX2_hits_31 hl (k := 2) rfl (xi_inc xi_c1) (Nat.le_of_ble_eq_true rfl) (lv' := [(2, .int (a2 + (1 : Int32))), (1, .int (t0 + t1)), (0, va_rf a0)]) rfl (fun ls hl => ?_)
  refine lv_goto (tgt := 4) hx hb dX2_hits_34 (by decide) ?_
  exact hk4 a0 (t0 + t1) (a2 + (1 : Int32))  h H locs cells slots kc ks ls hf hS (hl.sub [2, 1, 0] rfl)
theorem w_X2_hits_b4 (C : xh_C cX2_hits 3 "SungSlidesModel" D g p s m args meth c) (hr : meth.sig.returnType = (Option.some Jvm.ClassFile.FieldType.int)) (hR : 0 ≤ R.frames ∧ 0 ≤ R.locals) {rv : Int32} {hF : xh_H} (N : Nat) {k4 : Option Nat → Int32 → Int32 → xh_H → xh_R Int32} (hk4 : K_X2_hits_4 p l e s m args below meth c D g R rv hF k4) : ∀ (a0 : Option Nat) (a1 : Int32) (a2 : Int32) (h : xh_H) (H : Heap) (locs : List Loc) (cells slots kc ks : Nat) (ls : Array Slot), f_X2_hits_b4 N k4 a0 a1 a2 h = some (rv, hF, kc, ks) → xh_T D g s R h H locs cells slots kc ks → xh_L ls 3 [(0, va_rf a0), (1, .int a1), (2, .int a2)] → W p l e R s m args below meth c H locs cells slots (MQ below (xh_Q D g (some (.int rv)) hF) args s R.cells R.slots (xh_A g)) (F0 m 4 ls []) := by
  intro a0 a1 a2 h H locs cells slots kc ks ls hf hS hl
  have hx := C.1
  have hb := C.2.1
  unfold f_X2_hits_b4 at hf
  refine lv_iload_n hx hb dX2_hits_4 rfl (hl.at 2 rfl) ?_
  refine xr_aload_n C dX2_hits_5 rfl (hl.at 0 rfl) ?_
  refine xr_getR C hS xf_X2 0 (by decide) q817 (fun _ h => h) hf dX2_hits_6 (fun x6 hf => ?_)
  refine lv_iconst (v := 5) hx hb dX2_hits_9 xi_c5 ?_
  refine xr_iald C hS hf dX2_hits_10 (fun x10 hf => ?_)
  refine lv_icmp_ge (tgt := 37) hx hb dX2_hits_11 (by decide) (fun c11 => ?_) (fun c11 => ?_)
  · replace hf := xb_pos c11 hf
    exact w_X2_hits_b37 C hr hR N a1  h H locs cells slots kc ks ls hf hS (hl.sub [1] rfl)
  · replace hf := xb_neg c11 hf
    refine lv_iload_n hx hb dX2_hits_14 rfl (hl.at 1 rfl) ?_
    refine xr_aload_n C dX2_hits_15 rfl (hl.at 0 rfl) ?_
    refine xr_getR C hS xf_X2 10 (by decide) q827 (fun _ h => h) hf dX2_hits_16 (fun x16 hf => ?_)
    refine lv_iload_n hx hb dX2_hits_19 rfl (hl.at 2 rfl) ?_
    refine xr_iald C hS hf dX2_hits_20 (fun x20 hf => ?_)
    refine lv_if_ne (tgt := 28) hx hb dX2_hits_21 (by decide) (fun c21 => ?_) (fun c21 => ?_)
    · replace hf := xb_neg c21 hf
      refine lv_iconst (v := 0) hx hb dX2_hits_28 xi_c0 ?_
      exact w_X2_hits_b29 C hr hR N hk4 a0 a2 a1 (0 : Int32) h H locs cells slots kc ks ls hf hS (hl.sub [0, 2] rfl)
    · replace hf := xb_pos c21 hf
      refine lv_iconst (v := 1) hx hb dX2_hits_24 xi_c1 ?_
      refine lv_goto (tgt := 29) hx hb dX2_hits_25 (by decide) ?_
      exact w_X2_hits_b29 C hr hR N hk4 a0 a2 a1 (1 : Int32) h H locs cells slots kc ks ls hf hS (hl.sub [0, 2] rfl)
theorem w_X2_hits_l4 (C : xh_C cX2_hits 3 "SungSlidesModel" D g p s m args meth c) (hr : meth.sig.returnType = (Option.some Jvm.ClassFile.FieldType.int)) (hR : 0 ≤ R.frames ∧ 0 ≤ R.locals) {rv : Int32} {hF : xh_H} (N : Nat) : ∀ n : Nat, K_X2_hits_4 p l e s m args below meth c D g R rv hF (f_X2_hits_l4 N n) := by
  intro n
  induction n with
  | zero => exact fun a0 a1 a2 h H locs cells slots kc ks ls hf => absurd (show (none : xh_R Int32) = some _ from hf) (by intro q; cases q)
  | succ n ih => exact fun a0 a1 a2 h H locs cells slots kc ks ls hf => w_X2_hits_b4 C hr hR N ih a0 a1 a2 h H locs cells slots kc ks ls hf
/-- SungSlidesModel.hits()I -/
theorem w_X2_hits (C : xh_C cX2_hits 3 "SungSlidesModel" D g p s m args meth c) (hr : meth.sig.returnType = (Option.some Jvm.ClassFile.FieldType.int)) (hR : 0 ≤ R.frames ∧ 0 ≤ R.locals) {rv : Int32} {hF : xh_H} (N : Nat) (a0 : Option Nat)  (h : xh_H) (H : Heap) (locs : List Loc) (cells slots kc ks : Nat) (ls : Array Slot) (hf : f_X2_hits N a0 h = some (rv, hF, kc, ks)) (hS : xh_T D g s R h H locs cells slots kc ks) (hl : xh_L ls 3 [(0, va_rf a0)]) : W p l e R s m args below meth c H locs cells slots (MQ below (xh_Q D g (some (.int rv)) hF) args s R.cells R.slots (xh_A g)) (F0 m 0 ls []) := by
  have hx := C.1
  have hb := C.2.1
  unfold f_X2_hits at hf
  refine lv_iconst (v := 0) hx hb dX2_hits_0 xi_c0 ?_
  refine xr_istore_n C dX2_hits_1 rfl hl (Nat.le_of_ble_eq_true rfl) (lv' := [(1, .int (0 : Int32)), (0, va_rf a0)]) rfl (fun ls hl => ?_)
  refine lv_iconst (v := 0) hx hb dX2_hits_2 xi_c0 ?_
  refine xr_istore_n C dX2_hits_3 rfl hl (Nat.le_of_ble_eq_true rfl) (lv' := [(2, .int (0 : Int32)), (1, .int (0 : Int32)), (0, va_rf a0)]) rfl (fun ls hl => ?_)
  exact w_X2_hits_l4 C hr hR N N a0 (0 : Int32) (0 : Int32)  h H locs cells slots kc ks ls hf hS (hl.sub [2, 1, 0] rfl)
theorem ct_X2_hits (l : Launch) (D : xh_D) {rv : Int32} {h hF : xh_H} {kc ks : Nat} (N : Nat) {a0 : Option Nat} (hf : f_X2_hits N a0 h = some (rv, hF, kc, ks)) : xh_Ct l D yX2_hits (ws_ yX2_hits cX2_hits 3 (Option.some Jvm.ClassFile.FieldType.int)) 0 0 [va_rf a0] h (some (.int rv)) hF kc ks :=
  xh_meth (cc := cX2_hits) l (by decide) (Nat.le_of_ble_eq_true rfl) (List.forall_mem_cons.mpr ⟨va_rf_cat _, fun _ h => absurd h List.not_mem_nil⟩) fun p e s m below meth c ls C hr hnm hl hS => w_X2_hits C hr ⟨Nat.le_refl _, Nat.le_refl _⟩ N a0 h _ _ _ _ _ _ _ hf hS hl
/-- SungSlidesModel.isTick(I)Z -/
theorem w_X2_isTick (C : xh_C cX2_isTick 1 "SungSlidesModel" D g p s m args meth c) (hr : meth.sig.returnType = (Option.some Jvm.ClassFile.FieldType.boolean)) (hR : 1 ≤ R.frames ∧ 22 ≤ R.locals) {rv : Int32} {hF : xh_H} (N : Nat) (a0 : Int32)  (h : xh_H) (H : Heap) (locs : List Loc) (cells slots kc ks : Nat) (ls : Array Slot) (hf : f_X2_isTick N a0 h = some (rv, hF, kc, ks)) (hS : xh_T D g s R h H locs cells slots kc ks) (hl : xh_L ls 1 [(0, .int a0)]) : W p l e R s m args below meth c H locs cells slots (MQ below (xh_Q D g (some (.int rv)) hF) args s R.cells R.slots (xh_A g)) (F0 m 0 ls []) := by
  have hx := C.1
  have hb := C.2.1
  unfold f_X2_isTick at hf
  refine lv_iload_n hx hb dX2_isTick_0 rfl (hl.at 0 rfl) ?_
  refine lv_iconst (v := 0) hx hb dX2_isTick_1 xi_c0 ?_
  refine lv_sipush (v := 599) hx hb dX2_isTick_2 xi_s599 ?_
  refine xr_S (V := fun v => some (.int v)) (n := 3) (fr := 0) (lo := 0) (As := [.int a0, .int (0 : Int32), .int (599 : Int32)]) C hS (lw_S q873 q874 q60 q875) hd_X2_in ⟨Nat.le_trans (Nat.le_of_ble_eq_true rfl) hR.1, Nat.le_trans (Nat.le_of_ble_eq_true rfl) hR.2⟩ rfl hl.1.1 rfl xm_r0 hf (fun v h1 k1 n1 e1 => ct_X2_in l D N e1) dX2_isTick_5 (fun x5 h H locs cells slots kc ks hS hf => ?_)
  refine W.eq (g2 := F0 m 8 ls [.int x5]) rfl ?_
  exact xr_zret C hS hr hf dX2_isTick_8
theorem ct_X2_isTick (l : Launch) (D : xh_D) {rv : Int32} {h hF : xh_H} {kc ks : Nat} (N : Nat) {a0 : Int32} (hf : f_X2_isTick N a0 h = some (rv, hF, kc, ks)) : xh_Ct l D yX2_isTick (ws_ yX2_isTick cX2_isTick 1 (Option.some Jvm.ClassFile.FieldType.boolean)) 1 22 [.int a0] h (some (.int rv)) hF kc ks :=
  xh_meth (cc := cX2_isTick) l (by decide) (Nat.le_of_ble_eq_true rfl) (List.forall_mem_cons.mpr ⟨rfl, fun _ h => absurd h List.not_mem_nil⟩) fun p e s m below meth c ls C hr hnm hl hS => w_X2_isTick C hr ⟨Nat.le_refl _, Nat.le_refl _⟩ N a0 h _ _ _ _ _ _ _ hf hS hl
def K_X2_hear_2 (p : Program) (l : Launch) (e : Env) (s : State) (m : MethodId) (args : Array Value) (below : List Frame) (meth : Method) (c : Code) (D : xh_D) (g : Nat → Nat) (R : Room) (rv : Unit) (hF : xh_H) (k : Option Nat → Int32 → Int32 → Int32 → xh_H → xh_R Unit) : Prop := ∀ (a0 : Option Nat) (a1 : Int32) (a2 : Int32) (a3 : Int32) (h : xh_H) (H : Heap) (locs : List Loc) (cells slots kc ks : Nat) (ls : Array Slot), k a0 a1 a2 a3 h = some (rv, hF, kc, ks) → xh_T D g s R h H locs cells slots kc ks → xh_L ls 5 [(0, va_rf a0), (1, .int a1), (2, .int a2), (3, .int a3)] → W p l e R s m args below meth c H locs cells slots (MQ below (xh_Q D g none hF) args s R.cells R.slots (xh_A g)) (F0 m 2 ls [])
theorem w_X2_hear_b66 (C : xh_C cX2_hear 5 "SungSlidesModel" D g p s m args meth c) (hr : meth.sig.returnType = (Option.none : Option Jvm.ClassFile.FieldType)) (hR : 2 ≤ R.frames ∧ 42 ≤ R.locals) {rv : Unit} {hF : xh_H} (N : Nat) {k2 : Option Nat → Int32 → Int32 → Int32 → xh_H → xh_R Unit} (hk2 : K_X2_hear_2 p l e s m args below meth c D g R rv hF k2) : ∀ (a0 : Option Nat) (a1 : Int32) (a2 : Int32) (a3 : Int32) (t0 : Option Nat) (t1 : Int32) (t2 : Int32) (h : xh_H) (H : Heap) (locs : List Loc) (cells slots kc ks : Nat) (ls : Array Slot), f_X2_hear_b66 N k2 a0 a1 a2 a3 t0 t1 t2 h = some (rv, hF, kc, ks) → xh_T D g s R h H locs cells slots kc ks → xh_L ls 5 [(0, va_rf a0), (1, .int a1), (2, .int a2), (3, .int a3)] → W p l e R s m args below meth c H locs cells slots (MQ below (xh_Q D g none hF) args s R.cells R.slots (xh_A g)) (F0 m 66 ls [.int t2, .int t1, va_rf t0]) := by
  intro a0 a1 a2 a3 t0 t1 t2 h H locs cells slots kc ks ls hf hS hl
  have hx := C.1
  have hb := C.2.1
  unfold f_X2_hear_b66 at hf
  refine xr_iast C hS hf dX2_hear_66 (fun h H locs hS hf => ?_)
  refine xr_iinc C dX2_hear_67 hl (k := 3) rfl (xi_inc xi_c1) (Nat.le_of_ble_eq_true rfl) (lv' := [(3, .int (a3 + (1 : Int32))), (0, va_rf a0), (1, .int a1), (2, .int a2)]) rfl (fun ls hl => ?_)
  refine lv_goto (tgt := 2) hx hb dX2_hear_70 (by decide) ?_
  exact hk2 a0 a1 a2 (a3 + (1 : Int32))  h H locs cells slots kc ks ls hf hS (hl.sub [1, 2, 3, 0] rfl)
theorem w_X2_hear_b65 (C : xh_C cX2_hear 5 "SungSlidesModel" D g p s m args meth c) (hr : meth.sig.returnType = (Option.none : Option Jvm.ClassFile.FieldType)) (hR : 2 ≤ R.frames ∧ 42 ≤ R.locals) {rv : Unit} {hF : xh_H} (N : Nat) {k2 : Option Nat → Int32 → Int32 → Int32 → xh_H → xh_R Unit} (hk2 : K_X2_hear_2 p l e s m args below meth c D g R rv hF k2) : ∀ (a0 : Option Nat) (a1 : Int32) (a2 : Int32) (a3 : Int32) (t0 : Option Nat) (t1 : Int32) (h : xh_H) (H : Heap) (locs : List Loc) (cells slots kc ks : Nat) (ls : Array Slot), f_X2_hear_b65 N k2 a0 a1 a2 a3 t0 t1 h = some (rv, hF, kc, ks) → xh_T D g s R h H locs cells slots kc ks → xh_L ls 5 [(0, va_rf a0), (1, .int a1), (2, .int a2), (3, .int a3)] → W p l e R s m args below meth c H locs cells slots (MQ below (xh_Q D g none hF) args s R.cells R.slots (xh_A g)) (F0 m 65 ls [.int t1, va_rf t0]) := by
  intro a0 a1 a2 a3 t0 t1 h H locs cells slots kc ks ls hf hS hl
  have hx := C.1
  have hb := C.2.1
  unfold f_X2_hear_b65 at hf
  refine lv_iconst (v := 0) hx hb dX2_hear_65 xi_c0 ?_
  exact w_X2_hear_b66 C hr hR N hk2 a0 a1 a2 a3 t0 t1 (0 : Int32) h H locs cells slots kc ks ls hf hS (hl.sub [0, 1, 2, 3] rfl)
theorem w_X2_hear_b34 (C : xh_C cX2_hear 5 "SungSlidesModel" D g p s m args meth c) (hr : meth.sig.returnType = (Option.none : Option Jvm.ClassFile.FieldType)) (hR : 2 ≤ R.frames ∧ 42 ≤ R.locals) {rv : Unit} {hF : xh_H} (N : Nat) {k2 : Option Nat → Int32 → Int32 → Int32 → xh_H → xh_R Unit} (hk2 : K_X2_hear_2 p l e s m args below meth c D g R rv hF k2) : ∀ (a0 : Option Nat) (a1 : Int32) (a2 : Int32) (a3 : Int32) (t0 : Int32) (h : xh_H) (H : Heap) (locs : List Loc) (cells slots kc ks : Nat) (ls : Array Slot), f_X2_hear_b34 N k2 a0 a1 a2 a3 t0 h = some (rv, hF, kc, ks) → xh_T D g s R h H locs cells slots kc ks → xh_L ls 5 [(0, va_rf a0), (1, .int a1), (2, .int a2), (3, .int a3)] → W p l e R s m args below meth c H locs cells slots (MQ below (xh_Q D g none hF) args s R.cells R.slots (xh_A g)) (F0 m 34 ls [.int t0]) := by
  intro a0 a1 a2 a3 t0 h H locs cells slots kc ks ls hf hS hl
  have hx := C.1
  have hb := C.2.1
  unfold f_X2_hear_b34 at hf
  refine xr_istore C dX2_hear_34 hl (Nat.le_of_ble_eq_true rfl) (lv' := [(4, .int t0), (0, va_rf a0), (1, .int a1), (2, .int a2), (3, .int a3)]) rfl (fun ls hl => ?_)
  refine xr_aload_n C dX2_hear_36 rfl (hl.at 1 rfl) ?_
  refine xr_getR C hS xf_X2 7 (by decide) q824 (fun _ h => h) hf dX2_hear_37 (fun x37 hf => ?_)
  refine lv_iload_n hx hb dX2_hear_40 rfl (hl.at 4 rfl) ?_
  refine lv_iload hx hb dX2_hear_41 (hl.at 0 rfl) ?_
  refine lv_if_le (tgt := 65) hx hb dX2_hear_43 (by decide) (fun c43 => ?_) (fun c43 => ?_)
  · replace hf := xb_pos c43 hf
    exact w_X2_hear_b65 C hr hR N hk2 a0 a1 a2 a3 x37 a3 h H locs cells slots kc ks ls hf hS (hl.sub [1, 2, 3, 4] rfl)
  · replace hf := xb_neg c43 hf
    refine lv_iload hx hb dX2_hear_46 (hl.at 0 rfl) ?_
    refine lv_iconst (v := 1) hx hb dX2_hear_48 xi_c1 ?_
    refine lv_isub hx hb dX2_hear_49 ?_
    refine lv_iload_n hx hb dX2_hear_50 rfl (hl.at 3 rfl) ?_
    refine lv_iadd hx hb dX2_hear_51 ?_
    refine xr_S (V := fun v => some (.int v)) (n := 1) (fr := 1) (lo := 22) (As := [.int ((t0 - (1 : Int32)) + a2)]) C hS (lw_S q870 q871 q60 q872) hd_X2_isPitch ⟨Nat.le_trans (Nat.le_of_ble_eq_true rfl) hR.1, Nat.le_trans (Nat.le_of_ble_eq_true rfl) hR.2⟩ rfl hl.1.1 rfl (xm_rc rfl (xm_rc (va_rf_cat _) xm_r0)) hf (fun v h1 k1 n1 e1 => ct_X2_isPitch l D N e1) dX2_hear_52 (fun x52 h H locs cells slots kc ks hS hf => ?_)
    refine W.eq (g2 := F0 m 55 ls [.int x52, .int a3, va_rf x37]) rfl ?_
    refine lv_if_eq (tgt := 65) hx hb dX2_hear_55 (by decide) (fun c55 => ?_) (fun c55 => ?_)
    · replace hf := xb_pos c55 hf
      exact w_X2_hear_b65 C hr hR N hk2 a0 a1 a2 a3 x37 a3 h H locs cells slots kc ks ls hf hS (hl.sub [1, 2, 3, 4] rfl)
    · replace hf := xb_neg c55 hf
      refine lv_iload hx hb dX2_hear_58 (hl.at 0 rfl) ?_
      refine lv_iload_n hx hb dX2_hear_60 rfl (hl.at 3 rfl) ?_
      refine lv_iadd hx hb dX2_hear_61 ?_
      refine lv_goto (tgt := 66) hx hb dX2_hear_62 (by decide) ?_
      exact w_X2_hear_b66 C hr hR N hk2 a0 a1 a2 a3 x37 a3 (t0 + a2) h H locs cells slots kc ks ls hf hS (hl.sub [1, 2, 3, 4] rfl)
theorem w_X2_hear_b2 (C : xh_C cX2_hear 5 "SungSlidesModel" D g p s m args meth c) (hr : meth.sig.returnType = (Option.none : Option Jvm.ClassFile.FieldType)) (hR : 2 ≤ R.frames ∧ 42 ≤ R.locals) {rv : Unit} {hF : xh_H} (N : Nat) {k2 : Option Nat → Int32 → Int32 → Int32 → xh_H → xh_R Unit} (hk2 : K_X2_hear_2 p l e s m args below meth c D g R rv hF k2) : ∀ (a0 : Option Nat) (a1 : Int32) (a2 : Int32) (a3 : Int32) (h : xh_H) (H : Heap) (locs : List Loc) (cells slots kc ks : Nat) (ls : Array Slot), f_X2_hear_b2 N k2 a0 a1 a2 a3 h = some (rv, hF, kc, ks) → xh_T D g s R h H locs cells slots kc ks → xh_L ls 5 [(0, va_rf a0), (1, .int a1), (2, .int a2), (3, .int a3)] → W p l e R s m args below meth c H locs cells slots (MQ below (xh_Q D g none hF) args s R.cells R.slots (xh_A g)) (F0 m 2 ls []) := by
  intro a0 a1 a2 a3 h H locs cells slots kc ks ls hf hS hl
  have hx := C.1
  have hb := C.2.1
  unfold f_X2_hear_b2 at hf
  refine lv_iload_n hx hb dX2_hear_2 rfl (hl.at 3 rfl) ?_
  refine lv_sipush (v := 600) hx hb dX2_hear_3 xi_s600 ?_
  refine lv_icmp_ge (tgt := 73) hx hb dX2_hear_6 (by decide) (fun c6 => ?_) (fun c6 => ?_)
  · replace hf := xb_pos c6 hf
    exact xr_vret C hS hr hf dX2_hear_73
  · replace hf := xb_neg c6 hf
    refine lv_iload_n hx hb dX2_hear_9 rfl (hl.at 3 rfl) ?_
    refine lv_iload_n hx hb dX2_hear_10 rfl (hl.at 1 rfl) ?_
    refine lv_isub hx hb dX2_hear_11 ?_
    refine xr_S (V := fun v => some (.int v)) (n := 1) (fr := 1) (lo := 22) (As := [.int (a3 - a1)]) C hS (lw_S q922 q923 q60 q924) hd_X2_isTick ⟨Nat.le_trans (Nat.le_of_ble_eq_true rfl) hR.1, Nat.le_trans (Nat.le_of_ble_eq_true rfl) hR.2⟩ rfl hl.1.1 rfl xm_r0 hf (fun v h1 k1 n1 e1 => ct_X2_isTick l D N e1) dX2_hear_12 (fun x12 h H locs cells slots kc ks hS hf => ?_)
    refine W.eq (g2 := F0 m 15 ls [.int x12]) rfl ?_
    refine lv_if_eq (tgt := 33) hx hb dX2_hear_15 (by decide) (fun c15 => ?_) (fun c15 => ?_)
    · replace hf := xb_pos c15 hf
      refine lv_iconst (v := 0) hx hb dX2_hear_33 xi_c0 ?_
      exact w_X2_hear_b34 C hr hR N hk2 a0 a1 a2 a3 (0 : Int32) h H locs cells slots kc ks ls hf hS (hl.sub [0, 1, 2, 3] rfl)
    · replace hf := xb_neg c15 hf
      refine xr_aload_n C dX2_hear_18 rfl (hl.at 0 rfl) ?_
      refine xr_getR C hS xf_X2 0 (by decide) q817 (fun _ h => h) hf dX2_hear_19 (fun x19 hf => ?_)
      refine lv_sipush (v := 206) hx hb dX2_hear_22 xi_s206 ?_
      refine lv_iload_n hx hb dX2_hear_25 rfl (hl.at 3 rfl) ?_
      refine lv_iadd hx hb dX2_hear_26 ?_
      refine lv_iload_n hx hb dX2_hear_27 rfl (hl.at 1 rfl) ?_
      refine lv_isub hx hb dX2_hear_28 ?_
      refine xr_iald C hS hf dX2_hear_29 (fun x29 hf => ?_)
      refine lv_goto (tgt := 34) hx hb dX2_hear_30 (by decide) ?_
      exact w_X2_hear_b34 C hr hR N hk2 a0 a1 a2 a3 x29 h H locs cells slots kc ks ls hf hS (hl.sub [0, 1, 2, 3] rfl)
theorem w_X2_hear_l2 (C : xh_C cX2_hear 5 "SungSlidesModel" D g p s m args meth c) (hr : meth.sig.returnType = (Option.none : Option Jvm.ClassFile.FieldType)) (hR : 2 ≤ R.frames ∧ 42 ≤ R.locals) {rv : Unit} {hF : xh_H} (N : Nat) : ∀ n : Nat, K_X2_hear_2 p l e s m args below meth c D g R rv hF (f_X2_hear_l2 N n) := by
  intro n
  induction n with
  | zero => exact fun a0 a1 a2 a3 h H locs cells slots kc ks ls hf => absurd (show (none : xh_R Unit) = some _ from hf) (by intro q; cases q)
  | succ n ih => exact fun a0 a1 a2 a3 h H locs cells slots kc ks ls hf => w_X2_hear_b2 C hr hR N ih a0 a1 a2 a3 h H locs cells slots kc ks ls hf
/-- SungSlidesModel.hear(II)V -/
theorem w_X2_hear (C : xh_C cX2_hear 5 "SungSlidesModel" D g p s m args meth c) (hr : meth.sig.returnType = (Option.none : Option Jvm.ClassFile.FieldType)) (hR : 2 ≤ R.frames ∧ 42 ≤ R.locals) {rv : Unit} {hF : xh_H} (N : Nat) (a0 : Option Nat) (a1 : Int32) (a2 : Int32)  (h : xh_H) (H : Heap) (locs : List Loc) (cells slots kc ks : Nat) (ls : Array Slot) (hf : f_X2_hear N a0 a1 a2 h = some (rv, hF, kc, ks)) (hS : xh_T D g s R h H locs cells slots kc ks) (hl : xh_L ls 5 [(0, va_rf a0), (1, .int a1), (2, .int a2)]) : W p l e R s m args below meth c H locs cells slots (MQ below (xh_Q D g none hF) args s R.cells R.slots (xh_A g)) (F0 m 0 ls []) := by
  have hx := C.1
  have hb := C.2.1
  unfold f_X2_hear at hf
  refine lv_iconst (v := 0) hx hb dX2_hear_0 xi_c0 ?_
  refine xr_istore_n C dX2_hear_1 rfl hl (Nat.le_of_ble_eq_true rfl) (lv' := [(3, .int (0 : Int32)), (0, va_rf a0), (1, .int a1), (2, .int a2)]) rfl (fun ls hl => ?_)
  exact w_X2_hear_l2 C hr hR N N a0 a1 a2 (0 : Int32)  h H locs cells slots kc ks ls hf hS (hl.sub [1, 2, 3, 0] rfl)
theorem ct_X2_hear (l : Launch) (D : xh_D) {rv : Unit} {h hF : xh_H} {kc ks : Nat} (N : Nat) {a0 : Option Nat} {a1 : Int32} {a2 : Int32} (hf : f_X2_hear N a0 a1 a2 h = some (rv, hF, kc, ks)) : xh_Ct l D yX2_hear (ws_ yX2_hear cX2_hear 5 (Option.none : Option Jvm.ClassFile.FieldType)) 2 42 [va_rf a0, .int a1, .int a2] h none hF kc ks :=
  xh_meth (cc := cX2_hear) l (by decide) (Nat.le_of_ble_eq_true rfl) (List.forall_mem_cons.mpr ⟨va_rf_cat _, List.forall_mem_cons.mpr ⟨rfl, List.forall_mem_cons.mpr ⟨rfl, fun _ h => absurd h List.not_mem_nil⟩⟩⟩) fun p e s m below meth c ls C hr hnm hl hS => w_X2_hear C hr ⟨Nat.le_refl _, Nat.le_refl _⟩ N a0 a1 a2 h _ _ _ _ _ _ _ hf hS hl
/-- SungSlidesModel.size(I)I -/
theorem w_X2_size (C : xh_C cX2_size 1 "SungSlidesModel" D g p s m args meth c) (hr : meth.sig.returnType = (Option.some Jvm.ClassFile.FieldType.int)) (hR : 0 ≤ R.frames ∧ 0 ≤ R.locals) {rv : Int32} {hF : xh_H} (N : Nat) (a0 : Int32)  (h : xh_H) (H : Heap) (locs : List Loc) (cells slots kc ks : Nat) (ls : Array Slot) (hf : f_X2_size N a0 h = some (rv, hF, kc, ks)) (hS : xh_T D g s R h H locs cells slots kc ks) (hl : xh_L ls 1 [(0, .int a0)]) : W p l e R s m args below meth c H locs cells slots (MQ below (xh_Q D g (some (.int rv)) hF) args s R.cells R.slots (xh_A g)) (F0 m 0 ls []) := by
  have hx := C.1
  have hb := C.2.1
  unfold f_X2_size at hf
  refine lv_iload_n hx hb dX2_size_0 rfl (hl.at 0 rfl) ?_
  refine lv_if_ge (tgt := 9) hx hb dX2_size_1 (by decide) (fun c1 => ?_) (fun c1 => ?_)
  · replace hf := xb_pos c1 hf
    refine lv_iload_n hx hb dX2_size_9 rfl (hl.at 0 rfl) ?_
    exact xr_iret C hS hr hf dX2_size_10
  · replace hf := xb_neg c1 hf
    refine lv_iload_n hx hb dX2_size_4 rfl (hl.at 0 rfl) ?_
    refine lv_ineg hx hb dX2_size_5 ?_
    refine lv_goto (tgt := 10) hx hb dX2_size_6 (by decide) ?_
    exact xr_iret C hS hr hf dX2_size_10
theorem ct_X2_size (l : Launch) (D : xh_D) {rv : Int32} {h hF : xh_H} {kc ks : Nat} (N : Nat) {a0 : Int32} (hf : f_X2_size N a0 h = some (rv, hF, kc, ks)) : xh_Ct l D yX2_size (ws_ yX2_size cX2_size 1 (Option.some Jvm.ClassFile.FieldType.int)) 0 0 [.int a0] h (some (.int rv)) hF kc ks :=
  xh_meth (cc := cX2_size) l (by decide) (Nat.le_of_ble_eq_true rfl) (List.forall_mem_cons.mpr ⟨rfl, fun _ h => absurd h List.not_mem_nil⟩) fun p e s m below meth c ls C hr hnm hl hS => w_X2_size C hr ⟨Nat.le_refl _, Nat.le_refl _⟩ N a0 h _ _ _ _ _ _ _ hf hS hl
/-- SungSlidesModel.wantedIn(II)I -/
theorem w_X2_wantedIn (C : xh_C cX2_wantedIn 4 "SungSlidesModel" D g p s m args meth c) (hr : meth.sig.returnType = (Option.some Jvm.ClassFile.FieldType.int)) (hR : 1 ≤ R.frames ∧ 22 ≤ R.locals) {rv : Int32} {hF : xh_H} (N : Nat) (a0 : Option Nat) (a1 : Int32) (a2 : Int32)  (h : xh_H) (H : Heap) (locs : List Loc) (cells slots kc ks : Nat) (ls : Array Slot) (hf : f_X2_wantedIn N a0 a1 a2 h = some (rv, hF, kc, ks)) (hS : xh_T D g s R h H locs cells slots kc ks) (hl : xh_L ls 4 [(0, va_rf a0), (1, .int a1), (2, .int a2)]) : W p l e R s m args below meth c H locs cells slots (MQ below (xh_Q D g (some (.int rv)) hF) args s R.cells R.slots (xh_A g)) (F0 m 0 ls []) := by
  have hx := C.1
  have hb := C.2.1
  unfold f_X2_wantedIn at hf
  refine xr_aload_n C dX2_wantedIn_0 rfl (hl.at 0 rfl) ?_
  refine lv_iload_n hx hb dX2_wantedIn_1 rfl (hl.at 1 rfl) ?_
  refine lv_iconst (v := 1) hx hb dX2_wantedIn_2 xi_c1 ?_
  refine xr_V (V := fun v => some (.int v)) (n := 2) (fr := 0) (lo := 0) (As := [.int a1, .int (1 : Int32)]) C hS xf_X2 (lw_V q888 q890 qs23 q60 q891) hdv_X2_of ⟨Nat.le_trans (Nat.le_of_ble_eq_true rfl) hR.1, Nat.le_trans (Nat.le_of_ble_eq_true rfl) hR.2⟩ rfl hl.1.1 rfl xm_r0 hf (fun v h1 k1 n1 e1 => ct_X2_of l D N e1) dX2_wantedIn_3 (fun x3 h H locs cells slots kc ks hS hf => ?_)
  refine W.eq (g2 := F0 m 6 ls [.int x3]) rfl ?_
  refine xr_istore_n C dX2_wantedIn_6 rfl hl (Nat.le_of_ble_eq_true rfl) (lv' := [(3, .int x3), (0, va_rf a0), (1, .int a1), (2, .int a2)]) rfl (fun ls hl => ?_)
  refine lv_iload_n hx hb dX2_wantedIn_7 rfl (hl.at 0 rfl) ?_
  refine lv_iconst (v := 1) hx hb dX2_wantedIn_8 xi_c1 ?_
  refine lv_icmp_ne (tgt := 21) hx hb dX2_wantedIn_9 (by decide) (fun c9 => ?_) (fun c9 => ?_)
  · replace hf := xb_neg c9 hf
    refine xr_aload_n C dX2_wantedIn_21 rfl (hl.at 1 rfl) ?_
    refine lv_iload_n hx hb dX2_wantedIn_22 rfl (hl.at 2 rfl) ?_
    refine lv_iconst (v := 2) hx hb dX2_wantedIn_23 xi_c2 ?_
    refine xr_V (V := fun v => some (.int v)) (n := 2) (fr := 0) (lo := 0) (As := [.int a1, .int (2 : Int32)]) C hS xf_X2 (lw_V q888 q890 qs23 q60 q891) hdv_X2_of ⟨Nat.le_trans (Nat.le_of_ble_eq_true rfl) hR.1, Nat.le_trans (Nat.le_of_ble_eq_true rfl) hR.2⟩ rfl hl.1.1 rfl xm_r0 hf (fun v h1 k1 n1 e1 => ct_X2_of l D N e1) dX2_wantedIn_24 (fun x24 h H locs cells slots kc ks hS hf => ?_)
    refine W.eq (g2 := F0 m 27 ls [.int x24]) rfl ?_
    refine xr_aload_n C dX2_wantedIn_27 rfl (hl.at 1 rfl) ?_
    refine lv_iload_n hx hb dX2_wantedIn_28 rfl (hl.at 2 rfl) ?_
    refine lv_iconst (v := 3) hx hb dX2_wantedIn_29 xi_c3 ?_
    refine xr_V (V := fun v => some (.int v)) (n := 2) (fr := 0) (lo := 0) (As := [.int a1, .int (3 : Int32)]) C hS xf_X2 (lw_V q888 q890 qs23 q60 q891) hdv_X2_of ⟨Nat.le_trans (Nat.le_of_ble_eq_true rfl) hR.1, Nat.le_trans (Nat.le_of_ble_eq_true rfl) hR.2⟩ rfl hl.1.1 rfl (xm_rc rfl xm_r0) hf (fun v h1 k1 n1 e1 => ct_X2_of l D N e1) dX2_wantedIn_30 (fun x30 h H locs cells slots kc ks hS hf => ?_)
    refine W.eq (g2 := F0 m 33 ls [.int x30, .int x24]) rfl ?_
    refine xr_aload_n C dX2_wantedIn_33 rfl (hl.at 1 rfl) ?_
    refine lv_iload_n hx hb dX2_wantedIn_34 rfl (hl.at 2 rfl) ?_
    refine lv_iconst (v := 2) hx hb dX2_wantedIn_35 xi_c2 ?_
    refine xr_V (V := fun v => some (.int v)) (n := 2) (fr := 0) (lo := 0) (As := [.int a1, .int (2 : Int32)]) C hS xf_X2 (lw_V q888 q890 qs23 q60 q891) hdv_X2_of ⟨Nat.le_trans (Nat.le_of_ble_eq_true rfl) hR.1, Nat.le_trans (Nat.le_of_ble_eq_true rfl) hR.2⟩ rfl hl.1.1 rfl (xm_rc rfl (xm_rc rfl xm_r0)) hf (fun v h1 k1 n1 e1 => ct_X2_of l D N e1) dX2_wantedIn_36 (fun x36 h H locs cells slots kc ks hS hf => ?_)
    refine W.eq (g2 := F0 m 39 ls [.int x36, .int x30, .int x24]) rfl ?_
    refine lv_isub hx hb dX2_wantedIn_39 ?_
    refine lv_iload_n hx hb dX2_wantedIn_40 rfl (hl.at 3 rfl) ?_
    refine lv_imul hx hb dX2_wantedIn_41 ?_
    refine lv_iload_n hx hb dX2_wantedIn_42 rfl (hl.at 0 rfl) ?_
    refine lv_iconst (v := 1) hx hb dX2_wantedIn_43 xi_c1 ?_
    refine lv_isub hx hb dX2_wantedIn_44 ?_
    obtain ⟨c45, hf⟩ := xb_nif hf
    refine lv_idiv hx hb dX2_wantedIn_45 c45 ?_
    refine lv_iadd hx hb dX2_wantedIn_46 ?_
    exact xr_iret C hS hr hf dX2_wantedIn_47
  · replace hf := xb_pos c9 hf
    refine xr_aload_n C dX2_wantedIn_12 rfl (hl.at 1 rfl) ?_
    refine lv_iload_n hx hb dX2_wantedIn_13 rfl (hl.at 2 rfl) ?_
    refine lv_iconst (v := 2) hx hb dX2_wantedIn_14 xi_c2 ?_
    refine xr_V (V := fun v => some (.int v)) (n := 2) (fr := 0) (lo := 0) (As := [.int a1, .int (2 : Int32)]) C hS xf_X2 (lw_V q888 q890 qs23 q60 q891) hdv_X2_of ⟨Nat.le_trans (Nat.le_of_ble_eq_true rfl) hR.1, Nat.le_trans (Nat.le_of_ble_eq_true rfl) hR.2⟩ rfl hl.1.1 rfl xm_r0 hf (fun v h1 k1 n1 e1 => ct_X2_of l D N e1) dX2_wantedIn_15 (fun x15 h H locs cells slots kc ks hS hf => ?_)
    refine W.eq (g2 := F0 m 18 ls [.int x15]) rfl ?_
    refine lv_goto (tgt := 47) hx hb dX2_wantedIn_18 (by decide) ?_
    exact xr_iret C hS hr hf dX2_wantedIn_47
theorem ct_X2_wantedIn (l : Launch) (D : xh_D) {rv : Int32} {h hF : xh_H} {kc ks : Nat} (N : Nat) {a0 : Option Nat} {a1 : Int32} {a2 : Int32} (hf : f_X2_wantedIn N a0 a1 a2 h = some (rv, hF, kc, ks)) : xh_Ct l D yX2_wantedIn (ws_ yX2_wantedIn cX2_wantedIn 4 (Option.some Jvm.ClassFile.FieldType.int)) 1 22 [va_rf a0, .int a1, .int a2] h (some (.int rv)) hF kc ks :=
  xh_meth (cc := cX2_wantedIn) l (by decide) (Nat.le_of_ble_eq_true rfl) (List.forall_mem_cons.mpr ⟨va_rf_cat _, List.forall_mem_cons.mpr ⟨rfl, List.forall_mem_cons.mpr ⟨rfl, fun _ h => absurd h List.not_mem_nil⟩⟩⟩) fun p e s m below meth c ls C hr hnm hl hS => w_X2_wantedIn C hr ⟨Nat.le_refl _, Nat.le_refl _⟩ N a0 a1 a2 h _ _ _ _ _ _ _ hf hS hl
theorem w_X2_matches_b69 (C : xh_C cX2_matches 4 "SungSlidesModel" D g p s m args meth c) (hr : meth.sig.returnType = (Option.some Jvm.ClassFile.FieldType.boolean)) (hR : 2 ≤ R.frames ∧ 45 ≤ R.locals) {rv : Int32} {hF : xh_H} (N : Nat) : ∀ (a0 : Option Nat) (a3 : Int32) (h : xh_H) (H : Heap) (locs : List Loc) (cells slots kc ks : Nat) (ls : Array Slot), f_X2_matches_b69 N a0 a3 h = some (rv, hF, kc, ks) → xh_T D g s R h H locs cells slots kc ks → xh_L ls 4 [(0, va_rf a0), (3, .int a3)] → W p l e R s m args below meth c H locs cells slots (MQ below (xh_Q D g (some (.int rv)) hF) args s R.cells R.slots (xh_A g)) (F0 m 69 ls []) := by
  intro a0 a3 h H locs cells slots kc ks ls hf hS hl
  have hx := C.1
  have hb := C.2.1
  unfold f_X2_matches_b69 at hf
  refine lv_iload_n hx hb dX2_matches_69 rfl (hl.at 1 rfl) ?_
  refine xr_aload_n C dX2_matches_70 rfl (hl.at 0 rfl) ?_
  refine xr_getR C hS xf_X2 0 (by decide) q817 (fun _ h => h) hf dX2_matches_71 (fun x71 hf => ?_)
  refine lv_iconst (v := 1) hx hb dX2_matches_74 xi_c1 ?_
  refine xr_iald C hS hf dX2_matches_75 (fun x75 hf => ?_)
  refine lv_icmp_gt (tgt := 83) hx hb dX2_matches_76 (by decide) (fun c76 => ?_) (fun c76 => ?_)
  · replace hf := xb_pos c76 hf
    refine lv_iconst (v := 0) hx hb dX2_matches_83 xi_c0 ?_
    exact xr_zret1 C hS hr (by decide) hf dX2_matches_84
  · replace hf := xb_neg c76 hf
    refine lv_iconst (v := 1) hx hb dX2_matches_79 xi_c1 ?_
    refine lv_goto (tgt := 84) hx hb dX2_matches_80 (by decide) ?_
    exact xr_zret1 C hS hr (by decide) hf dX2_matches_84
theorem w_X2_matches_b68 (C : xh_C cX2_matches 4 "SungSlidesModel" D g p s m args meth c) (hr : meth.sig.returnType = (Option.some Jvm.ClassFile.FieldType.boolean)) (hR : 2 ≤ R.frames ∧ 45 ≤ R.locals) {rv : Int32} {hF : xh_H} (N : Nat) : ∀ (a0 : Option Nat) (t0 : Int32) (h : xh_H) (H : Heap) (locs : List Loc) (cells slots kc ks : Nat) (ls : Array Slot), f_X2_matches_b68 N a0 t0 h = some (rv, hF, kc, ks) → xh_T D g s R h H locs cells slots kc ks → xh_L ls 4 [(0, va_rf a0)] → W p l e R s m args below meth c H locs cells slots (MQ below (xh_Q D g (some (.int rv)) hF) args s R.cells R.slots (xh_A g)) (F0 m 68 ls [.int t0]) := by
  intro a0 t0 h H locs cells slots kc ks ls hf hS hl
  have hx := C.1
  have hb := C.2.1
  unfold f_X2_matches_b68 at hf
  refine xr_istore_n C dX2_matches_68 rfl hl (Nat.le_of_ble_eq_true rfl) (lv' := [(3, .int t0), (0, va_rf a0)]) rfl (fun ls hl => ?_)
  exact w_X2_matches_b69 C hr hR N a0 t0  h H locs cells slots kc ks ls hf hS (hl.sub [1, 0] rfl)
/-- SungSlidesModel.matches(II)Z -/
theorem w_X2_matches (C : xh_C cX2_matches 4 "SungSlidesModel" D g p s m args meth c) (hr : meth.sig.returnType = (Option.some Jvm.ClassFile.FieldType.boolean)) (hR : 2 ≤ R.frames ∧ 45 ≤ R.locals) {rv : Int32} {hF : xh_H} (N : Nat) (a0 : Option Nat) (a1 : Int32) (a2 : Int32)  (h : xh_H) (H : Heap) (locs : List Loc) (cells slots kc ks : Nat) (ls : Array Slot) (hf : f_X2_matches N a0 a1 a2 h = some (rv, hF, kc, ks)) (hS : xh_T D g s R h H locs cells slots kc ks) (hl : xh_L ls 4 [(0, va_rf a0), (1, .int a1), (2, .int a2)]) : W p l e R s m args below meth c H locs cells slots (MQ below (xh_Q D g (some (.int rv)) hF) args s R.cells R.slots (xh_A g)) (F0 m 0 ls []) := by
  have hx := C.1
  have hb := C.2.1
  unfold f_X2_matches at hf
  refine xr_aload_n C dX2_matches_0 rfl (hl.at 0 rfl) ?_
  refine xr_getR C hS xf_X2 7 (by decide) q824 (fun _ h => h) hf dX2_matches_1 (fun x1 hf => ?_)
  refine lv_iload_n hx hb dX2_matches_4 rfl (hl.at 2 rfl) ?_
  refine xr_iald C hS hf dX2_matches_5 (fun x5 hf => ?_)
  refine lv_if_ne (tgt := 11) hx hb dX2_matches_6 (by decide) (fun c6 => ?_) (fun c6 => ?_)
  · replace hf := xb_neg c6 hf
    refine xr_aload_n C dX2_matches_11 rfl (hl.at 0 rfl) ?_
    refine xr_getR C hS xf_X2 7 (by decide) q824 (fun _ h => h) hf dX2_matches_12 (fun x12 hf => ?_)
    refine lv_iload_n hx hb dX2_matches_15 rfl (hl.at 2 rfl) ?_
    refine xr_iald C hS hf dX2_matches_16 (fun x16 hf => ?_)
    refine lv_iconst (v := 1) hx hb dX2_matches_17 xi_c1 ?_
    refine lv_isub hx hb dX2_matches_18 ?_
    refine xr_aload_n C dX2_matches_19 rfl (hl.at 0 rfl) ?_
    refine lv_iload_n hx hb dX2_matches_20 rfl (hl.at 1 rfl) ?_
    refine lv_iload_n hx hb dX2_matches_21 rfl (hl.at 2 rfl) ?_
    refine xr_aload_n C dX2_matches_22 rfl (hl.at 0 rfl) ?_
    refine lv_iload_n hx hb dX2_matches_23 rfl (hl.at 1 rfl) ?_
    refine lv_iconst (v := 0) hx hb dX2_matches_24 xi_c0 ?_
    refine xr_V (V := fun v => some (.int v)) (n := 2) (fr := 0) (lo := 0) (As := [.int a1, .int (0 : Int32)]) C hS xf_X2 (lw_V q888 q890 qs23 q60 q891) hdv_X2_of ⟨Nat.le_trans (Nat.le_of_ble_eq_true rfl) hR.1, Nat.le_trans (Nat.le_of_ble_eq_true rfl) hR.2⟩ rfl hl.1.1 rfl (xm_rc rfl (xm_rc rfl (xm_rc (va_rf_cat _) (xm_rc rfl xm_r0)))) hf (fun v h1 k1 n1 e1 => ct_X2_of l D N e1) dX2_matches_25 (fun x25 h H locs cells slots kc ks hS hf => ?_)
    refine W.eq (g2 := F0 m 28 ls [.int x25, .int a2, .int a1, va_rf a0, .int (x16 - (1 : Int32))]) rfl ?_
    refine lv_isub hx hb dX2_matches_28 ?_
    refine xr_V (V := fun v => some (.int v)) (n := 2) (fr := 1) (lo := 22) (As := [.int a1, .int (a2 - x25)]) C hS xf_X2 (lw_V q941 q943 qs31 q60 q944) hdv_X2_wantedIn ⟨Nat.le_trans (Nat.le_of_ble_eq_true rfl) hR.1, Nat.le_trans (Nat.le_of_ble_eq_true rfl) hR.2⟩ rfl hl.1.1 rfl (xm_rc rfl xm_r0) hf (fun v h1 k1 n1 e1 => ct_X2_wantedIn l D N e1) dX2_matches_29 (fun x29 h H locs cells slots kc ks hS hf => ?_)
    refine W.eq (g2 := F0 m 32 ls [.int x29, .int (x16 - (1 : Int32))]) rfl ?_
    refine lv_isub hx hb dX2_matches_32 ?_
    refine xr_S (V := fun v => some (.int v)) (n := 1) (fr := 0) (lo := 0) (As := [.int ((x16 - (1 : Int32)) - x29)]) C hS (lw_S q945 q946 q60 q947) hd_X2_size ⟨Nat.le_trans (Nat.le_of_ble_eq_true rfl) hR.1, Nat.le_trans (Nat.le_of_ble_eq_true rfl) hR.2⟩ rfl hl.1.1 rfl xm_r0 hf (fun v h1 k1 n1 e1 => ct_X2_size l D N e1) dX2_matches_33 (fun x33 h H locs cells slots kc ks hS hf => ?_)
    refine W.eq (g2 := F0 m 36 ls [.int x33]) rfl ?_
    refine xr_istore_n C dX2_matches_36 rfl hl (Nat.le_of_ble_eq_true rfl) (lv' := [(3, .int x33), (0, va_rf a0), (1, .int a1), (2, .int a2)]) rfl (fun ls hl => ?_)
    refine xr_aload_n C dX2_matches_37 rfl (hl.at 1 rfl) ?_
    refine xr_getR C hS xf_X2 0 (by decide) q817 (fun _ h => h) hf dX2_matches_38 (fun x38 hf => ?_)
    refine lv_iconst (v := 3) hx hb dX2_matches_41 xi_c3 ?_
    refine xr_iald C hS hf dX2_matches_42 (fun x42 hf => ?_)
    refine lv_iconst (v := 1) hx hb dX2_matches_43 xi_c1 ?_
    refine lv_icmp_ne (tgt := 69) hx hb dX2_matches_44 (by decide) (fun c44 => ?_) (fun c44 => ?_)
    · replace hf := xb_neg c44 hf
      exact w_X2_matches_b69 C hr hR N a0 x33  h H locs cells slots kc ks ls hf hS (hl.sub [1, 0] rfl)
    · replace hf := xb_pos c44 hf
      refine lv_iload_n hx hb dX2_matches_47 rfl (hl.at 0 rfl) ?_
      refine lv_bipush (v := 12) hx hb dX2_matches_48 xi_b12 ?_
      refine lv_irem hx hb dX2_matches_50 (by decide) ?_
      refine xr_istore_n C dX2_matches_51 rfl hl (Nat.le_of_ble_eq_true rfl) (lv' := [(3, .int (x33 - x33 / (12 : Int32) * (12 : Int32))), (0, va_rf a0), (1, .int a1), (2, .int a2)]) rfl (fun ls hl => ?_)
      refine lv_bipush (v := 12) hx hb dX2_matches_52 xi_b12 ?_
      refine lv_iload_n hx hb dX2_matches_54 rfl (hl.at 0 rfl) ?_
      refine lv_isub hx hb dX2_matches_55 ?_
      refine lv_iload_n hx hb dX2_matches_56 rfl (hl.at 0 rfl) ?_
      refine lv_icmp_ge (tgt := 67) hx hb dX2_matches_57 (by decide) (fun c57 => ?_) (fun c57 => ?_)
      · replace hf := xb_pos c57 hf
        refine lv_iload_n hx hb dX2_matches_67 rfl (hl.at 0 rfl) ?_
        exact w_X2_matches_b68 C hr hR N a0 (x33 - x33 / (12 : Int32) * (12 : Int32)) h H locs cells slots kc ks ls hf hS (hl.sub [1] rfl)
      · replace hf := xb_neg c57 hf
        refine lv_bipush (v := 12) hx hb dX2_matches_60 xi_b12 ?_
        refine lv_iload_n hx hb dX2_matches_62 rfl (hl.at 0 rfl) ?_
        refine lv_isub hx hb dX2_matches_63 ?_
        refine lv_goto (tgt := 68) hx hb dX2_matches_64 (by decide) ?_
        exact w_X2_matches_b68 C hr hR N a0 ((12 : Int32) - (x33 - x33 / (12 : Int32) * (12 : Int32))) h H locs cells slots kc ks ls hf hS (hl.sub [1] rfl)
  · replace hf := xb_pos c6 hf
    refine lv_iconst (v := 0) hx hb dX2_matches_9 xi_c0 ?_
    exact xr_zret1 C hS hr (by decide) hf dX2_matches_10
theorem ct_X2_matches (l : Launch) (D : xh_D) {rv : Int32} {h hF : xh_H} {kc ks : Nat} (N : Nat) {a0 : Option Nat} {a1 : Int32} {a2 : Int32} (hf : f_X2_matches N a0 a1 a2 h = some (rv, hF, kc, ks)) : xh_Ct l D yX2_matches (ws_ yX2_matches cX2_matches 4 (Option.some Jvm.ClassFile.FieldType.boolean)) 2 45 [va_rf a0, .int a1, .int a2] h (some (.int rv)) hF kc ks :=
  xh_meth (cc := cX2_matches) l (by decide) (Nat.le_of_ble_eq_true rfl) (List.forall_mem_cons.mpr ⟨va_rf_cat _, List.forall_mem_cons.mpr ⟨rfl, List.forall_mem_cons.mpr ⟨rfl, fun _ h => absurd h List.not_mem_nil⟩⟩⟩) fun p e s m below meth c ls C hr hnm hl hS => w_X2_matches C hr ⟨Nat.le_refl _, Nat.le_refl _⟩ N a0 a1 a2 h _ _ _ _ _ _ _ hf hS hl
theorem w_X2_isOnset_b34 (C : xh_C cX2_isOnset 2 "SungSlidesModel" D g p s m args meth c) (hr : meth.sig.returnType = (Option.some Jvm.ClassFile.FieldType.boolean)) (hR : 0 ≤ R.frames ∧ 0 ≤ R.locals) {rv : Int32} {hF : xh_H} (N : Nat) : ∀ (h : xh_H) (H : Heap) (locs : List Loc) (cells slots kc ks : Nat) (ls : Array Slot), f_X2_isOnset_b34 N  h = some (rv, hF, kc, ks) → xh_T D g s R h H locs cells slots kc ks → xh_L ls 2 [] → W p l e R s m args below meth c H locs cells slots (MQ below (xh_Q D g (some (.int rv)) hF) args s R.cells R.slots (xh_A g)) (F0 m 34 ls []) := by
  intro  h H locs cells slots kc ks ls hf hS hl
  have hx := C.1
  have hb := C.2.1
  unfold f_X2_isOnset_b34 at hf
  refine lv_iconst (v := 0) hx hb dX2_isOnset_34 xi_c0 ?_
  exact xr_zret1 C hS hr (by decide) hf dX2_isOnset_35
theorem w_X2_isOnset_b30 (C : xh_C cX2_isOnset 2 "SungSlidesModel" D g p s m args meth c) (hr : meth.sig.returnType = (Option.some Jvm.ClassFile.FieldType.boolean)) (hR : 0 ≤ R.frames ∧ 0 ≤ R.locals) {rv : Int32} {hF : xh_H} (N : Nat) : ∀ (h : xh_H) (H : Heap) (locs : List Loc) (cells slots kc ks : Nat) (ls : Array Slot), f_X2_isOnset_b30 N  h = some (rv, hF, kc, ks) → xh_T D g s R h H locs cells slots kc ks → xh_L ls 2 [] → W p l e R s m args below meth c H locs cells slots (MQ below (xh_Q D g (some (.int rv)) hF) args s R.cells R.slots (xh_A g)) (F0 m 30 ls []) := by
  intro  h H locs cells slots kc ks ls hf hS hl
  have hx := C.1
  have hb := C.2.1
  unfold f_X2_isOnset_b30 at hf
  refine lv_iconst (v := 1) hx hb dX2_isOnset_30 xi_c1 ?_
  refine lv_goto (tgt := 35) hx hb dX2_isOnset_31 (by decide) ?_
  exact xr_zret1 C hS hr (by decide) hf dX2_isOnset_35
/-- SungSlidesModel.isOnset(I)Z -/
theorem w_X2_isOnset (C : xh_C cX2_isOnset 2 "SungSlidesModel" D g p s m args meth c) (hr : meth.sig.returnType = (Option.some Jvm.ClassFile.FieldType.boolean)) (hR : 0 ≤ R.frames ∧ 0 ≤ R.locals) {rv : Int32} {hF : xh_H} (N : Nat) (a0 : Option Nat) (a1 : Int32)  (h : xh_H) (H : Heap) (locs : List Loc) (cells slots kc ks : Nat) (ls : Array Slot) (hf : f_X2_isOnset N a0 a1 h = some (rv, hF, kc, ks)) (hS : xh_T D g s R h H locs cells slots kc ks) (hl : xh_L ls 2 [(0, va_rf a0), (1, .int a1)]) : W p l e R s m args below meth c H locs cells slots (MQ below (xh_Q D g (some (.int rv)) hF) args s R.cells R.slots (xh_A g)) (F0 m 0 ls []) := by
  have hx := C.1
  have hb := C.2.1
  unfold f_X2_isOnset at hf
  refine xr_aload_n C dX2_isOnset_0 rfl (hl.at 0 rfl) ?_
  refine xr_getR C hS xf_X2 7 (by decide) q824 (fun _ h => h) hf dX2_isOnset_1 (fun x1 hf => ?_)
  refine lv_iload_n hx hb dX2_isOnset_4 rfl (hl.at 1 rfl) ?_
  refine xr_iald C hS hf dX2_isOnset_5 (fun x5 hf => ?_)
  refine lv_if_le (tgt := 34) hx hb dX2_isOnset_6 (by decide) (fun c6 => ?_) (fun c6 => ?_)
  · replace hf := xb_pos c6 hf
    exact w_X2_isOnset_b34 C hr hR N  h H locs cells slots kc ks ls hf hS (hl.sub [] rfl)
  · replace hf := xb_neg c6 hf
    refine lv_iload_n hx hb dX2_isOnset_9 rfl (hl.at 1 rfl) ?_
    refine lv_if_eq (tgt := 30) hx hb dX2_isOnset_10 (by decide) (fun c10 => ?_) (fun c10 => ?_)
    · replace hf := xb_pos c10 hf
      exact w_X2_isOnset_b30 C hr hR N  h H locs cells slots kc ks ls hf hS (hl.sub [] rfl)
    · replace hf := xb_neg c10 hf
      refine xr_aload_n C dX2_isOnset_13 rfl (hl.at 0 rfl) ?_
      refine xr_getR C hS xf_X2 7 (by decide) q824 (fun _ h => h) hf dX2_isOnset_14 (fun x14 hf => ?_)
      refine lv_iload_n hx hb dX2_isOnset_17 rfl (hl.at 1 rfl) ?_
      refine lv_iconst (v := 1) hx hb dX2_isOnset_18 xi_c1 ?_
      refine lv_isub hx hb dX2_isOnset_19 ?_
      refine xr_iald C hS hf dX2_isOnset_20 (fun x20 hf => ?_)
      refine xr_aload_n C dX2_isOnset_21 rfl (hl.at 0 rfl) ?_
      refine xr_getR C hS xf_X2 7 (by decide) q824 (fun _ h => h) hf dX2_isOnset_22 (fun x22 hf => ?_)
      refine lv_iload_n hx hb dX2_isOnset_25 rfl (hl.at 1 rfl) ?_
      refine xr_iald C hS hf dX2_isOnset_26 (fun x26 hf => ?_)
      refine lv_icmp_eq (tgt := 34) hx hb dX2_isOnset_27 (by decide) (fun c27 => ?_) (fun c27 => ?_)
      · replace hf := xb_pos c27 hf
        exact w_X2_isOnset_b34 C hr hR N  h H locs cells slots kc ks ls hf hS (hl.sub [] rfl)
      · replace hf := xb_neg c27 hf
        exact w_X2_isOnset_b30 C hr hR N  h H locs cells slots kc ks ls hf hS (hl.sub [] rfl)
theorem ct_X2_isOnset (l : Launch) (D : xh_D) {rv : Int32} {h hF : xh_H} {kc ks : Nat} (N : Nat) {a0 : Option Nat} {a1 : Int32} (hf : f_X2_isOnset N a0 a1 h = some (rv, hF, kc, ks)) : xh_Ct l D yX2_isOnset (ws_ yX2_isOnset cX2_isOnset 2 (Option.some Jvm.ClassFile.FieldType.boolean)) 0 0 [va_rf a0, .int a1] h (some (.int rv)) hF kc ks :=
  xh_meth (cc := cX2_isOnset) l (by decide) (Nat.le_of_ble_eq_true rfl) (List.forall_mem_cons.mpr ⟨va_rf_cat _, List.forall_mem_cons.mpr ⟨rfl, fun _ h => absurd h List.not_mem_nil⟩⟩) fun p e s m below meth c ls C hr hnm hl hS => w_X2_isOnset C hr ⟨Nat.le_refl _, Nat.le_refl _⟩ N a0 a1 h _ _ _ _ _ _ _ hf hS hl
def K_X2_nearestOnset_9 (p : Program) (l : Launch) (e : Env) (s : State) (m : MethodId) (args : Array Value) (below : List Frame) (meth : Method) (c : Code) (D : xh_D) (g : Nat → Nat) (R : Room) (rv : Int32) (hF : xh_H) (k : Option Nat → Int32 → Int32 → xh_H → xh_R Int32) : Prop := ∀ (a0 : Option Nat) (a2 : Int32) (a3 : Int32) (h : xh_H) (H : Heap) (locs : List Loc) (cells slots kc ks : Nat) (ls : Array Slot), k a0 a2 a3 h = some (rv, hF, kc, ks) → xh_T D g s R h H locs cells slots kc ks → xh_L ls 4 [(0, va_rf a0), (2, .int a2), (3, .int a3)] → W p l e R s m args below meth c H locs cells slots (MQ below (xh_Q D g (some (.int rv)) hF) args s R.cells R.slots (xh_A g)) (F0 m 9 ls [])
theorem w_X2_nearestOnset_b71 (C : xh_C cX2_nearestOnset 4 "SungSlidesModel" D g p s m args meth c) (hr : meth.sig.returnType = (Option.some Jvm.ClassFile.FieldType.int)) (hR : 2 ≤ R.frames ∧ 42 ≤ R.locals) {rv : Int32} {hF : xh_H} (N : Nat) : ∀ (h : xh_H) (H : Heap) (locs : List Loc) (cells slots kc ks : Nat) (ls : Array Slot), f_X2_nearestOnset_b71 N  h = some (rv, hF, kc, ks) → xh_T D g s R h H locs cells slots kc ks → xh_L ls 4 [] → W p l e R s m args below meth c H locs cells slots (MQ below (xh_Q D g (some (.int rv)) hF) args s R.cells R.slots (xh_A g)) (F0 m 71 ls []) := by
  intro  h H locs cells slots kc ks ls hf hS hl
  have hx := C.1
  have hb := C.2.1
  unfold f_X2_nearestOnset_b71 at hf
  refine lv_bipush (v := -5) hx hb dX2_nearestOnset_71 xi_bm5 ?_
  exact xr_iret C hS hr hf dX2_nearestOnset_73
theorem w_X2_nearestOnset_b65 (C : xh_C cX2_nearestOnset 4 "SungSlidesModel" D g p s m args meth c) (hr : meth.sig.returnType = (Option.some Jvm.ClassFile.FieldType.int)) (hR : 2 ≤ R.frames ∧ 42 ≤ R.locals) {rv : Int32} {hF : xh_H} (N : Nat) {k9 : Option Nat → Int32 → Int32 → xh_H → xh_R Int32} (hk9 : K_X2_nearestOnset_9 p l e s m args below meth c D g R rv hF k9) : ∀ (a0 : Option Nat) (a2 : Int32) (a3 : Int32) (h : xh_H) (H : Heap) (locs : List Loc) (cells slots kc ks : Nat) (ls : Array Slot), f_X2_nearestOnset_b65 N k9 a0 a2 a3 h = some (rv, hF, kc, ks) → xh_T D g s R h H locs cells slots kc ks → xh_L ls 4 [(0, va_rf a0), (2, .int a2), (3, .int a3)] → W p l e R s m args below meth c H locs cells slots (MQ below (xh_Q D g (some (.int rv)) hF) args s R.cells R.slots (xh_A g)) (F0 m 65 ls []) := by
  intro a0 a2 a3 h H locs cells slots kc ks ls hf hS hl
  have hx := C.1
  have hb := C.2.1
  unfold f_X2_nearestOnset_b65 at hf
  refine xr_iinc C dX2_nearestOnset_65 hl (k := 2) rfl (xi_inc xi_c1) (Nat.le_of_ble_eq_true rfl) (lv' := [(3, .int (a3 + (1 : Int32))), (0, va_rf a0), (2, .int a2)]) rfl (fun ls hl => ?_)
  refine lv_goto (tgt := 9) hx hb dX2_nearestOnset_68 (by decide) ?_
  exact hk9 a0 a2 (a3 + (1 : Int32))  h H locs cells slots kc ks ls hf hS (hl.sub [1, 2, 0] rfl)
theorem w_X2_nearestOnset_b61 (C : xh_C cX2_nearestOnset 4 "SungSlidesModel" D g p s m args meth c) (hr : meth.sig.returnType = (Option.some Jvm.ClassFile.FieldType.int)) (hR : 2 ≤ R.frames ∧ 42 ≤ R.locals) {rv : Int32} {hF : xh_H} (N : Nat) : ∀ (a2 : Int32) (a3 : Int32) (h : xh_H) (H : Heap) (locs : List Loc) (cells slots kc ks : Nat) (ls : Array Slot), f_X2_nearestOnset_b61 N a2 a3 h = some (rv, hF, kc, ks) → xh_T D g s R h H locs cells slots kc ks → xh_L ls 4 [(2, .int a2), (3, .int a3)] → W p l e R s m args below meth c H locs cells slots (MQ below (xh_Q D g (some (.int rv)) hF) args s R.cells R.slots (xh_A g)) (F0 m 61 ls []) := by
  intro a2 a3 h H locs cells slots kc ks ls hf hS hl
  have hx := C.1
  have hb := C.2.1
  unfold f_X2_nearestOnset_b61 at hf
  refine lv_iload_n hx hb dX2_nearestOnset_61 rfl (hl.at 0 rfl) ?_
  refine lv_iload_n hx hb dX2_nearestOnset_62 rfl (hl.at 1 rfl) ?_
  refine lv_iadd hx hb dX2_nearestOnset_63 ?_
  exact xr_iret C hS hr hf dX2_nearestOnset_64
theorem w_X2_nearestOnset_b42 (C : xh_C cX2_nearestOnset 4 "SungSlidesModel" D g p s m args meth c) (hr : meth.sig.returnType = (Option.some Jvm.ClassFile.FieldType.int)) (hR : 2 ≤ R.frames ∧ 42 ≤ R.locals) {rv : Int32} {hF : xh_H} (N : Nat) {k9 : Option Nat → Int32 → Int32 → xh_H → xh_R Int32} (hk9 : K_X2_nearestOnset_9 p l e s m args below meth c D g R rv hF k9) : ∀ (a0 : Option Nat) (a2 : Int32) (a3 : Int32) (h : xh_H) (H : Heap) (locs : List Loc) (cells slots kc ks : Nat) (ls : Array Slot), f_X2_nearestOnset_b42 N k9 a0 a2 a3 h = some (rv, hF, kc, ks) → xh_T D g s R h H locs cells slots kc ks → xh_L ls 4 [(0, va_rf a0), (2, .int a2), (3, .int a3)] → W p l e R s m args below meth c H locs cells slots (MQ below (xh_Q D g (some (.int rv)) hF) args s R.cells R.slots (xh_A g)) (F0 m 42 ls []) := by
  intro a0 a2 a3 h H locs cells slots kc ks ls hf hS hl
  have hx := C.1
  have hb := C.2.1
  unfold f_X2_nearestOnset_b42 at hf
  refine lv_iload_n hx hb dX2_nearestOnset_42 rfl (hl.at 1 rfl) ?_
  refine lv_iload_n hx hb dX2_nearestOnset_43 rfl (hl.at 2 rfl) ?_
  refine lv_iadd hx hb dX2_nearestOnset_44 ?_
  refine xr_S (V := fun v => some (.int v)) (n := 1) (fr := 1) (lo := 22) (As := [.int (a2 + a3)]) C hS (lw_S q922 q923 q60 q924) hd_X2_isTick ⟨Nat.le_trans (Nat.le_of_ble_eq_true rfl) hR.1, Nat.le_trans (Nat.le_of_ble_eq_true rfl) hR.2⟩ rfl hl.1.1 rfl xm_r0 hf (fun v h1 k1 n1 e1 => ct_X2_isTick l D N e1) dX2_nearestOnset_45 (fun x45 h H locs cells slots kc ks hS hf => ?_)
  refine W.eq (g2 := F0 m 48 ls [.int x45]) rfl ?_
  refine lv_if_eq (tgt := 65) hx hb dX2_nearestOnset_48 (by decide) (fun c48 => ?_) (fun c48 => ?_)
  · replace hf := xb_pos c48 hf
    exact w_X2_nearestOnset_b65 C hr hR N hk9 a0 a2 a3  h H locs cells slots kc ks ls hf hS (hl.sub [0, 1, 2] rfl)
  · replace hf := xb_neg c48 hf
    refine xr_aload_n C dX2_nearestOnset_51 rfl (hl.at 0 rfl) ?_
    refine lv_iload_n hx hb dX2_nearestOnset_52 rfl (hl.at 1 rfl) ?_
    refine lv_iload_n hx hb dX2_nearestOnset_53 rfl (hl.at 2 rfl) ?_
    refine lv_iadd hx hb dX2_nearestOnset_54 ?_
    refine xr_V (V := fun v => some (.int v)) (n := 1) (fr := 0) (lo := 0) (As := [.int (a2 + a3)]) C hS xf_X2 (lw_V q952 q954 qs33 q60 q955) hdv_X2_isOnset ⟨Nat.le_trans (Nat.le_of_ble_eq_true rfl) hR.1, Nat.le_trans (Nat.le_of_ble_eq_true rfl) hR.2⟩ rfl hl.1.1 rfl xm_r0 hf (fun v h1 k1 n1 e1 => ct_X2_isOnset l D N e1) dX2_nearestOnset_55 (fun x55 h H locs cells slots kc ks hS hf => ?_)
    refine W.eq (g2 := F0 m 58 ls [.int x55]) rfl ?_
    refine lv_if_eq (tgt := 65) hx hb dX2_nearestOnset_58 (by decide) (fun c58 => ?_) (fun c58 => ?_)
    · replace hf := xb_pos c58 hf
      exact w_X2_nearestOnset_b65 C hr hR N hk9 a0 a2 a3  h H locs cells slots kc ks ls hf hS (hl.sub [0, 1, 2] rfl)
    · replace hf := xb_neg c58 hf
      exact w_X2_nearestOnset_b61 C hr hR N a2 a3  h H locs cells slots kc ks ls hf hS (hl.sub [1, 2] rfl)
theorem w_X2_nearestOnset_b38 (C : xh_C cX2_nearestOnset 4 "SungSlidesModel" D g p s m args meth c) (hr : meth.sig.returnType = (Option.some Jvm.ClassFile.FieldType.int)) (hR : 2 ≤ R.frames ∧ 42 ≤ R.locals) {rv : Int32} {hF : xh_H} (N : Nat) : ∀ (a2 : Int32) (a3 : Int32) (h : xh_H) (H : Heap) (locs : List Loc) (cells slots kc ks : Nat) (ls : Array Slot), f_X2_nearestOnset_b38 N a2 a3 h = some (rv, hF, kc, ks) → xh_T D g s R h H locs cells slots kc ks → xh_L ls 4 [(2, .int a2), (3, .int a3)] → W p l e R s m args below meth c H locs cells slots (MQ below (xh_Q D g (some (.int rv)) hF) args s R.cells R.slots (xh_A g)) (F0 m 38 ls []) := by
  intro a2 a3 h H locs cells slots kc ks ls hf hS hl
  have hx := C.1
  have hb := C.2.1
  unfold f_X2_nearestOnset_b38 at hf
  refine lv_iload_n hx hb dX2_nearestOnset_38 rfl (hl.at 0 rfl) ?_
  refine lv_iload_n hx hb dX2_nearestOnset_39 rfl (hl.at 1 rfl) ?_
  refine lv_isub hx hb dX2_nearestOnset_40 ?_
  exact xr_iret C hS hr hf dX2_nearestOnset_41
theorem w_X2_nearestOnset_b9 (C : xh_C cX2_nearestOnset 4 "SungSlidesModel" D g p s m args meth c) (hr : meth.sig.returnType = (Option.some Jvm.ClassFile.FieldType.int)) (hR : 2 ≤ R.frames ∧ 42 ≤ R.locals) {rv : Int32} {hF : xh_H} (N : Nat) {k9 : Option Nat → Int32 → Int32 → xh_H → xh_R Int32} (hk9 : K_X2_nearestOnset_9 p l e s m args below meth c D g R rv hF k9) : ∀ (a0 : Option Nat) (a2 : Int32) (a3 : Int32) (h : xh_H) (H : Heap) (locs : List Loc) (cells slots kc ks : Nat) (ls : Array Slot), f_X2_nearestOnset_b9 N k9 a0 a2 a3 h = some (rv, hF, kc, ks) → xh_T D g s R h H locs cells slots kc ks → xh_L ls 4 [(0, va_rf a0), (2, .int a2), (3, .int a3)] → W p l e R s m args below meth c H locs cells slots (MQ below (xh_Q D g (some (.int rv)) hF) args s R.cells R.slots (xh_A g)) (F0 m 9 ls []) := by
  intro a0 a2 a3 h H locs cells slots kc ks ls hf hS hl
  have hx := C.1
  have hb := C.2.1
  unfold f_X2_nearestOnset_b9 at hf
  refine lv_iload_n hx hb dX2_nearestOnset_9 rfl (hl.at 2 rfl) ?_
  refine xr_aload_n C dX2_nearestOnset_10 rfl (hl.at 0 rfl) ?_
  refine xr_getR C hS xf_X2 0 (by decide) q817 (fun _ h => h) hf dX2_nearestOnset_11 (fun x11 hf => ?_)
  refine lv_iconst (v := 2) hx hb dX2_nearestOnset_14 xi_c2 ?_
  refine xr_iald C hS hf dX2_nearestOnset_15 (fun x15 hf => ?_)
  refine lv_icmp_gt (tgt := 71) hx hb dX2_nearestOnset_16 (by decide) (fun c16 => ?_) (fun c16 => ?_)
  · replace hf := xb_pos c16 hf
    exact w_X2_nearestOnset_b71 C hr hR N  h H locs cells slots kc ks ls hf hS (hl.sub [] rfl)
  · replace hf := xb_neg c16 hf
    refine lv_iload_n hx hb dX2_nearestOnset_19 rfl (hl.at 1 rfl) ?_
    refine lv_iload_n hx hb dX2_nearestOnset_20 rfl (hl.at 2 rfl) ?_
    refine lv_isub hx hb dX2_nearestOnset_21 ?_
    refine xr_S (V := fun v => some (.int v)) (n := 1) (fr := 1) (lo := 22) (As := [.int (a2 - a3)]) C hS (lw_S q922 q923 q60 q924) hd_X2_isTick ⟨Nat.le_trans (Nat.le_of_ble_eq_true rfl) hR.1, Nat.le_trans (Nat.le_of_ble_eq_true rfl) hR.2⟩ rfl hl.1.1 rfl xm_r0 hf (fun v h1 k1 n1 e1 => ct_X2_isTick l D N e1) dX2_nearestOnset_22 (fun x22 h H locs cells slots kc ks hS hf => ?_)
    refine W.eq (g2 := F0 m 25 ls [.int x22]) rfl ?_
    refine lv_if_eq (tgt := 42) hx hb dX2_nearestOnset_25 (by decide) (fun c25 => ?_) (fun c25 => ?_)
    · replace hf := xb_pos c25 hf
      exact w_X2_nearestOnset_b42 C hr hR N hk9 a0 a2 a3  h H locs cells slots kc ks ls hf hS (hl.sub [0, 1, 2] rfl)
    · replace hf := xb_neg c25 hf
      refine xr_aload_n C dX2_nearestOnset_28 rfl (hl.at 0 rfl) ?_
      refine lv_iload_n hx hb dX2_nearestOnset_29 rfl (hl.at 1 rfl) ?_
      refine lv_iload_n hx hb dX2_nearestOnset_30 rfl (hl.at 2 rfl) ?_
      refine lv_isub hx hb dX2_nearestOnset_31 ?_
      refine xr_V (V := fun v => some (.int v)) (n := 1) (fr := 0) (lo := 0) (As := [.int (a2 - a3)]) C hS xf_X2 (lw_V q952 q954 qs33 q60 q955) hdv_X2_isOnset ⟨Nat.le_trans (Nat.le_of_ble_eq_true rfl) hR.1, Nat.le_trans (Nat.le_of_ble_eq_true rfl) hR.2⟩ rfl hl.1.1 rfl xm_r0 hf (fun v h1 k1 n1 e1 => ct_X2_isOnset l D N e1) dX2_nearestOnset_32 (fun x32 h H locs cells slots kc ks hS hf => ?_)
      refine W.eq (g2 := F0 m 35 ls [.int x32]) rfl ?_
      refine lv_if_eq (tgt := 42) hx hb dX2_nearestOnset_35 (by decide) (fun c35 => ?_) (fun c35 => ?_)
      · replace hf := xb_pos c35 hf
        exact w_X2_nearestOnset_b42 C hr hR N hk9 a0 a2 a3  h H locs cells slots kc ks ls hf hS (hl.sub [0, 1, 2] rfl)
      · replace hf := xb_neg c35 hf
        exact w_X2_nearestOnset_b38 C hr hR N a2 a3  h H locs cells slots kc ks ls hf hS (hl.sub [1, 2] rfl)
theorem w_X2_nearestOnset_l9 (C : xh_C cX2_nearestOnset 4 "SungSlidesModel" D g p s m args meth c) (hr : meth.sig.returnType = (Option.some Jvm.ClassFile.FieldType.int)) (hR : 2 ≤ R.frames ∧ 42 ≤ R.locals) {rv : Int32} {hF : xh_H} (N : Nat) : ∀ n : Nat, K_X2_nearestOnset_9 p l e s m args below meth c D g R rv hF (f_X2_nearestOnset_l9 N n) := by
  intro n
  induction n with
  | zero => exact fun a0 a2 a3 h H locs cells slots kc ks ls hf => absurd (show (none : xh_R Int32) = some _ from hf) (by intro q; cases q)
  | succ n ih => exact fun a0 a2 a3 h H locs cells slots kc ks ls hf => w_X2_nearestOnset_b9 C hr hR N ih a0 a2 a3 h H locs cells slots kc ks ls hf
/-- SungSlidesModel.nearestOnset(I)I -/
theorem w_X2_nearestOnset (C : xh_C cX2_nearestOnset 4 "SungSlidesModel" D g p s m args meth c) (hr : meth.sig.returnType = (Option.some Jvm.ClassFile.FieldType.int)) (hR : 2 ≤ R.frames ∧ 42 ≤ R.locals) {rv : Int32} {hF : xh_H} (N : Nat) (a0 : Option Nat) (a1 : Int32)  (h : xh_H) (H : Heap) (locs : List Loc) (cells slots kc ks : Nat) (ls : Array Slot) (hf : f_X2_nearestOnset N a0 a1 h = some (rv, hF, kc, ks)) (hS : xh_T D g s R h H locs cells slots kc ks) (hl : xh_L ls 4 [(0, va_rf a0), (1, .int a1)]) : W p l e R s m args below meth c H locs cells slots (MQ below (xh_Q D g (some (.int rv)) hF) args s R.cells R.slots (xh_A g)) (F0 m 0 ls []) := by
  have hx := C.1
  have hb := C.2.1
  unfold f_X2_nearestOnset at hf
  refine xr_aload_n C dX2_nearestOnset_0 rfl (hl.at 0 rfl) ?_
  refine lv_iload_n hx hb dX2_nearestOnset_1 rfl (hl.at 1 rfl) ?_
  refine lv_iconst (v := 0) hx hb dX2_nearestOnset_2 xi_c0 ?_
  refine xr_V (V := fun v => some (.int v)) (n := 2) (fr := 0) (lo := 0) (As := [.int a1, .int (0 : Int32)]) C hS xf_X2 (lw_V q888 q890 qs23 q60 q891) hdv_X2_of ⟨Nat.le_trans (Nat.le_of_ble_eq_true rfl) hR.1, Nat.le_trans (Nat.le_of_ble_eq_true rfl) hR.2⟩ rfl hl.1.1 rfl xm_r0 hf (fun v h1 k1 n1 e1 => ct_X2_of l D N e1) dX2_nearestOnset_3 (fun x3 h H locs cells slots kc ks hS hf => ?_)
  refine W.eq (g2 := F0 m 6 ls [.int x3]) rfl ?_
  refine xr_istore_n C dX2_nearestOnset_6 rfl hl (Nat.le_of_ble_eq_true rfl) (lv' := [(2, .int x3), (0, va_rf a0), (1, .int a1)]) rfl (fun ls hl => ?_)
  refine lv_iconst (v := 0) hx hb dX2_nearestOnset_7 xi_c0 ?_
  refine xr_istore_n C dX2_nearestOnset_8 rfl hl (Nat.le_of_ble_eq_true rfl) (lv' := [(3, .int (0 : Int32)), (2, .int x3), (0, va_rf a0), (1, .int a1)]) rfl (fun ls hl => ?_)
  exact w_X2_nearestOnset_l9 C hr hR N N a0 x3 (0 : Int32)  h H locs cells slots kc ks ls hf hS (hl.sub [2, 1, 0] rfl)
theorem ct_X2_nearestOnset (l : Launch) (D : xh_D) {rv : Int32} {h hF : xh_H} {kc ks : Nat} (N : Nat) {a0 : Option Nat} {a1 : Int32} (hf : f_X2_nearestOnset N a0 a1 h = some (rv, hF, kc, ks)) : xh_Ct l D yX2_nearestOnset (ws_ yX2_nearestOnset cX2_nearestOnset 4 (Option.some Jvm.ClassFile.FieldType.int)) 2 42 [va_rf a0, .int a1] h (some (.int rv)) hF kc ks :=
  xh_meth (cc := cX2_nearestOnset) l (by decide) (Nat.le_of_ble_eq_true rfl) (List.forall_mem_cons.mpr ⟨va_rf_cat _, List.forall_mem_cons.mpr ⟨rfl, fun _ h => absurd h List.not_mem_nil⟩⟩) fun p e s m below meth c ls C hr hnm hl hS => w_X2_nearestOnset C hr ⟨Nat.le_refl _, Nat.le_refl _⟩ N a0 a1 h _ _ _ _ _ _ _ hf hS hl
def K_X2_bars_12 (p : Program) (l : Launch) (e : Env) (s : State) (m : MethodId) (args : Array Value) (below : List Frame) (meth : Method) (c : Code) (D : xh_D) (g : Nat → Nat) (R : Room) (rv : Int32) (hF : xh_H) (k : Option Nat → Int32 → Int32 → Int32 → Int32 → xh_H → xh_R Int32) : Prop := ∀ (a0 : Option Nat) (a1 : Int32) (a2 : Int32) (a3 : Int32) (a4 : Int32) (h : xh_H) (H : Heap) (locs : List Loc) (cells slots kc ks : Nat) (ls : Array Slot), k a0 a1 a2 a3 a4 h = some (rv, hF, kc, ks) → xh_T D g s R h H locs cells slots kc ks → xh_L ls 5 [(0, va_rf a0), (1, .int a1), (2, .int a2), (3, .int a3), (4, .int a4)] → W p l e R s m args below meth c H locs cells slots (MQ below (xh_Q D g (some (.int rv)) hF) args s R.cells R.slots (xh_A g)) (F0 m 12 ls [])
theorem w_X2_bars_b74 (C : xh_C cX2_bars 5 "SungSlidesModel" D g p s m args meth c) (hr : meth.sig.returnType = (Option.some Jvm.ClassFile.FieldType.int)) (hR : 3 ≤ R.frames ∧ 68 ≤ R.locals) {rv : Int32} {hF : xh_H} (N : Nat) : ∀ (a3 : Int32) (h : xh_H) (H : Heap) (locs : List Loc) (cells slots kc ks : Nat) (ls : Array Slot), f_X2_bars_b74 N a3 h = some (rv, hF, kc, ks) → xh_T D g s R h H locs cells slots kc ks → xh_L ls 5 [(3, .int a3)] → W p l e R s m args below meth c H locs cells slots (MQ below (xh_Q D g (some (.int rv)) hF) args s R.cells R.slots (xh_A g)) (F0 m 74 ls []) := by
  intro a3 h H locs cells slots kc ks ls hf hS hl
  have hx := C.1
  have hb := C.2.1
  unfold f_X2_bars_b74 at hf
  refine lv_iload_n hx hb dX2_bars_74 rfl (hl.at 0 rfl) ?_
  exact xr_iret C hS hr hf dX2_bars_75
theorem w_X2_bars_b66 (C : xh_C cX2_bars 5 "SungSlidesModel" D g p s m args meth c) (hr : meth.sig.returnType = (Option.some Jvm.ClassFile.FieldType.int)) (hR : 3 ≤ R.frames ∧ 68 ≤ R.locals) {rv : Int32} {hF : xh_H} (N : Nat) {k12 : Option Nat → Int32 → Int32 → Int32 → Int32 → xh_H → xh_R Int32} (hk12 : K_X2_bars_12 p l e s m args below meth c D g R rv hF k12) : ∀ (a0 : Option Nat) (a1 : Int32) (a2 : Int32) (a4 : Int32) (t0 : Int32) (t1 : Int32) (h : xh_H) (H : Heap) (locs : List Loc) (cells slots kc ks : Nat) (ls : Array Slot), f_X2_bars_b66 N k12 a0 a1 a2 a4 t0 t1 h = some (rv, hF, kc, ks) → xh_T D g s R h H locs cells slots kc ks → xh_L ls 5 [(0, va_rf a0), (1, .int a1), (2, .int a2), (4, .int a4)] → W p l e R s m args below meth c H locs cells slots (MQ below (xh_Q D g (some (.int rv)) hF) args s R.cells R.slots (xh_A g)) (F0 m 66 ls [.int t1, .int t0]) := by
  intro a0 a1 a2 a4 t0 t1 h H locs cells slots kc ks ls hf hS hl
  have hx := C.1
  have hb := C.2.1
  unfold f_X2_bars_b66 at hf
  refine lv_iadd hx hb dX2_bars_66 ?_
  refine xr_istore_n C dX2_bars_67 rfl hl (Nat.le_of_ble_eq_true rfl) (lv' := [(3, .int (t0 + t1)), (0, va_rf a0), (1, .int a1), (2, .int a2), (4, .int a4)]) rfl (fun ls hl => ?_)
  refine xr_iinc C dX2_bars_68 hl (k := 4) rfl (xi_inc xi_c1) (Nat.le_of_ble_eq_true rfl) (lv' := [(4, .int (a4 + (1 : Int32))), (3, .int (t0 + t1)), (0, va_rf a0), (1, .int a1), (2, .int a2)]) rfl (fun ls hl => ?_)
  refine lv_goto (tgt := 12) hx hb dX2_bars_71 (by decide) ?_
  exact hk12 a0 a1 a2 (t0 + t1) (a4 + (1 : Int32))  h H locs cells slots kc ks ls hf hS (hl.sub [2, 3, 4, 1, 0] rfl)
theorem w_X2_bars_b65 (C : xh_C cX2_bars 5 "SungSlidesModel" D g p s m args meth c) (hr : meth.sig.returnType = (Option.some Jvm.ClassFile.FieldType.int)) (hR : 3 ≤ R.frames ∧ 68 ≤ R.locals) {rv : Int32} {hF : xh_H} (N : Nat) {k12 : Option Nat → Int32 → Int32 → Int32 → Int32 → xh_H → xh_R Int32} (hk12 : K_X2_bars_12 p l e s m args below meth c D g R rv hF k12) : ∀ (a0 : Option Nat) (a1 : Int32) (a2 : Int32) (a4 : Int32) (t0 : Int32) (h : xh_H) (H : Heap) (locs : List Loc) (cells slots kc ks : Nat) (ls : Array Slot), f_X2_bars_b65 N k12 a0 a1 a2 a4 t0 h = some (rv, hF, kc, ks) → xh_T D g s R h H locs cells slots kc ks → xh_L ls 5 [(0, va_rf a0), (1, .int a1), (2, .int a2), (4, .int a4)] → W p l e R s m args below meth c H locs cells slots (MQ below (xh_Q D g (some (.int rv)) hF) args s R.cells R.slots (xh_A g)) (F0 m 65 ls [.int t0]) := by
  intro a0 a1 a2 a4 t0 h H locs cells slots kc ks ls hf hS hl
  have hx := C.1
  have hb := C.2.1
  unfold f_X2_bars_b65 at hf
  refine lv_iconst (v := 0) hx hb dX2_bars_65 xi_c0 ?_
  exact w_X2_bars_b66 C hr hR N hk12 a0 a1 a2 a4 t0 (0 : Int32) h H locs cells slots kc ks ls hf hS (hl.sub [0, 1, 2, 3] rfl)
theorem w_X2_bars_b61 (C : xh_C cX2_bars 5 "SungSlidesModel" D g p s m args meth c) (hr : meth.sig.returnType = (Option.some Jvm.ClassFile.FieldType.int)) (hR : 3 ≤ R.frames ∧ 68 ≤ R.locals) {rv : Int32} {hF : xh_H} (N : Nat) {k12 : Option Nat → Int32 → Int32 → Int32 → Int32 → xh_H → xh_R Int32} (hk12 : K_X2_bars_12 p l e s m args below meth c D g R rv hF k12) : ∀ (a0 : Option Nat) (a1 : Int32) (a2 : Int32) (a4 : Int32) (t0 : Int32) (h : xh_H) (H : Heap) (locs : List Loc) (cells slots kc ks : Nat) (ls : Array Slot), f_X2_bars_b61 N k12 a0 a1 a2 a4 t0 h = some (rv, hF, kc, ks) → xh_T D g s R h H locs cells slots kc ks → xh_L ls 5 [(0, va_rf a0), (1, .int a1), (2, .int a2), (4, .int a4)] → W p l e R s m args below meth c H locs cells slots (MQ below (xh_Q D g (some (.int rv)) hF) args s R.cells R.slots (xh_A g)) (F0 m 61 ls [.int t0]) := by
  intro a0 a1 a2 a4 t0 h H locs cells slots kc ks ls hf hS hl
  have hx := C.1
  have hb := C.2.1
  unfold f_X2_bars_b61 at hf
  refine lv_iconst (v := 1) hx hb dX2_bars_61 xi_c1 ?_
  refine lv_goto (tgt := 66) hx hb dX2_bars_62 (by decide) ?_
  exact w_X2_bars_b66 C hr hR N hk12 a0 a1 a2 a4 t0 (1 : Int32) h H locs cells slots kc ks ls hf hS (hl.sub [0, 1, 2, 3] rfl)
theorem w_X2_bars_b12 (C : xh_C cX2_bars 5 "SungSlidesModel" D g p s m args meth c) (hr : meth.sig.returnType = (Option.some Jvm.ClassFile.FieldType.int)) (hR : 3 ≤ R.frames ∧ 68 ≤ R.locals) {rv : Int32} {hF : xh_H} (N : Nat) {k12 : Option Nat → Int32 → Int32 → Int32 → Int32 → xh_H → xh_R Int32} (hk12 : K_X2_bars_12 p l e s m args below meth c D g R rv hF k12) : ∀ (a0 : Option Nat) (a1 : Int32) (a2 : Int32) (a3 : Int32) (a4 : Int32) (h : xh_H) (H : Heap) (locs : List Loc) (cells slots kc ks : Nat) (ls : Array Slot), f_X2_bars_b12 N k12 a0 a1 a2 a3 a4 h = some (rv, hF, kc, ks) → xh_T D g s R h H locs cells slots kc ks → xh_L ls 5 [(0, va_rf a0), (1, .int a1), (2, .int a2), (3, .int a3), (4, .int a4)] → W p l e R s m args below meth c H locs cells slots (MQ below (xh_Q D g (some (.int rv)) hF) args s R.cells R.slots (xh_A g)) (F0 m 12 ls []) := by
  intro a0 a1 a2 a3 a4 h H locs cells slots kc ks ls hf hS hl
  have hx := C.1
  have hb := C.2.1
  unfold f_X2_bars_b12 at hf
  refine lv_iload hx hb dX2_bars_12 (hl.at 4 rfl) ?_
  refine xr_aload_n C dX2_bars_14 rfl (hl.at 0 rfl) ?_
  refine lv_iload_n hx hb dX2_bars_15 rfl (hl.at 1 rfl) ?_
  refine xr_V (V := fun v => some (.int v)) (n := 1) (fr := 1) (lo := 22) (As := [.int a1]) C hS xf_X2 (lw_V q884 q886 qs22 q60 q887) hdv_X2_behind ⟨Nat.le_trans (Nat.le_of_ble_eq_true rfl) hR.1, Nat.le_trans (Nat.le_of_ble_eq_true rfl) hR.2⟩ rfl hl.1.1 rfl (xm_rc rfl xm_r0) hf (fun v h1 k1 n1 e1 => ct_X2_behind l D N e1) dX2_bars_16 (fun x16 h H locs cells slots kc ks hS hf => ?_)
  refine W.eq (g2 := F0 m 19 ls [.int x16, .int a4]) rfl ?_
  refine lv_icmp_ge (tgt := 74) hx hb dX2_bars_19 (by decide) (fun c19 => ?_) (fun c19 => ?_)
  · replace hf := xb_pos c19 hf
    exact w_X2_bars_b74 C hr hR N a3  h H locs cells slots kc ks ls hf hS (hl.sub [3] rfl)
  · replace hf := xb_neg c19 hf
    refine lv_iload_n hx hb dX2_bars_22 rfl (hl.at 3 rfl) ?_
    refine lv_iload hx hb dX2_bars_23 (hl.at 4 rfl) ?_
    refine xr_aload_n C dX2_bars_25 rfl (hl.at 0 rfl) ?_
    refine xr_getR C hS xf_X2 0 (by decide) q817 (fun _ h => h) hf dX2_bars_26 (fun x26 hf => ?_)
    refine lv_iconst (v := 0) hx hb dX2_bars_29 xi_c0 ?_
    refine xr_iald C hS hf dX2_bars_30 (fun x30 hf => ?_)
    obtain ⟨c31, hf⟩ := xb_nif hf
    refine lv_irem hx hb dX2_bars_31 c31 ?_
    refine lv_if_ne (tgt := 65) hx hb dX2_bars_32 (by decide) (fun c32 => ?_) (fun c32 => ?_)
    · replace hf := xb_neg c32 hf
      exact w_X2_bars_b65 C hr hR N hk12 a0 a1 a2 a4 a3 h H locs cells slots kc ks ls hf hS (hl.sub [0, 1, 2, 4] rfl)
    · replace hf := xb_pos c32 hf
      refine lv_iload_n hx hb dX2_bars_35 rfl (hl.at 2 rfl) ?_
      refine lv_if_eq (tgt := 61) hx hb dX2_bars_36 (by decide) (fun c36 => ?_) (fun c36 => ?_)
      · replace hf := xb_pos c36 hf
        exact w_X2_bars_b61 C hr hR N hk12 a0 a1 a2 a4 a3 h H locs cells slots kc ks ls hf hS (hl.sub [0, 1, 2, 4] rfl)
      · replace hf := xb_neg c36 hf
        refine xr_aload_n C dX2_bars_39 rfl (hl.at 0 rfl) ?_
        refine lv_iload_n hx hb dX2_bars_40 rfl (hl.at 1 rfl) ?_
        refine lv_iload hx hb dX2_bars_41 (hl.at 4 rfl) ?_
        refine xr_V (V := fun v => some (.int v)) (n := 2) (fr := 2) (lo := 45) (As := [.int a1, .int a4]) C hS xf_X2 (lw_V q937 q939 qs30 q60 q940) hdv_X2_matches ⟨Nat.le_trans (Nat.le_of_ble_eq_true rfl) hR.1, Nat.le_trans (Nat.le_of_ble_eq_true rfl) hR.2⟩ rfl hl.1.1 rfl (xm_rc rfl xm_r0) hf (fun v h1 k1 n1 e1 => ct_X2_matches l D N e1) dX2_bars_43 (fun x43 h H locs cells slots kc ks hS hf => ?_)
        refine W.eq (g2 := F0 m 46 ls [.int x43, .int a3]) rfl ?_
        refine lv_if_eq (tgt := 65) hx hb dX2_bars_46 (by decide) (fun c46 => ?_) (fun c46 => ?_)
        · replace hf := xb_pos c46 hf
          exact w_X2_bars_b65 C hr hR N hk12 a0 a1 a2 a4 a3 h H locs cells slots kc ks ls hf hS (hl.sub [0, 1, 2, 4] rfl)
        · replace hf := xb_neg c46 hf
          refine xr_aload_n C dX2_bars_49 rfl (hl.at 0 rfl) ?_
          refine lv_iload_n hx hb dX2_bars_50 rfl (hl.at 1 rfl) ?_
          refine lv_iload hx hb dX2_bars_51 (hl.at 4 rfl) ?_
          refine lv_iconst (v := 1) hx hb dX2_bars_53 xi_c1 ?_
          refine lv_isub hx hb dX2_bars_54 ?_
          refine xr_V (V := fun v => some (.int v)) (n := 2) (fr := 2) (lo := 45) (As := [.int a1, .int (a4 - (1 : Int32))]) C hS xf_X2 (lw_V q937 q939 qs30 q60 q940) hdv_X2_matches ⟨Nat.le_trans (Nat.le_of_ble_eq_true rfl) hR.1, Nat.le_trans (Nat.le_of_ble_eq_true rfl) hR.2⟩ rfl hl.1.1 rfl (xm_rc rfl xm_r0) hf (fun v h1 k1 n1 e1 => ct_X2_matches l D N e1) dX2_bars_55 (fun x55 h H locs cells slots kc ks hS hf => ?_)
          refine W.eq (g2 := F0 m 58 ls [.int x55, .int a3]) rfl ?_
          refine lv_if_eq (tgt := 65) hx hb dX2_bars_58 (by decide) (fun c58 => ?_) (fun c58 => ?_)
          · replace hf := xb_pos c58 hf
            exact w_X2_bars_b65 C hr hR N hk12 a0 a1 a2 a4 a3 h H locs cells slots kc ks ls hf hS (hl.sub [0, 1, 2, 4] rfl)
          · replace hf := xb_neg c58 hf
            exact w_X2_bars_b61 C hr hR N hk12 a0 a1 a2 a4 a3 h H locs cells slots kc ks ls hf hS (hl.sub [0, 1, 2, 4] rfl)
theorem w_X2_bars_l12 (C : xh_C cX2_bars 5 "SungSlidesModel" D g p s m args meth c) (hr : meth.sig.returnType = (Option.some Jvm.ClassFile.FieldType.int)) (hR : 3 ≤ R.frames ∧ 68 ≤ R.locals) {rv : Int32} {hF : xh_H} (N : Nat) : ∀ n : Nat, K_X2_bars_12 p l e s m args below meth c D g R rv hF (f_X2_bars_l12 N n) := by
  intro n
  induction n with
  | zero => exact fun a0 a1 a2 a3 a4 h H locs cells slots kc ks ls hf => absurd (show (none : xh_R Int32) = some _ from hf) (by intro q; cases q)
  | succ n ih => exact fun a0 a1 a2 a3 a4 h H locs cells slots kc ks ls hf => w_X2_bars_b12 C hr hR N ih a0 a1 a2 a3 a4 h H locs cells slots kc ks ls hf
/-- SungSlidesModel.bars(IZ)I -/
theorem w_X2_bars (C : xh_C cX2_bars 5 "SungSlidesModel" D g p s m args meth c) (hr : meth.sig.returnType = (Option.some Jvm.ClassFile.FieldType.int)) (hR : 3 ≤ R.frames ∧ 68 ≤ R.locals) {rv : Int32} {hF : xh_H} (N : Nat) (a0 : Option Nat) (a1 : Int32) (a2 : Int32)  (h : xh_H) (H : Heap) (locs : List Loc) (cells slots kc ks : Nat) (ls : Array Slot) (hf : f_X2_bars N a0 a1 a2 h = some (rv, hF, kc, ks)) (hS : xh_T D g s R h H locs cells slots kc ks) (hl : xh_L ls 5 [(0, va_rf a0), (1, .int a1), (2, .int a2)]) : W p l e R s m args below meth c H locs cells slots (MQ below (xh_Q D g (some (.int rv)) hF) args s R.cells R.slots (xh_A g)) (F0 m 0 ls []) := by
  have hx := C.1
  have hb := C.2.1
  unfold f_X2_bars at hf
  refine lv_iconst (v := 0) hx hb dX2_bars_0 xi_c0 ?_
  refine xr_istore_n C dX2_bars_1 rfl hl (Nat.le_of_ble_eq_true rfl) (lv' := [(3, .int (0 : Int32)), (0, va_rf a0), (1, .int a1), (2, .int a2)]) rfl (fun ls hl => ?_)
  refine xr_aload_n C dX2_bars_2 rfl (hl.at 1 rfl) ?_
  refine lv_iload_n hx hb dX2_bars_3 rfl (hl.at 2 rfl) ?_
  refine lv_iconst (v := 0) hx hb dX2_bars_4 xi_c0 ?_
  refine xr_V (V := fun v => some (.int v)) (n := 2) (fr := 0) (lo := 0) (As := [.int a1, .int (0 : Int32)]) C hS xf_X2 (lw_V q888 q890 qs23 q60 q891) hdv_X2_of ⟨Nat.le_trans (Nat.le_of_ble_eq_true rfl) hR.1, Nat.le_trans (Nat.le_of_ble_eq_true rfl) hR.2⟩ rfl hl.1.1 rfl xm_r0 hf (fun v h1 k1 n1 e1 => ct_X2_of l D N e1) dX2_bars_5 (fun x5 h H locs cells slots kc ks hS hf => ?_)
  refine W.eq (g2 := F0 m 8 ls [.int x5]) rfl ?_
  refine lv_iconst (v := 1) hx hb dX2_bars_8 xi_c1 ?_
  refine lv_iadd hx hb dX2_bars_9 ?_
  refine xr_istore C dX2_bars_10 hl (Nat.le_of_ble_eq_true rfl) (lv' := [(4, .int (x5 + (1 : Int32))), (3, .int (0 : Int32)), (0, va_rf a0), (1, .int a1), (2, .int a2)]) rfl (fun ls hl => ?_)
  exact w_X2_bars_l12 C hr hR N N a0 a1 a2 (0 : Int32) (x5 + (1 : Int32))  h H locs cells slots kc ks ls hf hS (hl.sub [2, 3, 4, 1, 0] rfl)
theorem ct_X2_bars (l : Launch) (D : xh_D) {rv : Int32} {h hF : xh_H} {kc ks : Nat} (N : Nat) {a0 : Option Nat} {a1 : Int32} {a2 : Int32} (hf : f_X2_bars N a0 a1 a2 h = some (rv, hF, kc, ks)) : xh_Ct l D yX2_bars (ws_ yX2_bars cX2_bars 5 (Option.some Jvm.ClassFile.FieldType.int)) 3 68 [va_rf a0, .int a1, .int a2] h (some (.int rv)) hF kc ks :=
  xh_meth (cc := cX2_bars) l (by decide) (Nat.le_of_ble_eq_true rfl) (List.forall_mem_cons.mpr ⟨va_rf_cat _, List.forall_mem_cons.mpr ⟨rfl, List.forall_mem_cons.mpr ⟨rfl, fun _ h => absurd h List.not_mem_nil⟩⟩⟩) fun p e s m below meth c ls C hr hnm hl hS => w_X2_bars C hr ⟨Nat.le_refl _, Nat.le_refl _⟩ N a0 a1 a2 h _ _ _ _ _ _ _ hf hS hl
/-- SungSlidesModel.share(I)I -/
theorem w_X2_share (C : xh_C cX2_share 2 "SungSlidesModel" D g p s m args meth c) (hr : meth.sig.returnType = (Option.some Jvm.ClassFile.FieldType.int)) (hR : 1 ≤ R.frames ∧ 22 ≤ R.locals) {rv : Int32} {hF : xh_H} (N : Nat) (a0 : Option Nat) (a1 : Int32)  (h : xh_H) (H : Heap) (locs : List Loc) (cells slots kc ks : Nat) (ls : Array Slot) (hf : f_X2_share N a0 a1 h = some (rv, hF, kc, ks)) (hS : xh_T D g s R h H locs cells slots kc ks) (hl : xh_L ls 2 [(0, va_rf a0), (1, .int a1)]) : W p l e R s m args below meth c H locs cells slots (MQ below (xh_Q D g (some (.int rv)) hF) args s R.cells R.slots (xh_A g)) (F0 m 0 ls []) := by
  have hx := C.1
  have hb := C.2.1
  unfold f_X2_share at hf
  refine xr_aload_n C dX2_share_0 rfl (hl.at 0 rfl) ?_
  refine xr_getR C hS xf_X2 8 (by decide) q825 (fun _ h => h) hf dX2_share_1 (fun x1 hf => ?_)
  refine lv_iload_n hx hb dX2_share_4 rfl (hl.at 1 rfl) ?_
  refine xr_iald C hS hf dX2_share_5 (fun x5 hf => ?_)
  refine lv_bipush (v := 100) hx hb dX2_share_6 xi_b100 ?_
  refine lv_imul hx hb dX2_share_8 ?_
  refine xr_aload_n C dX2_share_9 rfl (hl.at 0 rfl) ?_
  refine lv_iload_n hx hb dX2_share_10 rfl (hl.at 1 rfl) ?_
  refine lv_iconst (v := 1) hx hb dX2_share_11 xi_c1 ?_
  refine xr_V (V := fun v => some (.int v)) (n := 2) (fr := 0) (lo := 0) (As := [.int a1, .int (1 : Int32)]) C hS xf_X2 (lw_V q888 q890 qs23 q60 q891) hdv_X2_of ⟨Nat.le_trans (Nat.le_of_ble_eq_true rfl) hR.1, Nat.le_trans (Nat.le_of_ble_eq_true rfl) hR.2⟩ rfl hl.1.1 rfl (xm_rc rfl xm_r0) hf (fun v h1 k1 n1 e1 => ct_X2_of l D N e1) dX2_share_12 (fun x12 h H locs cells slots kc ks hS hf => ?_)
  refine W.eq (g2 := F0 m 15 ls [.int x12, .int (x5 * (100 : Int32))]) rfl ?_
  obtain ⟨c15, hf⟩ := xb_nif hf
  refine lv_idiv hx hb dX2_share_15 c15 ?_
  exact xr_iret C hS hr hf dX2_share_16
theorem ct_X2_share (l : Launch) (D : xh_D) {rv : Int32} {h hF : xh_H} {kc ks : Nat} (N : Nat) {a0 : Option Nat} {a1 : Int32} (hf : f_X2_share N a0 a1 h = some (rv, hF, kc, ks)) : xh_Ct l D yX2_share (ws_ yX2_share cX2_share 2 (Option.some Jvm.ClassFile.FieldType.int)) 1 22 [va_rf a0, .int a1] h (some (.int rv)) hF kc ks :=
  xh_meth (cc := cX2_share) l (by decide) (Nat.le_of_ble_eq_true rfl) (List.forall_mem_cons.mpr ⟨va_rf_cat _, List.forall_mem_cons.mpr ⟨rfl, fun _ h => absurd h List.not_mem_nil⟩⟩) fun p e s m below meth c ls C hr hnm hl hS => w_X2_share C hr ⟨Nat.le_refl _, Nat.le_refl _⟩ N a0 a1 h _ _ _ _ _ _ _ hf hS hl
end WALK
