/-! WALKS, printed by gen/walk.py -/
set_option maxRecDepth 100000
section WALK
variable {p : Program} {l : Launch} {e : Env} {s : State} {m : MethodId} {args : Array Value} {below : List Frame} {meth : Method} {c : Code} {D : xh_D} {g : Nat → Nat} {R : Room}
/-- SungSlidesModel.pointsOf(I)I -/
theorem w_X2_pointsOf (C : xh_C cX2_pointsOf 3 "SungSlidesModel" D g p s m args meth c) (hr : meth.sig.returnType = (Option.some Jvm.ClassFile.FieldType.int)) (hR : 4 ≤ R.frames ∧ 92 ≤ R.locals) {rv : Int32} {hF : xh_H} (N : Nat) (a0 : Option Nat) (a1 : Int32)  (h : xh_H) (H : Heap) (locs : List Loc) (cells slots kc ks : Nat) (ls : Array Slot) (hf : f_X2_pointsOf N a0 a1 h = some (rv, hF, kc, ks)) (hS : xh_T D g s R h H locs cells slots kc ks) (hl : xh_L ls 3 [(0, va_rf a0), (1, .int a1)]) : W p l e R s m args below meth c H locs cells slots (MQ below (xh_Q D g (some (.int rv)) hF) args s R.cells R.slots (xh_A g)) (F0 m 0 ls []) := by
  have hx := C.1
  have hb := C.2.1
  unfold f_X2_pointsOf at hf
  refine xr_aload_n C dX2_pointsOf_0 rfl (hl.at 0 rfl) ?_
  refine xr_getR C hS xf_X2 10 (by decide) q827 (fun _ h => h) hf dX2_pointsOf_1 (fun x1 hf => ?_)
  refine lv_iload_n hx hb dX2_pointsOf_4 rfl (hl.at 1 rfl) ?_
  refine xr_iald C hS hf dX2_pointsOf_5 (fun x5 hf => ?_)
  refine lv_if_eq (tgt := 11) hx hb dX2_pointsOf_6 (by decide) (fun c6 => ?_) (fun c6 => ?_)
  · replace hf := xb_pos c6 hf
    refine xr_aload_n C dX2_pointsOf_11 rfl (hl.at 0 rfl) ?_
    refine lv_iload_n hx hb dX2_pointsOf_12 rfl (hl.at 1 rfl) ?_
    refine xr_V (V := fun v => some (.int v)) (n := 1) (fr := 1) (lo := 22) (As := [.int a1]) C hS xf_X2 (lw_V q960 q962 qs35 q60 q963) hdv_X2_share ⟨Nat.le_trans (Nat.le_of_ble_eq_true rfl) hR.1, Nat.le_trans (Nat.le_of_ble_eq_true rfl) hR.2⟩ rfl hl.1.1 rfl xm_r0 hf (fun v h1 k1 n1 e1 => ct_X2_share l D N e1) dX2_pointsOf_13 (fun x13 h H locs cells slots kc ks hS hf => ?_)
    refine W.eq (g2 := F0 m 16 ls [.int x13]) rfl ?_
    refine lv_iconst (v := 5) hx hb dX2_pointsOf_16 xi_c5 ?_
    refine xr_aload_n C dX2_pointsOf_17 rfl (hl.at 0 rfl) ?_
    refine lv_iload_n hx hb dX2_pointsOf_18 rfl (hl.at 1 rfl) ?_
    refine lv_iconst (v := 1) hx hb dX2_pointsOf_19 xi_c1 ?_
    refine xr_V (V := fun v => some (.int v)) (n := 2) (fr := 3) (lo := 68) (As := [.int a1, .int (1 : Int32)]) C hS xf_X2 (lw_V q968 q970 qs37 q60 q971) hdv_X2_bars ⟨Nat.le_trans (Nat.le_of_ble_eq_true rfl) hR.1, Nat.le_trans (Nat.le_of_ble_eq_true rfl) hR.2⟩ rfl hl.1.1 rfl (xm_rc rfl (xm_rc rfl xm_r0)) hf (fun v h1 k1 n1 e1 => ct_X2_bars l D N e1) dX2_pointsOf_20 (fun x20 h H locs cells slots kc ks hS hf => ?_)
    refine W.eq (g2 := F0 m 23 ls [.int x20, .int (5 : Int32), .int x13]) rfl ?_
    refine lv_imul hx hb dX2_pointsOf_23 ?_
    refine lv_iadd hx hb dX2_pointsOf_24 ?_
    refine lv_iconst (v := 2) hx hb dX2_pointsOf_25 xi_c2 ?_
    refine xr_aload_n C dX2_pointsOf_26 rfl (hl.at 0 rfl) ?_
    refine xr_getR C hS xf_X2 9 (by decide) q826 (fun _ h => h) hf dX2_pointsOf_27 (fun x27 hf => ?_)
    refine lv_iload_n hx hb dX2_pointsOf_30 rfl (hl.at 1 rfl) ?_
    refine xr_iald C hS hf dX2_pointsOf_31 (fun x31 hf => ?_)
    refine xr_aload_n C dX2_pointsOf_32 rfl (hl.at 0 rfl) ?_
    refine lv_iload_n hx hb dX2_pointsOf_33 rfl (hl.at 1 rfl) ?_
    refine lv_iconst (v := 0) hx hb dX2_pointsOf_34 xi_c0 ?_
    refine xr_V (V := fun v => some (.int v)) (n := 2) (fr := 0) (lo := 0) (As := [.int a1, .int (0 : Int32)]) C hS xf_X2 (lw_V q888 q890 qs23 q60 q891) hdv_X2_of ⟨Nat.le_trans (Nat.le_of_ble_eq_true rfl) hR.1, Nat.le_trans (Nat.le_of_ble_eq_true rfl) hR.2⟩ rfl hl.1.1 rfl (xm_rc rfl (xm_rc rfl (xm_rc rfl xm_r0))) hf (fun v h1 k1 n1 e1 => ct_X2_of l D N e1) dX2_pointsOf_35 (fun x35 h H locs cells slots kc ks hS hf => ?_)
    refine W.eq (g2 := F0 m 38 ls [.int x35, .int x31, .int (2 : Int32), .int (x13 + ((5 : Int32) * x20))]) rfl ?_
    refine lv_isub hx hb dX2_pointsOf_38 ?_
    refine xr_S (V := fun v => some (.int v)) (n := 1) (fr := 0) (lo := 0) (As := [.int (x31 - x35)]) C hS (lw_S q945 q946 q60 q947) hd_X2_size ⟨Nat.le_trans (Nat.le_of_ble_eq_true rfl) hR.1, Nat.le_trans (Nat.le_of_ble_eq_true rfl) hR.2⟩ rfl hl.1.1 rfl (xm_rc rfl (xm_rc rfl xm_r0)) hf (fun v h1 k1 n1 e1 => ct_X2_size l D N e1) dX2_pointsOf_39 (fun x39 h H locs cells slots kc ks hS hf => ?_)
    refine W.eq (g2 := F0 m 42 ls [.int x39, .int (2 : Int32), .int (x13 + ((5 : Int32) * x20))]) rfl ?_
    refine lv_imul hx hb dX2_pointsOf_42 ?_
    refine lv_isub hx hb dX2_pointsOf_43 ?_
    refine xr_istore_n C dX2_pointsOf_44 rfl hl (Nat.le_of_ble_eq_true rfl) (lv' := [(2, .int ((x13 + ((5 : Int32) * x20)) - ((2 : Int32) * x39))), (0, va_rf a0), (1, .int a1)]) rfl (fun ls hl => ?_)
    refine lv_iload_n hx hb dX2_pointsOf_45 rfl (hl.at 0 rfl) ?_
    refine lv_if_ge (tgt := 53) hx hb dX2_pointsOf_46 (by decide) (fun c46 => ?_) (fun c46 => ?_)
    · replace hf := xb_pos c46 hf
      refine lv_iload_n hx hb dX2_pointsOf_53 rfl (hl.at 0 rfl) ?_
      refine lv_bipush (v := 10) hx hb dX2_pointsOf_54 xi_b10 ?_
      refine xr_aload_n C dX2_pointsOf_56 rfl (hl.at 1 rfl) ?_
      refine xr_getR C hS xf_X2 11 (by decide) q828 (fun _ h => h) hf dX2_pointsOf_57 (fun x57 hf => ?_)
      refine lv_iload_n hx hb dX2_pointsOf_60 rfl (hl.at 2 rfl) ?_
      refine xr_iald C hS hf dX2_pointsOf_61 (fun x61 hf => ?_)
      refine lv_iadd hx hb dX2_pointsOf_62 ?_
      refine lv_imul hx hb dX2_pointsOf_63 ?_
      refine lv_bipush (v := 10) hx hb dX2_pointsOf_64 xi_b10 ?_
      refine lv_idiv hx hb dX2_pointsOf_66 (by decide) ?_
      exact xr_iret C hS hr hf dX2_pointsOf_67
    · replace hf := xb_neg c46 hf
      refine lv_iconst (v := 0) hx hb dX2_pointsOf_49 xi_c0 ?_
      refine lv_goto (tgt := 67) hx hb dX2_pointsOf_50 (by decide) ?_
      exact xr_iret C hS hr hf dX2_pointsOf_67
  · replace hf := xb_neg c6 hf
    refine lv_iconst (v := 0) hx hb dX2_pointsOf_9 xi_c0 ?_
    exact xr_iret C hS hr hf dX2_pointsOf_10
theorem ct_X2_pointsOf (l : Launch) (D : xh_D) {rv : Int32} {h hF : xh_H} {kc ks : Nat} (N : Nat) {a0 : Option Nat} {a1 : Int32} (hf : f_X2_pointsOf N a0 a1 h = some (rv, hF, kc, ks)) : xh_Ct l D yX2_pointsOf (ws_ yX2_pointsOf cX2_pointsOf 3 (Option.some Jvm.ClassFile.FieldType.int)) 4 92 [va_rf a0, .int a1] h (some (.int rv)) hF kc ks :=
  xh_meth (cc := cX2_pointsOf) l (by decide) (Nat.le_of_ble_eq_true rfl) (List.forall_mem_cons.mpr ⟨va_rf_cat _, List.forall_mem_cons.mpr ⟨rfl, fun _ h => absurd h List.not_mem_nil⟩⟩) fun p e s m below meth c ls C hr hnm hl hS => w_X2_pointsOf C hr ⟨Nat.le_refl _, Nat.le_refl _⟩ N a0 a1 h _ _ _ _ _ _ _ hf hS hl
def K_X2_reasonOf_9 (p : Program) (l : Launch) (e : Env) (s : State) (m : MethodId) (args : Array Value) (below : List Frame) (meth : Method) (c : Code) (D : xh_D) (g : Nat → Nat) (R : Room) (rv : Int32) (hF : xh_H) (k : Option Nat → Int32 → Int32 → Int32 → xh_H → xh_R Int32) : Prop := ∀ (a0 : Option Nat) (a1 : Int32) (a2 : Int32) (a3 : Int32) (h : xh_H) (H : Heap) (locs : List Loc) (cells slots kc ks : Nat) (ls : Array Slot), k a0 a1 a2 a3 h = some (rv, hF, kc, ks) → xh_T D g s R h H locs cells slots kc ks → xh_L ls 4 [(0, va_rf a0), (1, .int a1), (2, .int a2), (3, .int a3)] → W p l e R s m args below meth c H locs cells slots (MQ below (xh_Q D g (some (.int rv)) hF) args s R.cells R.slots (xh_A g)) (F0 m 9 ls [])
theorem w_X2_reasonOf_b41 (C : xh_C cX2_reasonOf 4 "SungSlidesModel" D g p s m args meth c) (hr : meth.sig.returnType = (Option.some Jvm.ClassFile.FieldType.int)) (hR : 2 ≤ R.frames ∧ 43 ≤ R.locals) {rv : Int32} {hF : xh_H} (N : Nat) : ∀ (a0 : Option Nat) (a1 : Int32) (a2 : Int32) (h : xh_H) (H : Heap) (locs : List Loc) (cells slots kc ks : Nat) (ls : Array Slot), f_X2_reasonOf_b41 N a0 a1 a2 h = some (rv, hF, kc, ks) → xh_T D g s R h H locs cells slots kc ks → xh_L ls 4 [(0, va_rf a0), (1, .int a1), (2, .int a2)] → W p l e R s m args below meth c H locs cells slots (MQ below (xh_Q D g (some (.int rv)) hF) args s R.cells R.slots (xh_A g)) (F0 m 41 ls []) := by
  intro a0 a1 a2 h H locs cells slots kc ks ls hf hS hl
  have hx := C.1
  have hb := C.2.1
  unfold f_X2_reasonOf_b41 at hf
  refine lv_iload_n hx hb dX2_reasonOf_41 rfl (hl.at 2 rfl) ?_
  refine lv_if_ne (tgt := 47) hx hb dX2_reasonOf_42 (by decide) (fun c42 => ?_) (fun c42 => ?_)
  · replace hf := xb_neg c42 hf
    refine xr_aload_n C dX2_reasonOf_47 rfl (hl.at 0 rfl) ?_
    refine xr_getR C hS xf_X2 8 (by decide) q825 (fun _ h => h) hf dX2_reasonOf_48 (fun x48 hf => ?_)
    refine lv_iload_n hx hb dX2_reasonOf_51 rfl (hl.at 1 rfl) ?_
    refine xr_iald C hS hf dX2_reasonOf_52 (fun x52 hf => ?_)
    refine lv_if_ne (tgt := 60) hx hb dX2_reasonOf_53 (by decide) (fun c53 => ?_) (fun c53 => ?_)
    · replace hf := xb_neg c53 hf
      refine xr_aload_n C dX2_reasonOf_60 rfl (hl.at 0 rfl) ?_
      refine xr_getR C hS xf_X2 9 (by decide) q826 (fun _ h => h) hf dX2_reasonOf_61 (fun x61 hf => ?_)
      refine lv_iload_n hx hb dX2_reasonOf_64 rfl (hl.at 1 rfl) ?_
      refine xr_iald C hS hf dX2_reasonOf_65 (fun x65 hf => ?_)
      refine lv_bipush (v := -5) hx hb dX2_reasonOf_66 xi_bm5 ?_
      refine lv_icmp_ne (tgt := 75) hx hb dX2_reasonOf_68 (by decide) (fun c68 => ?_) (fun c68 => ?_)
      · replace hf := xb_neg c68 hf
        refine xr_aload_n C dX2_reasonOf_75 rfl (hl.at 0 rfl) ?_
        refine lv_iload_n hx hb dX2_reasonOf_76 rfl (hl.at 1 rfl) ?_
        refine xr_V (V := fun v => some (.int v)) (n := 1) (fr := 1) (lo := 22) (As := [.int a1]) C hS xf_X2 (lw_V q960 q962 qs35 q60 q963) hdv_X2_share ⟨Nat.le_trans (Nat.le_of_ble_eq_true rfl) hR.1, Nat.le_trans (Nat.le_of_ble_eq_true rfl) hR.2⟩ rfl hl.1.1 rfl xm_r0 hf (fun v h1 k1 n1 e1 => ct_X2_share l D N e1) dX2_reasonOf_77 (fun x77 h H locs cells slots kc ks hS hf => ?_)
        refine W.eq (g2 := F0 m 80 ls [.int x77]) rfl ?_
        refine xr_aload_n C dX2_reasonOf_80 rfl (hl.at 0 rfl) ?_
        refine xr_getR C hS xf_X2 0 (by decide) q817 (fun _ h => h) hf dX2_reasonOf_81 (fun x81 hf => ?_)
        refine lv_iconst (v := 4) hx hb dX2_reasonOf_84 xi_c4 ?_
        refine xr_iald C hS hf dX2_reasonOf_85 (fun x85 hf => ?_)
        refine lv_icmp_ge (tgt := 93) hx hb dX2_reasonOf_86 (by decide) (fun c86 => ?_) (fun c86 => ?_)
        · replace hf := xb_pos c86 hf
          refine lv_iconst (v := 0) hx hb dX2_reasonOf_93 xi_c0 ?_
          exact xr_iret C hS hr hf dX2_reasonOf_94
        · replace hf := xb_neg c86 hf
          refine lv_iconst (v := 4) hx hb dX2_reasonOf_89 xi_c4 ?_
          refine lv_goto (tgt := 94) hx hb dX2_reasonOf_90 (by decide) ?_
          exact xr_iret C hS hr hf dX2_reasonOf_94
      · replace hf := xb_pos c68 hf
        refine lv_iconst (v := 3) hx hb dX2_reasonOf_71 xi_c3 ?_
        refine lv_goto (tgt := 94) hx hb dX2_reasonOf_72 (by decide) ?_
        exact xr_iret C hS hr hf dX2_reasonOf_94
    · replace hf := xb_pos c53 hf
      refine lv_iconst (v := 2) hx hb dX2_reasonOf_56 xi_c2 ?_
      refine lv_goto (tgt := 94) hx hb dX2_reasonOf_57 (by decide) ?_
      exact xr_iret C hS hr hf dX2_reasonOf_94
  · replace hf := xb_pos c42 hf
    refine lv_iconst (v := 1) hx hb dX2_reasonOf_45 xi_c1 ?_
    exact xr_iret C hS hr hf dX2_reasonOf_46
theorem w_X2_reasonOf_b33 (C : xh_C cX2_reasonOf 4 "SungSlidesModel" D g p s m args meth c) (hr : meth.sig.returnType = (Option.some Jvm.ClassFile.FieldType.int)) (hR : 2 ≤ R.frames ∧ 43 ≤ R.locals) {rv : Int32} {hF : xh_H} (N : Nat) {k9 : Option Nat → Int32 → Int32 → Int32 → xh_H → xh_R Int32} (hk9 : K_X2_reasonOf_9 p l e s m args below meth c D g R rv hF k9) : ∀ (a0 : Option Nat) (a1 : Int32) (a3 : Int32) (t0 : Int32) (t1 : Int32) (h : xh_H) (H : Heap) (locs : List Loc) (cells slots kc ks : Nat) (ls : Array Slot), f_X2_reasonOf_b33 N k9 a0 a1 a3 t0 t1 h = some (rv, hF, kc, ks) → xh_T D g s R h H locs cells slots kc ks → xh_L ls 4 [(0, va_rf a0), (1, .int a1), (3, .int a3)] → W p l e R s m args below meth c H locs cells slots (MQ below (xh_Q D g (some (.int rv)) hF) args s R.cells R.slots (xh_A g)) (F0 m 33 ls [.int t1, .int t0]) := by
  intro a0 a1 a3 t0 t1 h H locs cells slots kc ks ls hf hS hl
  have hx := C.1
  have hb := C.2.1
  unfold f_X2_reasonOf_b33 at hf
  refine lv_iadd hx hb dX2_reasonOf_33 ?_
  refine xr_istore_n C dX2_reasonOf_34 rfl hl (Nat.le_of_ble_eq_true rfl) (lv' := [(2, .int (t0 + t1)), (0, va_rf a0), (1, .int a1), (3, .int a3)]) rfl (fun ls hl => ?_)
  refine xr_iinc C dX2_reasonOf_35 hl (k := 3) rfl (xi_inc xi_c1) (Nat.le_of_ble_eq_true rfl) (lv' := [(3, .int (a3 + (1 : Int32))), (2, .int (t0 + t1)), (0, va_rf a0), (1, .int a1)]) rfl (fun ls hl => ?_)
  refine lv_goto (tgt := 9) hx hb dX2_reasonOf_38 (by decide) ?_
  exact hk9 a0 a1 (t0 + t1) (a3 + (1 : Int32))  h H locs cells slots kc ks ls hf hS (hl.sub [2, 3, 1, 0] rfl)
theorem w_X2_reasonOf_b9 (C : xh_C cX2_reasonOf 4 "SungSlidesModel" D g p s m args meth c) (hr : meth.sig.returnType = (Option.some Jvm.ClassFile.FieldType.int)) (hR : 2 ≤ R.frames ∧ 43 ≤ R.locals) {rv : Int32} {hF : xh_H} (N : Nat) {k9 : Option Nat → Int32 → Int32 → Int32 → xh_H → xh_R Int32} (hk9 : K_X2_reasonOf_9 p l e s m args below meth c D g R rv hF k9) : ∀ (a0 : Option Nat) (a1 : Int32) (a2 : Int32) (a3 : Int32) (h : xh_H) (H : Heap) (locs : List Loc) (cells slots kc ks : Nat) (ls : Array Slot), f_X2_reasonOf_b9 N k9 a0 a1 a2 a3 h = some (rv, hF, kc, ks) → xh_T D g s R h H locs cells slots kc ks → xh_L ls 4 [(0, va_rf a0), (1, .int a1), (2, .int a2), (3, .int a3)] → W p l e R s m args below meth c H locs cells slots (MQ below (xh_Q D g (some (.int rv)) hF) args s R.cells R.slots (xh_A g)) (F0 m 9 ls []) := by
  intro a0 a1 a2 a3 h H locs cells slots kc ks ls hf hS hl
  have hx := C.1
  have hb := C.2.1
  unfold f_X2_reasonOf_b9 at hf
  refine lv_iload_n hx hb dX2_reasonOf_9 rfl (hl.at 3 rfl) ?_
  refine xr_aload_n C dX2_reasonOf_10 rfl (hl.at 0 rfl) ?_
  refine lv_iload_n hx hb dX2_reasonOf_11 rfl (hl.at 1 rfl) ?_
  refine xr_V (V := fun v => some (.int v)) (n := 1) (fr := 1) (lo := 22) (As := [.int a1]) C hS xf_X2 (lw_V q884 q886 qs22 q60 q887) hdv_X2_behind ⟨Nat.le_trans (Nat.le_of_ble_eq_true rfl) hR.1, Nat.le_trans (Nat.le_of_ble_eq_true rfl) hR.2⟩ rfl hl.1.1 rfl (xm_rc rfl xm_r0) hf (fun v h1 k1 n1 e1 => ct_X2_behind l D N e1) dX2_reasonOf_12 (fun x12 h H locs cells slots kc ks hS hf => ?_)
  refine W.eq (g2 := F0 m 15 ls [.int x12, .int a3]) rfl ?_
  refine lv_icmp_ge (tgt := 41) hx hb dX2_reasonOf_15 (by decide) (fun c15 => ?_) (fun c15 => ?_)
  · replace hf := xb_pos c15 hf
    exact w_X2_reasonOf_b41 C hr hR N a0 a1 a2  h H locs cells slots kc ks ls hf hS (hl.sub [0, 1, 2] rfl)
  · replace hf := xb_neg c15 hf
    refine lv_iload_n hx hb dX2_reasonOf_18 rfl (hl.at 2 rfl) ?_
    refine xr_aload_n C dX2_reasonOf_19 rfl (hl.at 0 rfl) ?_
    refine xr_getR C hS xf_X2 7 (by decide) q824 (fun _ h => h) hf dX2_reasonOf_20 (fun x20 hf => ?_)
    refine lv_iload_n hx hb dX2_reasonOf_23 rfl (hl.at 3 rfl) ?_
    refine xr_iald C hS hf dX2_reasonOf_24 (fun x24 hf => ?_)
    refine lv_if_le (tgt := 32) hx hb dX2_reasonOf_25 (by decide) (fun c25 => ?_) (fun c25 => ?_)
    · replace hf := xb_pos c25 hf
      refine lv_iconst (v := 0) hx hb dX2_reasonOf_32 xi_c0 ?_
      exact w_X2_reasonOf_b33 C hr hR N hk9 a0 a1 a3 a2 (0 : Int32) h H locs cells slots kc ks ls hf hS (hl.sub [0, 1, 3] rfl)
    · replace hf := xb_neg c25 hf
      refine lv_iconst (v := 1) hx hb dX2_reasonOf_28 xi_c1 ?_
      refine lv_goto (tgt := 33) hx hb dX2_reasonOf_29 (by decide) ?_
      exact w_X2_reasonOf_b33 C hr hR N hk9 a0 a1 a3 a2 (1 : Int32) h H locs cells slots kc ks ls hf hS (hl.sub [0, 1, 3] rfl)
theorem w_X2_reasonOf_l9 (C : xh_C cX2_reasonOf 4 "SungSlidesModel" D g p s m args meth c) (hr : meth.sig.returnType = (Option.some Jvm.ClassFile.FieldType.int)) (hR : 2 ≤ R.frames ∧ 43 ≤ R.locals) {rv : Int32} {hF : xh_H} (N : Nat) : ∀ n : Nat, K_X2_reasonOf_9 p l e s m args below meth c D g R rv hF (f_X2_reasonOf_l9 N n) := by
  intro n
  induction n with
  | zero => exact fun a0 a1 a2 a3 h H locs cells slots kc ks ls hf => absurd (show (none : xh_R Int32) = some _ from hf) (by intro q; cases q)
  | succ n ih => exact fun a0 a1 a2 a3 h H locs cells slots kc ks ls hf => w_X2_reasonOf_b9 C hr hR N ih a0 a1 a2 a3 h H locs cells slots kc ks ls hf
/-- SungSlidesModel.reasonOf(I)I -/
theorem w_X2_reasonOf (C : xh_C cX2_reasonOf 4 "SungSlidesModel" D g p s m args meth c) (hr : meth.sig.returnType = (Option.some Jvm.ClassFile.FieldType.int)) (hR : 2 ≤ R.frames ∧ 43 ≤ R.locals) {rv : Int32} {hF : xh_H} (N : Nat) (a0 : Option Nat) (a1 : Int32)  (h : xh_H) (H : Heap) (locs : List Loc) (cells slots kc ks : Nat) (ls : Array Slot) (hf : f_X2_reasonOf N a0 a1 h = some (rv, hF, kc, ks)) (hS : xh_T D g s R h H locs cells slots kc ks) (hl : xh_L ls 4 [(0, va_rf a0), (1, .int a1)]) : W p l e R s m args below meth c H locs cells slots (MQ below (xh_Q D g (some (.int rv)) hF) args s R.cells R.slots (xh_A g)) (F0 m 0 ls []) := by
  have hx := C.1
  have hb := C.2.1
  unfold f_X2_reasonOf at hf
  refine lv_iconst (v := 0) hx hb dX2_reasonOf_0 xi_c0 ?_
  refine xr_istore_n C dX2_reasonOf_1 rfl hl (Nat.le_of_ble_eq_true rfl) (lv' := [(2, .int (0 : Int32)), (0, va_rf a0), (1, .int a1)]) rfl (fun ls hl => ?_)
  refine xr_aload_n C dX2_reasonOf_2 rfl (hl.at 1 rfl) ?_
  refine lv_iload_n hx hb dX2_reasonOf_3 rfl (hl.at 2 rfl) ?_
  refine lv_iconst (v := 0) hx hb dX2_reasonOf_4 xi_c0 ?_
  refine xr_V (V := fun v => some (.int v)) (n := 2) (fr := 0) (lo := 0) (As := [.int a1, .int (0 : Int32)]) C hS xf_X2 (lw_V q888 q890 qs23 q60 q891) hdv_X2_of ⟨Nat.le_trans (Nat.le_of_ble_eq_true rfl) hR.1, Nat.le_trans (Nat.le_of_ble_eq_true rfl) hR.2⟩ rfl hl.1.1 rfl xm_r0 hf (fun v h1 k1 n1 e1 => ct_X2_of l D N e1) dX2_reasonOf_5 (fun x5 h H locs cells slots kc ks hS hf => ?_)
  refine W.eq (g2 := F0 m 8 ls [.int x5]) rfl ?_
  refine xr_istore_n C dX2_reasonOf_8 rfl hl (Nat.le_of_ble_eq_true rfl) (lv' := [(3, .int x5), (2, .int (0 : Int32)), (0, va_rf a0), (1, .int a1)]) rfl (fun ls hl => ?_)
  exact w_X2_reasonOf_l9 C hr hR N N a0 a1 (0 : Int32) x5  h H locs cells slots kc ks ls hf hS (hl.sub [2, 3, 1, 0] rfl)
theorem ct_X2_reasonOf (l : Launch) (D : xh_D) {rv : Int32} {h hF : xh_H} {kc ks : Nat} (N : Nat) {a0 : Option Nat} {a1 : Int32} (hf : f_X2_reasonOf N a0 a1 h = some (rv, hF, kc, ks)) : xh_Ct l D yX2_reasonOf (ws_ yX2_reasonOf cX2_reasonOf 4 (Option.some Jvm.ClassFile.FieldType.int)) 2 43 [va_rf a0, .int a1] h (some (.int rv)) hF kc ks :=
  xh_meth (cc := cX2_reasonOf) l (by decide) (Nat.le_of_ble_eq_true rfl) (List.forall_mem_cons.mpr ⟨va_rf_cat _, List.forall_mem_cons.mpr ⟨rfl, fun _ h => absurd h List.not_mem_nil⟩⟩) fun p e s m below meth c ls C hr hnm hl hS => w_X2_reasonOf C hr ⟨Nat.le_refl _, Nat.le_refl _⟩ N a0 a1 h _ _ _ _ _ _ _ hf hS hl
def K_X2_judge_4 (p : Program) (l : Launch) (e : Env) (s : State) (m : MethodId) (args : Array Value) (below : List Frame) (meth : Method) (c : Code) (D : xh_D) (g : Nat → Nat) (R : Room) (rv : Unit) (hF : xh_H) (k : Option Nat → Int32 → Int32 → xh_H → xh_R Unit) : Prop := ∀ (a0 : Option Nat) (a1 : Int32) (a2 : Int32) (h : xh_H) (H : Heap) (locs : List Loc) (cells slots kc ks : Nat) (ls : Array Slot), k a0 a1 a2 h = some (rv, hF, kc, ks) → xh_T D g s R h H locs cells slots kc ks → xh_L ls 4 [(0, va_rf a0), (1, .int a1), (2, .int a2)] → W p l e R s m args below meth c H locs cells slots (MQ below (xh_Q D g none hF) args s R.cells R.slots (xh_A g)) (F0 m 4 ls [])
def K_X2_judge_28 (p : Program) (l : Launch) (e : Env) (s : State) (m : MethodId) (args : Array Value) (below : List Frame) (meth : Method) (c : Code) (D : xh_D) (g : Nat → Nat) (R : Room) (rv : Unit) (hF : xh_H) (k : Option Nat → Int32 → Int32 → Int32 → xh_H → xh_R Unit) : Prop := ∀ (a0 : Option Nat) (a1 : Int32) (a2 : Int32) (a3 : Int32) (h : xh_H) (H : Heap) (locs : List Loc) (cells slots kc ks : Nat) (ls : Array Slot), k a0 a1 a2 a3 h = some (rv, hF, kc, ks) → xh_T D g s R h H locs cells slots kc ks → xh_L ls 4 [(0, va_rf a0), (1, .int a1), (2, .int a2), (3, .int a3)] → W p l e R s m args below meth c H locs cells slots (MQ below (xh_Q D g none hF) args s R.cells R.slots (xh_A g)) (F0 m 28 ls [])
theorem w_X2_judge_b138 (C : xh_C cX2_judge 4 "SungSlidesModel" D g p s m args meth c) (hr : meth.sig.returnType = (Option.none : Option Jvm.ClassFile.FieldType)) (hR : 5 ≤ R.frames ∧ 114 ≤ R.locals) {rv : Unit} {hF : xh_H} (N : Nat) {k4 : Option Nat → Int32 → Int32 → xh_H → xh_R Unit} (hk4 : K_X2_judge_4 p l e s m args below meth c D g R rv hF k4) : ∀ (a0 : Option Nat) (a2 : Int32) (t0 : Int32) (h : xh_H) (H : Heap) (locs : List Loc) (cells slots kc ks : Nat) (ls : Array Slot), f_X2_judge_b138 N k4 a0 a2 t0 h = some (rv, hF, kc, ks) → xh_T D g s R h H locs cells slots kc ks → xh_L ls 4 [(0, va_rf a0), (2, .int a2)] → W p l e R s m args below meth c H locs cells slots (MQ below (xh_Q D g none hF) args s R.cells R.slots (xh_A g)) (F0 m 138 ls [.int t0]) := by
  intro a0 a2 t0 h H locs cells slots kc ks ls hf hS hl
  have hx := C.1
  have hb := C.2.1
  unfold f_X2_judge_b138 at hf
  refine xr_istore_n C dX2_judge_138 rfl hl (Nat.le_of_ble_eq_true rfl) (lv' := [(1, .int t0), (0, va_rf a0), (2, .int a2)]) rfl (fun ls hl => ?_)
  refine xr_aload_n C dX2_judge_139 rfl (hl.at 1 rfl) ?_
  refine xr_getR C hS xf_X2 12 (by decide) q829 (fun _ h => h) hf dX2_judge_140 (fun x140 hf => ?_)
  refine lv_iload_n hx hb dX2_judge_143 rfl (hl.at 2 rfl) ?_
  refine xr_aload_n C dX2_judge_144 rfl (hl.at 1 rfl) ?_
  refine lv_iload_n hx hb dX2_judge_145 rfl (hl.at 2 rfl) ?_
  refine xr_V (V := fun v => some (.int v)) (n := 1) (fr := 4) (lo := 92) (As := [.int a2]) C hS xf_X2 (lw_V q964 q966 qs36 q60 q967) hdv_X2_pointsOf ⟨Nat.le_trans (Nat.le_of_ble_eq_true rfl) hR.1, Nat.le_trans (Nat.le_of_ble_eq_true rfl) hR.2⟩ rfl hl.1.1 rfl (xm_rc rfl (xm_rc (va_rf_cat _) xm_r0)) hf (fun v h1 k1 n1 e1 => ct_X2_pointsOf l D N e1) dX2_judge_146 (fun x146 h H locs cells slots kc ks hS hf => ?_)
  refine W.eq (g2 := F0 m 149 ls [.int x146, .int a2, va_rf x140]) rfl ?_
  refine xr_iast C hS hf dX2_judge_149 (fun h H locs hS hf => ?_)
  refine xr_iinc C dX2_judge_150 hl (k := 2) rfl (xi_inc xi_c1) (Nat.le_of_ble_eq_true rfl) (lv' := [(2, .int (a2 + (1 : Int32))), (1, .int t0), (0, va_rf a0)]) rfl (fun ls hl => ?_)
  refine lv_goto (tgt := 4) hx hb dX2_judge_153 (by decide) ?_
  exact hk4 a0 t0 (a2 + (1 : Int32))  h H locs cells slots kc ks ls hf hS (hl.sub [2, 1, 0] rfl)
theorem w_X2_judge_b121 (C : xh_C cX2_judge 4 "SungSlidesModel" D g p s m args meth c) (hr : meth.sig.returnType = (Option.none : Option Jvm.ClassFile.FieldType)) (hR : 5 ≤ R.frames ∧ 114 ≤ R.locals) {rv : Unit} {hF : xh_H} (N : Nat) {k4 : Option Nat → Int32 → Int32 → xh_H → xh_R Unit} (hk4 : K_X2_judge_4 p l e s m args below meth c D g R rv hF k4) : ∀ (a0 : Option Nat) (a1 : Int32) (a2 : Int32) (t0 : Option Nat) (t1 : Int32) (t2 : Int32) (h : xh_H) (H : Heap) (locs : List Loc) (cells slots kc ks : Nat) (ls : Array Slot), f_X2_judge_b121 N k4 a0 a1 a2 t0 t1 t2 h = some (rv, hF, kc, ks) → xh_T D g s R h H locs cells slots kc ks → xh_L ls 4 [(0, va_rf a0), (1, .int a1), (2, .int a2)] → W p l e R s m args below meth c H locs cells slots (MQ below (xh_Q D g none hF) args s R.cells R.slots (xh_A g)) (F0 m 121 ls [.int t2, .int t1, va_rf t0]) := by
  intro a0 a1 a2 t0 t1 t2 h H locs cells slots kc ks ls hf hS hl
  have hx := C.1
  have hb := C.2.1
  unfold f_X2_judge_b121 at hf
  refine xr_iast C hS hf dX2_judge_121 (fun h H locs hS hf => ?_)
  refine xr_aload_n C dX2_judge_122 rfl (hl.at 0 rfl) ?_
  refine xr_getR C hS xf_X2 10 (by decide) q827 (fun _ h => h) hf dX2_judge_123 (fun x123 hf => ?_)
  refine lv_iload_n hx hb dX2_judge_126 rfl (hl.at 2 rfl) ?_
  refine xr_iald C hS hf dX2_judge_127 (fun x127 hf => ?_)
  refine lv_if_ne (tgt := 137) hx hb dX2_judge_128 (by decide) (fun c128 => ?_) (fun c128 => ?_)
  · replace hf := xb_neg c128 hf
    refine lv_iconst (v := 0) hx hb dX2_judge_137 xi_c0 ?_
    exact w_X2_judge_b138 C hr hR N hk4 a0 a2 (0 : Int32) h H locs cells slots kc ks ls hf hS (hl.sub [0, 2] rfl)
  · replace hf := xb_pos c128 hf
    refine lv_iload_n hx hb dX2_judge_131 rfl (hl.at 1 rfl) ?_
    refine lv_iconst (v := 1) hx hb dX2_judge_132 xi_c1 ?_
    refine lv_iadd hx hb dX2_judge_133 ?_
    refine lv_goto (tgt := 138) hx hb dX2_judge_134 (by decide) ?_
    exact w_X2_judge_b138 C hr hR N hk4 a0 a2 (a1 + (1 : Int32)) h H locs cells slots kc ks ls hf hS (hl.sub [0, 2] rfl)
theorem w_X2_judge_b103 (C : xh_C cX2_judge 4 "SungSlidesModel" D g p s m args meth c) (hr : meth.sig.returnType = (Option.none : Option Jvm.ClassFile.FieldType)) (hR : 5 ≤ R.frames ∧ 114 ≤ R.locals) {rv : Unit} {hF : xh_H} (N : Nat) {k4 : Option Nat → Int32 → Int32 → xh_H → xh_R Unit} (hk4 : K_X2_judge_4 p l e s m args below meth c D g R rv hF k4) : ∀ (a0 : Option Nat) (a2 : Int32) (t0 : Int32) (h : xh_H) (H : Heap) (locs : List Loc) (cells slots kc ks : Nat) (ls : Array Slot), f_X2_judge_b103 N k4 a0 a2 t0 h = some (rv, hF, kc, ks) → xh_T D g s R h H locs cells slots kc ks → xh_L ls 4 [(0, va_rf a0), (2, .int a2)] → W p l e R s m args below meth c H locs cells slots (MQ below (xh_Q D g none hF) args s R.cells R.slots (xh_A g)) (F0 m 103 ls [.int t0]) := by
  intro a0 a2 t0 h H locs cells slots kc ks ls hf hS hl
  have hx := C.1
  have hb := C.2.1
  unfold f_X2_judge_b103 at hf
  refine xr_istore_n C dX2_judge_103 rfl hl (Nat.le_of_ble_eq_true rfl) (lv' := [(1, .int t0), (0, va_rf a0), (2, .int a2)]) rfl (fun ls hl => ?_)
  refine xr_aload_n C dX2_judge_104 rfl (hl.at 1 rfl) ?_
  refine xr_getR C hS xf_X2 11 (by decide) q828 (fun _ h => h) hf dX2_judge_105 (fun x105 hf => ?_)
  refine lv_iload_n hx hb dX2_judge_108 rfl (hl.at 2 rfl) ?_
  refine lv_iload_n hx hb dX2_judge_109 rfl (hl.at 0 rfl) ?_
  refine lv_bipush (v := 10) hx hb dX2_judge_110 xi_b10 ?_
  refine lv_icmp_ge (tgt := 119) hx hb dX2_judge_112 (by decide) (fun c112 => ?_) (fun c112 => ?_)
  · replace hf := xb_pos c112 hf
    refine lv_bipush (v := 10) hx hb dX2_judge_119 xi_b10 ?_
    exact w_X2_judge_b121 C hr hR N hk4 a0 t0 a2 x105 a2 (10 : Int32) h H locs cells slots kc ks ls hf hS (hl.sub [1, 0, 2] rfl)
  · replace hf := xb_neg c112 hf
    refine lv_iload_n hx hb dX2_judge_115 rfl (hl.at 0 rfl) ?_
    refine lv_goto (tgt := 121) hx hb dX2_judge_116 (by decide) ?_
    exact w_X2_judge_b121 C hr hR N hk4 a0 t0 a2 x105 a2 t0 h H locs cells slots kc ks ls hf hS (hl.sub [1, 0, 2] rfl)
theorem w_X2_judge_b66 (C : xh_C cX2_judge 4 "SungSlidesModel" D g p s m args meth c) (hr : meth.sig.returnType = (Option.none : Option Jvm.ClassFile.FieldType)) (hR : 5 ≤ R.frames ∧ 114 ≤ R.locals) {rv : Unit} {hF : xh_H} (N : Nat) {k4 : Option Nat → Int32 → Int32 → xh_H → xh_R Unit} (hk4 : K_X2_judge_4 p l e s m args below meth c D g R rv hF k4) : ∀ (a0 : Option Nat) (a1 : Int32) (a2 : Int32) (h : xh_H) (H : Heap) (locs : List Loc) (cells slots kc ks : Nat) (ls : Array Slot), f_X2_judge_b66 N k4 a0 a1 a2 h = some (rv, hF, kc, ks) → xh_T D g s R h H locs cells slots kc ks → xh_L ls 4 [(0, va_rf a0), (1, .int a1), (2, .int a2)] → W p l e R s m args below meth c H locs cells slots (MQ below (xh_Q D g none hF) args s R.cells R.slots (xh_A g)) (F0 m 66 ls []) := by
  intro a0 a1 a2 h H locs cells slots kc ks ls hf hS hl
  have hx := C.1
  have hb := C.2.1
  unfold f_X2_judge_b66 at hf
  refine xr_aload_n C dX2_judge_66 rfl (hl.at 0 rfl) ?_
  refine xr_getR C hS xf_X2 9 (by decide) q826 (fun _ h => h) hf dX2_judge_67 (fun x67 hf => ?_)
  refine lv_iload_n hx hb dX2_judge_70 rfl (hl.at 2 rfl) ?_
  refine xr_aload_n C dX2_judge_71 rfl (hl.at 0 rfl) ?_
  refine lv_iload_n hx hb dX2_judge_72 rfl (hl.at 2 rfl) ?_
  refine xr_V (V := fun v => some (.int v)) (n := 1) (fr := 2) (lo := 42) (As := [.int a2]) C hS xf_X2 (lw_V q948 q950 qs32 q60 q951) hdv_X2_nearestOnset ⟨Nat.le_trans (Nat.le_of_ble_eq_true rfl) hR.1, Nat.le_trans (Nat.le_of_ble_eq_true rfl) hR.2⟩ rfl hl.1.1 rfl (xm_rc rfl (xm_rc (va_rf_cat _) xm_r0)) hf (fun v h1 k1 n1 e1 => ct_X2_nearestOnset l D N e1) dX2_judge_73 (fun x73 h H locs cells slots kc ks hS hf => ?_)
  refine W.eq (g2 := F0 m 76 ls [.int x73, .int a2, va_rf x67]) rfl ?_
  refine xr_iast C hS hf dX2_judge_76 (fun h H locs hS hf => ?_)
  refine xr_aload_n C dX2_judge_77 rfl (hl.at 0 rfl) ?_
  refine xr_getR C hS xf_X2 10 (by decide) q827 (fun _ h => h) hf dX2_judge_78 (fun x78 hf => ?_)
  refine lv_iload_n hx hb dX2_judge_81 rfl (hl.at 2 rfl) ?_
  refine xr_aload_n C dX2_judge_82 rfl (hl.at 0 rfl) ?_
  refine lv_iload_n hx hb dX2_judge_83 rfl (hl.at 2 rfl) ?_
  refine xr_V (V := fun v => some (.int v)) (n := 1) (fr := 2) (lo := 43) (As := [.int a2]) C hS xf_X2 (lw_V q956 q958 qs34 q60 q959) hdv_X2_reasonOf ⟨Nat.le_trans (Nat.le_of_ble_eq_true rfl) hR.1, Nat.le_trans (Nat.le_of_ble_eq_true rfl) hR.2⟩ rfl hl.1.1 rfl (xm_rc rfl (xm_rc (va_rf_cat _) xm_r0)) hf (fun v h1 k1 n1 e1 => ct_X2_reasonOf l D N e1) dX2_judge_84 (fun x84 h H locs cells slots kc ks hS hf => ?_)
  refine W.eq (g2 := F0 m 87 ls [.int x84, .int a2, va_rf x78]) rfl ?_
  refine xr_iast C hS hf dX2_judge_87 (fun h H locs hS hf => ?_)
  refine xr_aload_n C dX2_judge_88 rfl (hl.at 0 rfl) ?_
  refine lv_iload_n hx hb dX2_judge_89 rfl (hl.at 2 rfl) ?_
  refine lv_iconst (v := 4) hx hb dX2_judge_90 xi_c4 ?_
  refine xr_V (V := fun v => some (.int v)) (n := 2) (fr := 0) (lo := 0) (As := [.int a2, .int (4 : Int32)]) C hS xf_X2 (lw_V q888 q890 qs23 q60 q891) hdv_X2_of ⟨Nat.le_trans (Nat.le_of_ble_eq_true rfl) hR.1, Nat.le_trans (Nat.le_of_ble_eq_true rfl) hR.2⟩ rfl hl.1.1 rfl xm_r0 hf (fun v h1 k1 n1 e1 => ct_X2_of l D N e1) dX2_judge_91 (fun x91 h H locs cells slots kc ks hS hf => ?_)
  refine W.eq (g2 := F0 m 94 ls [.int x91]) rfl ?_
  refine lv_iconst (v := 1) hx hb dX2_judge_94 xi_c1 ?_
  refine lv_icmp_ne (tgt := 102) hx hb dX2_judge_95 (by decide) (fun c95 => ?_) (fun c95 => ?_)
  · replace hf := xb_neg c95 hf
    refine lv_iload_n hx hb dX2_judge_102 rfl (hl.at 1 rfl) ?_
    exact w_X2_judge_b103 C hr hR N hk4 a0 a2 a1 h H locs cells slots kc ks ls hf hS (hl.sub [0, 2] rfl)
  · replace hf := xb_pos c95 hf
    refine lv_iconst (v := 0) hx hb dX2_judge_98 xi_c0 ?_
    refine lv_goto (tgt := 103) hx hb dX2_judge_99 (by decide) ?_
    exact w_X2_judge_b103 C hr hR N hk4 a0 a2 (0 : Int32) h H locs cells slots kc ks ls hf hS (hl.sub [0, 2] rfl)
theorem w_X2_judge_b58 (C : xh_C cX2_judge 4 "SungSlidesModel" D g p s m args meth c) (hr : meth.sig.returnType = (Option.none : Option Jvm.ClassFile.FieldType)) (hR : 5 ≤ R.frames ∧ 114 ≤ R.locals) {rv : Unit} {hF : xh_H} (N : Nat) {k28 : Option Nat → Int32 → Int32 → Int32 → xh_H → xh_R Unit} (hk28 : K_X2_judge_28 p l e s m args below meth c D g R rv hF k28) : ∀ (a0 : Option Nat) (a1 : Int32) (a2 : Int32) (a3 : Int32) (t0 : Option Nat) (t1 : Int32) (t2 : Int32) (t3 : Int32) (h : xh_H) (H : Heap) (locs : List Loc) (cells slots kc ks : Nat) (ls : Array Slot), f_X2_judge_b58 N k28 a0 a1 a2 a3 t0 t1 t2 t3 h = some (rv, hF, kc, ks) → xh_T D g s R h H locs cells slots kc ks → xh_L ls 4 [(0, va_rf a0), (1, .int a1), (2, .int a2), (3, .int a3)] → W p l e R s m args below meth c H locs cells slots (MQ below (xh_Q D g none hF) args s R.cells R.slots (xh_A g)) (F0 m 58 ls [.int t3, .int t2, .int t1, va_rf t0]) := by
  intro a0 a1 a2 a3 t0 t1 t2 t3 h H locs cells slots kc ks ls hf hS hl
  have hx := C.1
  have hb := C.2.1
  unfold f_X2_judge_b58 at hf
  refine lv_iadd hx hb dX2_judge_58 ?_
  refine xr_iast C hS hf dX2_judge_59 (fun h H locs hS hf => ?_)
  refine xr_iinc C dX2_judge_60 hl (k := 3) rfl (xi_inc xi_c1) (Nat.le_of_ble_eq_true rfl) (lv' := [(3, .int (a3 + (1 : Int32))), (0, va_rf a0), (1, .int a1), (2, .int a2)]) rfl (fun ls hl => ?_)
  refine lv_goto (tgt := 28) hx hb dX2_judge_63 (by decide) ?_
  exact hk28 a0 a1 a2 (a3 + (1 : Int32))  h H locs cells slots kc ks ls hf hS (hl.sub [1, 2, 3, 0] rfl)
theorem w_X2_judge_b28 (C : xh_C cX2_judge 4 "SungSlidesModel" D g p s m args meth c) (hr : meth.sig.returnType = (Option.none : Option Jvm.ClassFile.FieldType)) (hR : 5 ≤ R.frames ∧ 114 ≤ R.locals) {rv : Unit} {hF : xh_H} (N : Nat) {k4 : Option Nat → Int32 → Int32 → xh_H → xh_R Unit} (hk4 : K_X2_judge_4 p l e s m args below meth c D g R rv hF k4) {k28 : Option Nat → Int32 → Int32 → Int32 → xh_H → xh_R Unit} (hk28 : K_X2_judge_28 p l e s m args below meth c D g R rv hF k28) : ∀ (a0 : Option Nat) (a1 : Int32) (a2 : Int32) (a3 : Int32) (h : xh_H) (H : Heap) (locs : List Loc) (cells slots kc ks : Nat) (ls : Array Slot), f_X2_judge_b28 N k4 k28 a0 a1 a2 a3 h = some (rv, hF, kc, ks) → xh_T D g s R h H locs cells slots kc ks → xh_L ls 4 [(0, va_rf a0), (1, .int a1), (2, .int a2), (3, .int a3)] → W p l e R s m args below meth c H locs cells slots (MQ below (xh_Q D g none hF) args s R.cells R.slots (xh_A g)) (F0 m 28 ls []) := by
  intro a0 a1 a2 a3 h H locs cells slots kc ks ls hf hS hl
  have hx := C.1
  have hb := C.2.1
  unfold f_X2_judge_b28 at hf
  refine lv_iload_n hx hb dX2_judge_28 rfl (hl.at 3 rfl) ?_
  refine xr_aload_n C dX2_judge_29 rfl (hl.at 0 rfl) ?_
  refine lv_iload_n hx hb dX2_judge_30 rfl (hl.at 2 rfl) ?_
  refine xr_V (V := fun v => some (.int v)) (n := 1) (fr := 1) (lo := 22) (As := [.int a2]) C hS xf_X2 (lw_V q884 q886 qs22 q60 q887) hdv_X2_behind ⟨Nat.le_trans (Nat.le_of_ble_eq_true rfl) hR.1, Nat.le_trans (Nat.le_of_ble_eq_true rfl) hR.2⟩ rfl hl.1.1 rfl (xm_rc rfl xm_r0) hf (fun v h1 k1 n1 e1 => ct_X2_behind l D N e1) dX2_judge_31 (fun x31 h H locs cells slots kc ks hS hf => ?_)
  refine W.eq (g2 := F0 m 34 ls [.int x31, .int a3]) rfl ?_
  refine lv_icmp_ge (tgt := 66) hx hb dX2_judge_34 (by decide) (fun c34 => ?_) (fun c34 => ?_)
  · replace hf := xb_pos c34 hf
    exact w_X2_judge_b66 C hr hR N hk4 a0 a1 a2  h H locs cells slots kc ks ls hf hS (hl.sub [0, 1, 2] rfl)
  · replace hf := xb_neg c34 hf
    refine xr_aload_n C dX2_judge_37 rfl (hl.at 0 rfl) ?_
    refine xr_getR C hS xf_X2 8 (by decide) q825 (fun _ h => h) hf dX2_judge_38 (fun x38 hf => ?_)
    refine lv_iload_n hx hb dX2_judge_41 rfl (hl.at 2 rfl) ?_
    refine lv_dup2_11 hx hb dX2_judge_42 rfl (va_rf_cat _) ?_
    refine xr_iald C hS hf dX2_judge_43 (fun x43 hf => ?_)
    refine xr_aload_n C dX2_judge_44 rfl (hl.at 0 rfl) ?_
    refine lv_iload_n hx hb dX2_judge_45 rfl (hl.at 2 rfl) ?_
    refine lv_iload_n hx hb dX2_judge_46 rfl (hl.at 3 rfl) ?_
    refine xr_V (V := fun v => some (.int v)) (n := 2) (fr := 2) (lo := 45) (As := [.int a2, .int a3]) C hS xf_X2 (lw_V q937 q939 qs30 q60 q940) hdv_X2_matches ⟨Nat.le_trans (Nat.le_of_ble_eq_true rfl) hR.1, Nat.le_trans (Nat.le_of_ble_eq_true rfl) hR.2⟩ rfl hl.1.1 rfl (xm_rc rfl (xm_rc rfl (xm_rc (va_rf_cat _) xm_r0))) hf (fun v h1 k1 n1 e1 => ct_X2_matches l D N e1) dX2_judge_47 (fun x47 h H locs cells slots kc ks hS hf => ?_)
    refine W.eq (g2 := F0 m 50 ls [.int x47, .int x43, .int a2, va_rf x38]) rfl ?_
    refine lv_if_eq (tgt := 57) hx hb dX2_judge_50 (by decide) (fun c50 => ?_) (fun c50 => ?_)
    · replace hf := xb_pos c50 hf
      refine lv_iconst (v := 0) hx hb dX2_judge_57 xi_c0 ?_
      exact w_X2_judge_b58 C hr hR N hk28 a0 a1 a2 a3 x38 a2 x43 (0 : Int32) h H locs cells slots kc ks ls hf hS (hl.sub [0, 1, 2, 3] rfl)
    · replace hf := xb_neg c50 hf
      refine lv_iconst (v := 1) hx hb dX2_judge_53 xi_c1 ?_
      refine lv_goto (tgt := 58) hx hb dX2_judge_54 (by decide) ?_
      exact w_X2_judge_b58 C hr hR N hk28 a0 a1 a2 a3 x38 a2 x43 (1 : Int32) h H locs cells slots kc ks ls hf hS (hl.sub [0, 1, 2, 3] rfl)
theorem w_X2_judge_l28 (C : xh_C cX2_judge 4 "SungSlidesModel" D g p s m args meth c) (hr : meth.sig.returnType = (Option.none : Option Jvm.ClassFile.FieldType)) (hR : 5 ≤ R.frames ∧ 114 ≤ R.locals) {rv : Unit} {hF : xh_H} (N : Nat) {k4 : Option Nat → Int32 → Int32 → xh_H → xh_R Unit} (hk4 : K_X2_judge_4 p l e s m args below meth c D g R rv hF k4) : ∀ n : Nat, K_X2_judge_28 p l e s m args below meth c D g R rv hF (f_X2_judge_l28 N k4 n) := by
  intro n
  induction n with
  | zero => exact fun a0 a1 a2 a3 h H locs cells slots kc ks ls hf => absurd (show (none : xh_R Unit) = some _ from hf) (by intro q; cases q)
  | succ n ih => exact fun a0 a1 a2 a3 h H locs cells slots kc ks ls hf => w_X2_judge_b28 C hr hR N hk4 ih a0 a1 a2 a3 h H locs cells slots kc ks ls hf
theorem w_X2_judge_b4 (C : xh_C cX2_judge 4 "SungSlidesModel" D g p s m args meth c) (hr : meth.sig.returnType = (Option.none : Option Jvm.ClassFile.FieldType)) (hR : 5 ≤ R.frames ∧ 114 ≤ R.locals) {rv : Unit} {hF : xh_H} (N : Nat) {k4 : Option Nat → Int32 → Int32 → xh_H → xh_R Unit} (hk4 : K_X2_judge_4 p l e s m args below meth c D g R rv hF k4) : ∀ (a0 : Option Nat) (a1 : Int32) (a2 : Int32) (h : xh_H) (H : Heap) (locs : List Loc) (cells slots kc ks : Nat) (ls : Array Slot), f_X2_judge_b4 N k4 a0 a1 a2 h = some (rv, hF, kc, ks) → xh_T D g s R h H locs cells slots kc ks → xh_L ls 4 [(0, va_rf a0), (1, .int a1), (2, .int a2)] → W p l e R s m args below meth c H locs cells slots (MQ below (xh_Q D g none hF) args s R.cells R.slots (xh_A g)) (F0 m 4 ls []) := by
  intro a0 a1 a2 h H locs cells slots kc ks ls hf hS hl
  have hx := C.1
  have hb := C.2.1
  unfold f_X2_judge_b4 at hf
  refine lv_iload_n hx hb dX2_judge_4 rfl (hl.at 2 rfl) ?_
  refine xr_aload_n C dX2_judge_5 rfl (hl.at 0 rfl) ?_
  refine xr_getR C hS xf_X2 0 (by decide) q817 (fun _ h => h) hf dX2_judge_6 (fun x6 hf => ?_)
  refine lv_iconst (v := 5) hx hb dX2_judge_9 xi_c5 ?_
  refine xr_iald C hS hf dX2_judge_10 (fun x10 hf => ?_)
  refine lv_icmp_ge (tgt := 156) hx hb dX2_judge_11 (by decide) (fun c11 => ?_) (fun c11 => ?_)
  · replace hf := xb_pos c11 hf
    exact xr_vret C hS hr hf dX2_judge_156
  · replace hf := xb_neg c11 hf
    refine xr_aload_n C dX2_judge_14 rfl (hl.at 0 rfl) ?_
    refine xr_getR C hS xf_X2 8 (by decide) q825 (fun _ h => h) hf dX2_judge_15 (fun x15 hf => ?_)
    refine lv_iload_n hx hb dX2_judge_18 rfl (hl.at 2 rfl) ?_
    refine lv_iconst (v := 0) hx hb dX2_judge_19 xi_c0 ?_
    refine xr_iast C hS hf dX2_judge_20 (fun h H locs hS hf => ?_)
    refine xr_aload_n C dX2_judge_21 rfl (hl.at 0 rfl) ?_
    refine lv_iload_n hx hb dX2_judge_22 rfl (hl.at 2 rfl) ?_
    refine lv_iconst (v := 0) hx hb dX2_judge_23 xi_c0 ?_
    refine xr_V (V := fun v => some (.int v)) (n := 2) (fr := 0) (lo := 0) (As := [.int a2, .int (0 : Int32)]) C hS xf_X2 (lw_V q888 q890 qs23 q60 q891) hdv_X2_of ⟨Nat.le_trans (Nat.le_of_ble_eq_true rfl) hR.1, Nat.le_trans (Nat.le_of_ble_eq_true rfl) hR.2⟩ rfl hl.1.1 rfl xm_r0 hf (fun v h1 k1 n1 e1 => ct_X2_of l D N e1) dX2_judge_24 (fun x24 h H locs cells slots kc ks hS hf => ?_)
    refine W.eq (g2 := F0 m 27 ls [.int x24]) rfl ?_
    refine xr_istore_n C dX2_judge_27 rfl hl (Nat.le_of_ble_eq_true rfl) (lv' := [(3, .int x24), (0, va_rf a0), (1, .int a1), (2, .int a2)]) rfl (fun ls hl => ?_)
    exact w_X2_judge_l28 C hr hR N hk4 N a0 a1 a2 x24  h H locs cells slots kc ks ls hf hS (hl.sub [1, 2, 3, 0] rfl)
theorem w_X2_judge_l4 (C : xh_C cX2_judge 4 "SungSlidesModel" D g p s m args meth c) (hr : meth.sig.returnType = (Option.none : Option Jvm.ClassFile.FieldType)) (hR : 5 ≤ R.frames ∧ 114 ≤ R.locals) {rv : Unit} {hF : xh_H} (N : Nat) : ∀ n : Nat, K_X2_judge_4 p l e s m args below meth c D g R rv hF (f_X2_judge_l4 N n) := by
  intro n
  induction n with
  | zero => exact fun a0 a1 a2 h H locs cells slots kc ks ls hf => absurd (show (none : xh_R Unit) = some _ from hf) (by intro q; cases q)
  | succ n ih => exact fun a0 a1 a2 h H locs cells slots kc ks ls hf => w_X2_judge_b4 C hr hR N ih a0 a1 a2 h H locs cells slots kc ks ls hf
/-- SungSlidesModel.judge()V -/
theorem w_X2_judge (C : xh_C cX2_judge 4 "SungSlidesModel" D g p s m args meth c) (hr : meth.sig.returnType = (Option.none : Option Jvm.ClassFile.FieldType)) (hR : 5 ≤ R.frames ∧ 114 ≤ R.locals) {rv : Unit} {hF : xh_H} (N : Nat) (a0 : Option Nat)  (h : xh_H) (H : Heap) (locs : List Loc) (cells slots kc ks : Nat) (ls : Array Slot) (hf : f_X2_judge N a0 h = some (rv, hF, kc, ks)) (hS : xh_T D g s R h H locs cells slots kc ks) (hl : xh_L ls 4 [(0, va_rf a0)]) : W p l e R s m args below meth c H locs cells slots (MQ below (xh_Q D g none hF) args s R.cells R.slots (xh_A g)) (F0 m 0 ls []) := by
  have hx := C.1
  have hb := C.2.1
  unfold f_X2_judge at hf
  refine lv_iconst (v := 0) hx hb dX2_judge_0 xi_c0 ?_
  refine xr_istore_n C dX2_judge_1 rfl hl (Nat.le_of_ble_eq_true rfl) (lv' := [(1, .int (0 : Int32)), (0, va_rf a0)]) rfl (fun ls hl => ?_)
  refine lv_iconst (v := 0) hx hb dX2_judge_2 xi_c0 ?_
  refine xr_istore_n C dX2_judge_3 rfl hl (Nat.le_of_ble_eq_true rfl) (lv' := [(2, .int (0 : Int32)), (1, .int (0 : Int32)), (0, va_rf a0)]) rfl (fun ls hl => ?_)
  exact w_X2_judge_l4 C hr hR N N a0 (0 : Int32) (0 : Int32)  h H locs cells slots kc ks ls hf hS (hl.sub [2, 1, 0] rfl)
theorem ct_X2_judge (l : Launch) (D : xh_D) {rv : Unit} {h hF : xh_H} {kc ks : Nat} (N : Nat) {a0 : Option Nat} (hf : f_X2_judge N a0 h = some (rv, hF, kc, ks)) : xh_Ct l D yX2_judge (ws_ yX2_judge cX2_judge 4 (Option.none : Option Jvm.ClassFile.FieldType)) 5 114 [va_rf a0] h none hF kc ks :=
  xh_meth (cc := cX2_judge) l (by decide) (Nat.le_of_ble_eq_true rfl) (List.forall_mem_cons.mpr ⟨va_rf_cat _, fun _ h => absurd h List.not_mem_nil⟩) fun p e s m below meth c ls C hr hnm hl hS => w_X2_judge C hr ⟨Nat.le_refl _, Nat.le_refl _⟩ N a0 h _ _ _ _ _ _ _ hf hS hl
/-- SungSlidesModel.judgeSong()V -/
theorem w_X2_judgeSong (C : xh_C cX2_judgeSong 1 "SungSlidesModel" D g p s m args meth c) (hr : meth.sig.returnType = (Option.none : Option Jvm.ClassFile.FieldType)) (hR : 6 ≤ R.frames ∧ 137 ≤ R.locals) {rv : Unit} {hF : xh_H} (N : Nat) (a0 : Option Nat)  (h : xh_H) (H : Heap) (locs : List Loc) (cells slots kc ks : Nat) (ls : Array Slot) (hf : f_X2_judgeSong N a0 h = some (rv, hF, kc, ks)) (hS : xh_T D g s R h H locs cells slots kc ks) (hl : xh_L ls 1 [(0, va_rf a0)]) : W p l e R s m args below meth c H locs cells slots (MQ below (xh_Q D g none hF) args s R.cells R.slots (xh_A g)) (F0 m 0 ls []) := by
  have hx := C.1
  have hb := C.2.1
  unfold f_X2_judgeSong at hf
  refine xr_aload_n C dX2_judgeSong_0 rfl (hl.at 0 rfl) ?_
  refine lv_iconst (v := 0) hx hb dX2_judgeSong_1 xi_c0 ?_
  refine lv_iconst (v := 0) hx hb dX2_judgeSong_2 xi_c0 ?_
  refine xr_V (V := fun _ => none) (n := 2) (fr := 2) (lo := 42) (As := [.int (0 : Int32), .int (0 : Int32)]) C hS xf_X2 (lw_V q929 q931 qs28 q60 q932) hdv_X2_hear ⟨Nat.le_trans (Nat.le_of_ble_eq_true rfl) hR.1, Nat.le_trans (Nat.le_of_ble_eq_true rfl) hR.2⟩ rfl hl.1.1 rfl xm_r0 hf (fun v h1 k1 n1 e1 => ct_X2_hear l D N e1) dX2_judgeSong_3 (fun _ h H locs cells slots kc ks hS hf => ?_)
  refine W.eq (g2 := F0 m 6 ls []) rfl ?_
  refine xr_aload_n C dX2_judgeSong_6 rfl (hl.at 0 rfl) ?_
  refine xr_V (V := fun _ => none) (n := 0) (fr := 5) (lo := 114) (As := []) C hS xf_X2 (lw_V q933 q935 qs29 q60 q936) hdv_X2_judge ⟨Nat.le_trans (Nat.le_of_ble_eq_true rfl) hR.1, Nat.le_trans (Nat.le_of_ble_eq_true rfl) hR.2⟩ rfl hl.1.1 rfl xm_r0 hf (fun v h1 k1 n1 e1 => ct_X2_judge l D N e1) dX2_judgeSong_7 (fun _ h H locs cells slots kc ks hS hf => ?_)
  refine W.eq (g2 := F0 m 10 ls []) rfl ?_
  exact xr_vret C hS hr hf dX2_judgeSong_10
theorem ct_X2_judgeSong (l : Launch) (D : xh_D) {rv : Unit} {h hF : xh_H} {kc ks : Nat} (N : Nat) {a0 : Option Nat} (hf : f_X2_judgeSong N a0 h = some (rv, hF, kc, ks)) : xh_Ct l D yX2_judgeSong (ws_ yX2_judgeSong cX2_judgeSong 1 (Option.none : Option Jvm.ClassFile.FieldType)) 6 137 [va_rf a0] h none hF kc ks :=
  xh_meth (cc := cX2_judgeSong) l (by decide) (Nat.le_of_ble_eq_true rfl) (List.forall_mem_cons.mpr ⟨va_rf_cat _, fun _ h => absurd h List.not_mem_nil⟩) fun p e s m below meth c ls C hr hnm hl hS => w_X2_judgeSong C hr ⟨Nat.le_refl _, Nat.le_refl _⟩ N a0 h _ _ _ _ _ _ _ hf hS hl
def K_X2_sing_43 (p : Program) (l : Launch) (e : Env) (s : State) (m : MethodId) (args : Array Value) (below : List Frame) (meth : Method) (c : Code) (D : xh_D) (g : Nat → Nat) (R : Room) (rv : Int32) (hF : xh_H) (k : Option Nat → Int32 → Int32 → Int32 → Int32 → xh_H → xh_R Int32) : Prop := ∀ (a0 : Option Nat) (a1 : Int32) (a2 : Int32) (a3 : Int32) (a4 : Int32) (h : xh_H) (H : Heap) (locs : List Loc) (cells slots kc ks : Nat) (ls : Array Slot), k a0 a1 a2 a3 a4 h = some (rv, hF, kc, ks) → xh_T D g s R h H locs cells slots kc ks → xh_L ls 5 [(0, va_rf a0), (1, .int a1), (2, .int a2), (3, .int a3), (4, .int a4)] → W p l e R s m args below meth c H locs cells slots (MQ below (xh_Q D g (some (.int rv)) hF) args s R.cells R.slots (xh_A g)) (F0 m 43 ls [])
theorem w_X2_sing_b71 (C : xh_C cX2_sing 5 "SungSlidesModel" D g p s m args meth c) (hr : meth.sig.returnType = (Option.some Jvm.ClassFile.FieldType.int)) (hR : 7 ≤ R.frames ∧ 157 ≤ R.locals) {rv : Int32} {hF : xh_H} (N : Nat) : ∀ (a0 : Option Nat) (h : xh_H) (H : Heap) (locs : List Loc) (cells slots kc ks : Nat) (ls : Array Slot), f_X2_sing_b71 N a0 h = some (rv, hF, kc, ks) → xh_T D g s R h H locs cells slots kc ks → xh_L ls 5 [(0, va_rf a0)] → W p l e R s m args below meth c H locs cells slots (MQ below (xh_Q D g (some (.int rv)) hF) args s R.cells R.slots (xh_A g)) (F0 m 71 ls []) := by
  intro a0 h H locs cells slots kc ks ls hf hS hl
  have hx := C.1
  have hb := C.2.1
  unfold f_X2_sing_b71 at hf
  refine xr_aload_n C dX2_sing_71 rfl (hl.at 0 rfl) ?_
  refine xr_V (V := fun _ => none) (n := 0) (fr := 6) (lo := 137) (As := []) C hS xf_X2 (lw_V q925 q927 qs27 q60 q928) hdv_X2_judgeSong ⟨Nat.le_trans (Nat.le_of_ble_eq_true rfl) hR.1, Nat.le_trans (Nat.le_of_ble_eq_true rfl) hR.2⟩ rfl hl.1.1 rfl xm_r0 hf (fun v h1 k1 n1 e1 => ct_X2_judgeSong l D N e1) dX2_sing_72 (fun _ h H locs cells slots kc ks hS hf => ?_)
  refine W.eq (g2 := F0 m 75 ls []) rfl ?_
  refine xr_aload_n C dX2_sing_75 rfl (hl.at 0 rfl) ?_
  refine xr_V (V := fun v => some (.int v)) (n := 0) (fr := 0) (lo := 0) (As := []) C hS xf_X2 (lw_V q972 q974 qs38 q60 q975) hdv_X2_hits ⟨Nat.le_trans (Nat.le_of_ble_eq_true rfl) hR.1, Nat.le_trans (Nat.le_of_ble_eq_true rfl) hR.2⟩ rfl hl.1.1 rfl xm_r0 hf (fun v h1 k1 n1 e1 => ct_X2_hits l D N e1) dX2_sing_76 (fun x76 h H locs cells slots kc ks hS hf => ?_)
  refine W.eq (g2 := F0 m 79 ls [.int x76]) rfl ?_
  exact xr_iret C hS hr hf dX2_sing_79
theorem w_X2_sing_b43 (C : xh_C cX2_sing 5 "SungSlidesModel" D g p s m args meth c) (hr : meth.sig.returnType = (Option.some Jvm.ClassFile.FieldType.int)) (hR : 7 ≤ R.frames ∧ 157 ≤ R.locals) {rv : Int32} {hF : xh_H} (N : Nat) {k43 : Option Nat → Int32 → Int32 → Int32 → Int32 → xh_H → xh_R Int32} (hk43 : K_X2_sing_43 p l e s m args below meth c D g R rv hF k43) : ∀ (a0 : Option Nat) (a1 : Int32) (a2 : Int32) (a3 : Int32) (a4 : Int32) (h : xh_H) (H : Heap) (locs : List Loc) (cells slots kc ks : Nat) (ls : Array Slot), f_X2_sing_b43 N k43 a0 a1 a2 a3 a4 h = some (rv, hF, kc, ks) → xh_T D g s R h H locs cells slots kc ks → xh_L ls 5 [(0, va_rf a0), (1, .int a1), (2, .int a2), (3, .int a3), (4, .int a4)] → W p l e R s m args below meth c H locs cells slots (MQ below (xh_Q D g (some (.int rv)) hF) args s R.cells R.slots (xh_A g)) (F0 m 43 ls []) := by
  intro a0 a1 a2 a3 a4 h H locs cells slots kc ks ls hf hS hl
  have hx := C.1
  have hb := C.2.1
  unfold f_X2_sing_b43 at hf
  refine lv_iload hx hb dX2_sing_43 (hl.at 4 rfl) ?_
  refine lv_iload_n hx hb dX2_sing_45 rfl (hl.at 1 rfl) ?_
  refine lv_iload_n hx hb dX2_sing_46 rfl (hl.at 2 rfl) ?_
  refine lv_iadd hx hb dX2_sing_47 ?_
  refine lv_icmp_ge (tgt := 71) hx hb dX2_sing_48 (by decide) (fun c48 => ?_) (fun c48 => ?_)
  · replace hf := xb_pos c48 hf
    exact w_X2_sing_b71 C hr hR N a0  h H locs cells slots kc ks ls hf hS (hl.sub [0] rfl)
  · replace hf := xb_neg c48 hf
    refine xr_aload_n C dX2_sing_51 rfl (hl.at 0 rfl) ?_
    refine xr_getR C hS xf_X2 0 (by decide) q817 (fun _ h => h) hf dX2_sing_52 (fun x52 hf => ?_)
    refine lv_sipush (v := 206) hx hb dX2_sing_55 xi_s206 ?_
    refine lv_iload hx hb dX2_sing_58 (hl.at 4 rfl) ?_
    refine lv_iadd hx hb dX2_sing_60 ?_
    refine lv_iload_n hx hb dX2_sing_61 rfl (hl.at 3 rfl) ?_
    refine lv_iconst (v := 1) hx hb dX2_sing_62 xi_c1 ?_
    refine lv_iadd hx hb dX2_sing_63 ?_
    refine xr_iast C hS hf dX2_sing_64 (fun h H locs hS hf => ?_)
    refine xr_iinc C dX2_sing_65 hl (k := 4) rfl (xi_inc xi_c1) (Nat.le_of_ble_eq_true rfl) (lv' := [(4, .int (a4 + (1 : Int32))), (0, va_rf a0), (1, .int a1), (2, .int a2), (3, .int a3)]) rfl (fun ls hl => ?_)
    refine lv_goto (tgt := 43) hx hb dX2_sing_68 (by decide) ?_
    exact hk43 a0 a1 a2 a3 (a4 + (1 : Int32))  h H locs cells slots kc ks ls hf hS (hl.sub [1, 2, 3, 4, 0] rfl)
theorem w_X2_sing_l43 (C : xh_C cX2_sing 5 "SungSlidesModel" D g p s m args meth c) (hr : meth.sig.returnType = (Option.some Jvm.ClassFile.FieldType.int)) (hR : 7 ≤ R.frames ∧ 157 ≤ R.locals) {rv : Int32} {hF : xh_H} (N : Nat) : ∀ n : Nat, K_X2_sing_43 p l e s m args below meth c D g R rv hF (f_X2_sing_l43 N n) := by
  intro n
  induction n with
  | zero => exact fun a0 a1 a2 a3 a4 h H locs cells slots kc ks ls hf => absurd (show (none : xh_R Int32) = some _ from hf) (by intro q; cases q)
  | succ n ih => exact fun a0 a1 a2 a3 a4 h H locs cells slots kc ks ls hf => w_X2_sing_b43 C hr hR N ih a0 a1 a2 a3 a4 h H locs cells slots kc ks ls hf
theorem w_X2_sing_b33 (C : xh_C cX2_sing 5 "SungSlidesModel" D g p s m args meth c) (hr : meth.sig.returnType = (Option.some Jvm.ClassFile.FieldType.int)) (hR : 7 ≤ R.frames ∧ 157 ≤ R.locals) {rv : Int32} {hF : xh_H} (N : Nat) : ∀ (h : xh_H) (H : Heap) (locs : List Loc) (cells slots kc ks : Nat) (ls : Array Slot), f_X2_sing_b33 N  h = some (rv, hF, kc, ks) → xh_T D g s R h H locs cells slots kc ks → xh_L ls 5 [] → W p l e R s m args below meth c H locs cells slots (MQ below (xh_Q D g (some (.int rv)) hF) args s R.cells R.slots (xh_A g)) (F0 m 33 ls []) := by
  intro  h H locs cells slots kc ks ls hf hS hl
  have hx := C.1
  have hb := C.2.1
  unfold f_X2_sing_b33 at hf
  refine lv_bipush (v := -2) hx hb dX2_sing_33 xi_bm2 ?_
  exact xr_iret C hS hr hf dX2_sing_35
/-- SungSlidesModel.sing(III)I -/
theorem w_X2_sing (C : xh_C cX2_sing 5 "SungSlidesModel" D g p s m args meth c) (hr : meth.sig.returnType = (Option.some Jvm.ClassFile.FieldType.int)) (hR : 7 ≤ R.frames ∧ 157 ≤ R.locals) {rv : Int32} {hF : xh_H} (N : Nat) (a0 : Option Nat) (a1 : Int32) (a2 : Int32) (a3 : Int32)  (h : xh_H) (H : Heap) (locs : List Loc) (cells slots kc ks : Nat) (ls : Array Slot) (hf : f_X2_sing N a0 a1 a2 a3 h = some (rv, hF, kc, ks)) (hS : xh_T D g s R h H locs cells slots kc ks) (hl : xh_L ls 5 [(0, va_rf a0), (1, .int a1), (2, .int a2), (3, .int a3)]) : W p l e R s m args below meth c H locs cells slots (MQ below (xh_Q D g (some (.int rv)) hF) args s R.cells R.slots (xh_A g)) (F0 m 0 ls []) := by
  have hx := C.1
  have hb := C.2.1
  unfold f_X2_sing at hf
  refine lv_iload_n hx hb dX2_sing_0 rfl (hl.at 1 rfl) ?_
  refine xr_S (V := fun v => some (.int v)) (n := 1) (fr := 1) (lo := 22) (As := [.int a1]) C hS (lw_S q922 q923 q60 q924) hd_X2_isTick ⟨Nat.le_trans (Nat.le_of_ble_eq_true rfl) hR.1, Nat.le_trans (Nat.le_of_ble_eq_true rfl) hR.2⟩ rfl hl.1.1 rfl xm_r0 hf (fun v h1 k1 n1 e1 => ct_X2_isTick l D N e1) dX2_sing_1 (fun x1 h H locs cells slots kc ks hS hf => ?_)
  refine W.eq (g2 := F0 m 4 ls [.int x1]) rfl ?_
  refine lv_if_eq (tgt := 33) hx hb dX2_sing_4 (by decide) (fun c4 => ?_) (fun c4 => ?_)
  · replace hf := xb_pos c4 hf
    exact w_X2_sing_b33 C hr hR N  h H locs cells slots kc ks ls hf hS (hl.sub [] rfl)
  · replace hf := xb_neg c4 hf
    refine lv_iload_n hx hb dX2_sing_7 rfl (hl.at 2 rfl) ?_
    refine lv_iconst (v := 1) hx hb dX2_sing_8 xi_c1 ?_
    refine lv_bipush (v := 64) hx hb dX2_sing_9 xi_b64 ?_
    refine xr_S (V := fun v => some (.int v)) (n := 3) (fr := 0) (lo := 0) (As := [.int a2, .int (1 : Int32), .int (64 : Int32)]) C hS (lw_S q873 q874 q60 q875) hd_X2_in ⟨Nat.le_trans (Nat.le_of_ble_eq_true rfl) hR.1, Nat.le_trans (Nat.le_of_ble_eq_true rfl) hR.2⟩ rfl hl.1.1 rfl xm_r0 hf (fun v h1 k1 n1 e1 => ct_X2_in l D N e1) dX2_sing_11 (fun x11 h H locs cells slots kc ks hS hf => ?_)
    refine W.eq (g2 := F0 m 14 ls [.int x11]) rfl ?_
    refine lv_if_eq (tgt := 33) hx hb dX2_sing_14 (by decide) (fun c14 => ?_) (fun c14 => ?_)
    · replace hf := xb_pos c14 hf
      exact w_X2_sing_b33 C hr hR N  h H locs cells slots kc ks ls hf hS (hl.sub [] rfl)
    · replace hf := xb_neg c14 hf
      refine lv_iload_n hx hb dX2_sing_17 rfl (hl.at 1 rfl) ?_
      refine lv_iload_n hx hb dX2_sing_18 rfl (hl.at 2 rfl) ?_
      refine lv_iadd hx hb dX2_sing_19 ?_
      refine lv_sipush (v := 600) hx hb dX2_sing_20 xi_s600 ?_
      refine lv_icmp_gt (tgt := 33) hx hb dX2_sing_23 (by decide) (fun c23 => ?_) (fun c23 => ?_)
      · replace hf := xb_pos c23 hf
        exact w_X2_sing_b33 C hr hR N  h H locs cells slots kc ks ls hf hS (hl.sub [] rfl)
      · replace hf := xb_neg c23 hf
        refine lv_iload_n hx hb dX2_sing_26 rfl (hl.at 3 rfl) ?_
        refine xr_S (V := fun v => some (.int v)) (n := 1) (fr := 1) (lo := 22) (As := [.int a3]) C hS (lw_S q870 q871 q60 q872) hd_X2_isPitch ⟨Nat.le_trans (Nat.le_of_ble_eq_true rfl) hR.1, Nat.le_trans (Nat.le_of_ble_eq_true rfl) hR.2⟩ rfl hl.1.1 rfl xm_r0 hf (fun v h1 k1 n1 e1 => ct_X2_isPitch l D N e1) dX2_sing_27 (fun x27 h H locs cells slots kc ks hS hf => ?_)
        refine W.eq (g2 := F0 m 30 ls [.int x27]) rfl ?_
        refine lv_if_ne (tgt := 36) hx hb dX2_sing_30 (by decide) (fun c30 => ?_) (fun c30 => ?_)
        · replace hf := xb_neg c30 hf
          refine xr_aload_n C dX2_sing_36 rfl (hl.at 0 rfl) ?_
          refine xr_V (V := fun _ => none) (n := 0) (fr := 1) (lo := 24) (As := []) C hS xf_X2 (lw_V q892 q894 qs24 q60 q895) hdv_X2_record ⟨Nat.le_trans (Nat.le_of_ble_eq_true rfl) hR.1, Nat.le_trans (Nat.le_of_ble_eq_true rfl) hR.2⟩ rfl hl.1.1 rfl xm_r0 hf (fun v h1 k1 n1 e1 => ct_X2_record l D N e1) dX2_sing_37 (fun _ h H locs cells slots kc ks hS hf => ?_)
          refine W.eq (g2 := F0 m 40 ls []) rfl ?_
          refine lv_iload_n hx hb dX2_sing_40 rfl (hl.at 1 rfl) ?_
          refine xr_istore C dX2_sing_41 hl (Nat.le_of_ble_eq_true rfl) (lv' := [(4, .int a1), (0, va_rf a0), (1, .int a1), (2, .int a2), (3, .int a3)]) rfl (fun ls hl => ?_)
          exact w_X2_sing_l43 C hr hR N N a0 a1 a2 a3 a1  h H locs cells slots kc ks ls hf hS (hl.sub [1, 2, 3, 4, 0] rfl)
        · replace hf := xb_pos c30 hf
          exact w_X2_sing_b33 C hr hR N  h H locs cells slots kc ks ls hf hS (hl.sub [] rfl)
theorem ct_X2_sing (l : Launch) (D : xh_D) {rv : Int32} {h hF : xh_H} {kc ks : Nat} (N : Nat) {a0 : Option Nat} {a1 : Int32} {a2 : Int32} {a3 : Int32} (hf : f_X2_sing N a0 a1 a2 a3 h = some (rv, hF, kc, ks)) : xh_Ct l D yX2_sing (ws_ yX2_sing cX2_sing 5 (Option.some Jvm.ClassFile.FieldType.int)) 7 157 [va_rf a0, .int a1, .int a2, .int a3] h (some (.int rv)) hF kc ks :=
  xh_meth (cc := cX2_sing) l (by decide) (Nat.le_of_ble_eq_true rfl) (List.forall_mem_cons.mpr ⟨va_rf_cat _, List.forall_mem_cons.mpr ⟨rfl, List.forall_mem_cons.mpr ⟨rfl, List.forall_mem_cons.mpr ⟨rfl, fun _ h => absurd h List.not_mem_nil⟩⟩⟩⟩) fun p e s m below meth c ls C hr hnm hl hS => w_X2_sing C hr ⟨Nat.le_refl _, Nat.le_refl _⟩ N a0 a1 a2 a3 h _ _ _ _ _ _ _ hf hS hl
def K_X2_silence_39 (p : Program) (l : Launch) (e : Env) (s : State) (m : MethodId) (args : Array Value) (below : List Frame) (meth : Method) (c : Code) (D : xh_D) (g : Nat → Nat) (R : Room) (rv : Int32) (hF : xh_H) (k : Option Nat → Int32 → Int32 → Int32 → Int32 → xh_H → xh_R Int32) : Prop := ∀ (a0 : Option Nat) (a1 : Int32) (a2 : Int32) (a3 : Int32) (a4 : Int32) (h : xh_H) (H : Heap) (locs : List Loc) (cells slots kc ks : Nat) (ls : Array Slot), k a0 a1 a2 a3 a4 h = some (rv, hF, kc, ks) → xh_T D g s R h H locs cells slots kc ks → xh_L ls 5 [(0, va_rf a0), (1, .int a1), (2, .int a2), (3, .int a3), (4, .int a4)] → W p l e R s m args below meth c H locs cells slots (MQ below (xh_Q D g (some (.int rv)) hF) args s R.cells R.slots (xh_A g)) (F0 m 39 ls [])
theorem w_X2_silence_b87 (C : xh_C cX2_silence 5 "SungSlidesModel" D g p s m args meth c) (hr : meth.sig.returnType = (Option.some Jvm.ClassFile.FieldType.int)) (hR : 2 ≤ R.frames ∧ 45 ≤ R.locals) {rv : Int32} {hF : xh_H} (N : Nat) : ∀ (a3 : Int32) (h : xh_H) (H : Heap) (locs : List Loc) (cells slots kc ks : Nat) (ls : Array Slot), f_X2_silence_b87 N a3 h = some (rv, hF, kc, ks) → xh_T D g s R h H locs cells slots kc ks → xh_L ls 5 [(3, .int a3)] → W p l e R s m args below meth c H locs cells slots (MQ below (xh_Q D g (some (.int rv)) hF) args s R.cells R.slots (xh_A g)) (F0 m 87 ls []) := by
  intro a3 h H locs cells slots kc ks ls hf hS hl
  have hx := C.1
  have hb := C.2.1
  unfold f_X2_silence_b87 at hf
  refine lv_iload_n hx hb dX2_silence_87 rfl (hl.at 0 rfl) ?_
  exact xr_iret C hS hr hf dX2_silence_88
theorem w_X2_silence_b67 (C : xh_C cX2_silence 5 "SungSlidesModel" D g p s m args meth c) (hr : meth.sig.returnType = (Option.some Jvm.ClassFile.FieldType.int)) (hR : 2 ≤ R.frames ∧ 45 ≤ R.locals) {rv : Int32} {hF : xh_H} (N : Nat) {k39 : Option Nat → Int32 → Int32 → Int32 → Int32 → xh_H → xh_R Int32} (hk39 : K_X2_silence_39 p l e s m args below meth c D g R rv hF k39) : ∀ (a0 : Option Nat) (a1 : Int32) (a2 : Int32) (a4 : Int32) (t0 : Int32) (t1 : Int32) (h : xh_H) (H : Heap) (locs : List Loc) (cells slots kc ks : Nat) (ls : Array Slot), f_X2_silence_b67 N k39 a0 a1 a2 a4 t0 t1 h = some (rv, hF, kc, ks) → xh_T D g s R h H locs cells slots kc ks → xh_L ls 5 [(0, va_rf a0), (1, .int a1), (2, .int a2), (4, .int a4)] → W p l e R s m args below meth c H locs cells slots (MQ below (xh_Q D g (some (.int rv)) hF) args s R.cells R.slots (xh_A g)) (F0 m 67 ls [.int t1, .int t0]) := by
  intro a0 a1 a2 a4 t0 t1 h H locs cells slots kc ks ls hf hS hl
  have hx := C.1
  have hb := C.2.1
  unfold f_X2_silence_b67 at hf
  refine lv_iadd hx hb dX2_silence_67 ?_
  refine xr_istore_n C dX2_silence_68 rfl hl (Nat.le_of_ble_eq_true rfl) (lv' := [(3, .int (t0 + t1)), (0, va_rf a0), (1, .int a1), (2, .int a2), (4, .int a4)]) rfl (fun ls hl => ?_)
  refine xr_aload_n C dX2_silence_69 rfl (hl.at 1 rfl) ?_
  refine xr_getR C hS xf_X2 0 (by decide) q817 (fun _ h => h) hf dX2_silence_70 (fun x70 hf => ?_)
  refine lv_sipush (v := 206) hx hb dX2_silence_73 xi_s206 ?_
  refine lv_iload hx hb dX2_silence_76 (hl.at 4 rfl) ?_
  refine lv_iadd hx hb dX2_silence_78 ?_
  refine lv_iconst (v := 0) hx hb dX2_silence_79 xi_c0 ?_
  refine xr_iast C hS hf dX2_silence_80 (fun h H locs hS hf => ?_)
  refine xr_iinc C dX2_silence_81 hl (k := 4) rfl (xi_inc xi_c1) (Nat.le_of_ble_eq_true rfl) (lv' := [(4, .int (a4 + (1 : Int32))), (3, .int (t0 + t1)), (0, va_rf a0), (1, .int a1), (2, .int a2)]) rfl (fun ls hl => ?_)
  refine lv_goto (tgt := 39) hx hb dX2_silence_84 (by decide) ?_
  exact hk39 a0 a1 a2 (t0 + t1) (a4 + (1 : Int32))  h H locs cells slots kc ks ls hf hS (hl.sub [2, 3, 4, 1, 0] rfl)
theorem w_X2_silence_b39 (C : xh_C cX2_silence 5 "SungSlidesModel" D g p s m args meth c) (hr : meth.sig.returnType = (Option.some Jvm.ClassFile.FieldType.int)) (hR : 2 ≤ R.frames ∧ 45 ≤ R.locals) {rv : Int32} {hF : xh_H} (N : Nat) {k39 : Option Nat → Int32 → Int32 → Int32 → Int32 → xh_H → xh_R Int32} (hk39 : K_X2_silence_39 p l e s m args below meth c D g R rv hF k39) : ∀ (a0 : Option Nat) (a1 : Int32) (a2 : Int32) (a3 : Int32) (a4 : Int32) (h : xh_H) (H : Heap) (locs : List Loc) (cells slots kc ks : Nat) (ls : Array Slot), f_X2_silence_b39 N k39 a0 a1 a2 a3 a4 h = some (rv, hF, kc, ks) → xh_T D g s R h H locs cells slots kc ks → xh_L ls 5 [(0, va_rf a0), (1, .int a1), (2, .int a2), (3, .int a3), (4, .int a4)] → W p l e R s m args below meth c H locs cells slots (MQ below (xh_Q D g (some (.int rv)) hF) args s R.cells R.slots (xh_A g)) (F0 m 39 ls []) := by
  intro a0 a1 a2 a3 a4 h H locs cells slots kc ks ls hf hS hl
  have hx := C.1
  have hb := C.2.1
  unfold f_X2_silence_b39 at hf
  refine lv_iload hx hb dX2_silence_39 (hl.at 4 rfl) ?_
  refine lv_iload_n hx hb dX2_silence_41 rfl (hl.at 1 rfl) ?_
  refine lv_iload_n hx hb dX2_silence_42 rfl (hl.at 2 rfl) ?_
  refine lv_iadd hx hb dX2_silence_43 ?_
  refine lv_icmp_ge (tgt := 87) hx hb dX2_silence_44 (by decide) (fun c44 => ?_) (fun c44 => ?_)
  · replace hf := xb_pos c44 hf
    exact w_X2_silence_b87 C hr hR N a3  h H locs cells slots kc ks ls hf hS (hl.sub [3] rfl)
  · replace hf := xb_neg c44 hf
    refine lv_iload_n hx hb dX2_silence_47 rfl (hl.at 3 rfl) ?_
    refine xr_aload_n C dX2_silence_48 rfl (hl.at 0 rfl) ?_
    refine xr_getR C hS xf_X2 0 (by decide) q817 (fun _ h => h) hf dX2_silence_49 (fun x49 hf => ?_)
    refine lv_sipush (v := 206) hx hb dX2_silence_52 xi_s206 ?_
    refine lv_iload hx hb dX2_silence_55 (hl.at 4 rfl) ?_
    refine lv_iadd hx hb dX2_silence_57 ?_
    refine xr_iald C hS hf dX2_silence_58 (fun x58 hf => ?_)
    refine lv_if_le (tgt := 66) hx hb dX2_silence_59 (by decide) (fun c59 => ?_) (fun c59 => ?_)
    · replace hf := xb_pos c59 hf
      refine lv_iconst (v := 0) hx hb dX2_silence_66 xi_c0 ?_
      exact w_X2_silence_b67 C hr hR N hk39 a0 a1 a2 a4 a3 (0 : Int32) h H locs cells slots kc ks ls hf hS (hl.sub [0, 1, 2, 4] rfl)
    · replace hf := xb_neg c59 hf
      refine lv_iconst (v := 1) hx hb dX2_silence_62 xi_c1 ?_
      refine lv_goto (tgt := 67) hx hb dX2_silence_63 (by decide) ?_
      exact w_X2_silence_b67 C hr hR N hk39 a0 a1 a2 a4 a3 (1 : Int32) h H locs cells slots kc ks ls hf hS (hl.sub [0, 1, 2, 4] rfl)
theorem w_X2_silence_l39 (C : xh_C cX2_silence 5 "SungSlidesModel" D g p s m args meth c) (hr : meth.sig.returnType = (Option.some Jvm.ClassFile.FieldType.int)) (hR : 2 ≤ R.frames ∧ 45 ≤ R.locals) {rv : Int32} {hF : xh_H} (N : Nat) : ∀ n : Nat, K_X2_silence_39 p l e s m args below meth c D g R rv hF (f_X2_silence_l39 N n) := by
  intro n
  induction n with
  | zero => exact fun a0 a1 a2 a3 a4 h H locs cells slots kc ks ls hf => absurd (show (none : xh_R Int32) = some _ from hf) (by intro q; cases q)
  | succ n ih => exact fun a0 a1 a2 a3 a4 h H locs cells slots kc ks ls hf => w_X2_silence_b39 C hr hR N ih a0 a1 a2 a3 a4 h H locs cells slots kc ks ls hf
theorem w_X2_silence_b27 (C : xh_C cX2_silence 5 "SungSlidesModel" D g p s m args meth c) (hr : meth.sig.returnType = (Option.some Jvm.ClassFile.FieldType.int)) (hR : 2 ≤ R.frames ∧ 45 ≤ R.locals) {rv : Int32} {hF : xh_H} (N : Nat) : ∀ (h : xh_H) (H : Heap) (locs : List Loc) (cells slots kc ks : Nat) (ls : Array Slot), f_X2_silence_b27 N  h = some (rv, hF, kc, ks) → xh_T D g s R h H locs cells slots kc ks → xh_L ls 5 [] → W p l e R s m args below meth c H locs cells slots (MQ below (xh_Q D g (some (.int rv)) hF) args s R.cells R.slots (xh_A g)) (F0 m 27 ls []) := by
  intro  h H locs cells slots kc ks ls hf hS hl
  have hx := C.1
  have hb := C.2.1
  unfold f_X2_silence_b27 at hf
  refine lv_bipush (v := -2) hx hb dX2_silence_27 xi_bm2 ?_
  exact xr_iret C hS hr hf dX2_silence_29
/-- SungSlidesModel.silence(II)I -/
theorem w_X2_silence (C : xh_C cX2_silence 5 "SungSlidesModel" D g p s m args meth c) (hr : meth.sig.returnType = (Option.some Jvm.ClassFile.FieldType.int)) (hR : 2 ≤ R.frames ∧ 45 ≤ R.locals) {rv : Int32} {hF : xh_H} (N : Nat) (a0 : Option Nat) (a1 : Int32) (a2 : Int32)  (h : xh_H) (H : Heap) (locs : List Loc) (cells slots kc ks : Nat) (ls : Array Slot) (hf : f_X2_silence N a0 a1 a2 h = some (rv, hF, kc, ks)) (hS : xh_T D g s R h H locs cells slots kc ks) (hl : xh_L ls 5 [(0, va_rf a0), (1, .int a1), (2, .int a2)]) : W p l e R s m args below meth c H locs cells slots (MQ below (xh_Q D g (some (.int rv)) hF) args s R.cells R.slots (xh_A g)) (F0 m 0 ls []) := by
  have hx := C.1
  have hb := C.2.1
  unfold f_X2_silence at hf
  refine lv_iload_n hx hb dX2_silence_0 rfl (hl.at 1 rfl) ?_
  refine xr_S (V := fun v => some (.int v)) (n := 1) (fr := 1) (lo := 22) (As := [.int a1]) C hS (lw_S q922 q923 q60 q924) hd_X2_isTick ⟨Nat.le_trans (Nat.le_of_ble_eq_true rfl) hR.1, Nat.le_trans (Nat.le_of_ble_eq_true rfl) hR.2⟩ rfl hl.1.1 rfl xm_r0 hf (fun v h1 k1 n1 e1 => ct_X2_isTick l D N e1) dX2_silence_1 (fun x1 h H locs cells slots kc ks hS hf => ?_)
  refine W.eq (g2 := F0 m 4 ls [.int x1]) rfl ?_
  refine lv_if_eq (tgt := 27) hx hb dX2_silence_4 (by decide) (fun c4 => ?_) (fun c4 => ?_)
  · replace hf := xb_pos c4 hf
    exact w_X2_silence_b27 C hr hR N  h H locs cells slots kc ks ls hf hS (hl.sub [] rfl)
  · replace hf := xb_neg c4 hf
    refine lv_iload_n hx hb dX2_silence_7 rfl (hl.at 2 rfl) ?_
    refine lv_iconst (v := 1) hx hb dX2_silence_8 xi_c1 ?_
    refine lv_sipush (v := 600) hx hb dX2_silence_9 xi_s600 ?_
    refine xr_S (V := fun v => some (.int v)) (n := 3) (fr := 0) (lo := 0) (As := [.int a2, .int (1 : Int32), .int (600 : Int32)]) C hS (lw_S q873 q874 q60 q875) hd_X2_in ⟨Nat.le_trans (Nat.le_of_ble_eq_true rfl) hR.1, Nat.le_trans (Nat.le_of_ble_eq_true rfl) hR.2⟩ rfl hl.1.1 rfl xm_r0 hf (fun v h1 k1 n1 e1 => ct_X2_in l D N e1) dX2_silence_12 (fun x12 h H locs cells slots kc ks hS hf => ?_)
    refine W.eq (g2 := F0 m 15 ls [.int x12]) rfl ?_
    refine lv_if_eq (tgt := 27) hx hb dX2_silence_15 (by decide) (fun c15 => ?_) (fun c15 => ?_)
    · replace hf := xb_pos c15 hf
      exact w_X2_silence_b27 C hr hR N  h H locs cells slots kc ks ls hf hS (hl.sub [] rfl)
    · replace hf := xb_neg c15 hf
      refine lv_iload_n hx hb dX2_silence_18 rfl (hl.at 1 rfl) ?_
      refine lv_iload_n hx hb dX2_silence_19 rfl (hl.at 2 rfl) ?_
      refine lv_iadd hx hb dX2_silence_20 ?_
      refine lv_sipush (v := 600) hx hb dX2_silence_21 xi_s600 ?_
      refine lv_icmp_le (tgt := 30) hx hb dX2_silence_24 (by decide) (fun c24 => ?_) (fun c24 => ?_)
      · replace hf := xb_pos c24 hf
        refine xr_aload_n C dX2_silence_30 rfl (hl.at 0 rfl) ?_
        refine xr_V (V := fun _ => none) (n := 0) (fr := 1) (lo := 24) (As := []) C hS xf_X2 (lw_V q892 q894 qs24 q60 q895) hdv_X2_record ⟨Nat.le_trans (Nat.le_of_ble_eq_true rfl) hR.1, Nat.le_trans (Nat.le_of_ble_eq_true rfl) hR.2⟩ rfl hl.1.1 rfl xm_r0 hf (fun v h1 k1 n1 e1 => ct_X2_record l D N e1) dX2_silence_31 (fun _ h H locs cells slots kc ks hS hf => ?_)
        refine W.eq (g2 := F0 m 34 ls []) rfl ?_
        refine lv_iconst (v := 0) hx hb dX2_silence_34 xi_c0 ?_
        refine xr_istore_n C dX2_silence_35 rfl hl (Nat.le_of_ble_eq_true rfl) (lv' := [(3, .int (0 : Int32)), (0, va_rf a0), (1, .int a1), (2, .int a2)]) rfl (fun ls hl => ?_)
        refine lv_iload_n hx hb dX2_silence_36 rfl (hl.at 2 rfl) ?_
        refine xr_istore C dX2_silence_37 hl (Nat.le_of_ble_eq_true rfl) (lv' := [(4, .int a1), (3, .int (0 : Int32)), (0, va_rf a0), (1, .int a1), (2, .int a2)]) rfl (fun ls hl => ?_)
        exact w_X2_silence_l39 C hr hR N N a0 a1 a2 (0 : Int32) a1  h H locs cells slots kc ks ls hf hS (hl.sub [2, 3, 4, 1, 0] rfl)
      · replace hf := xb_neg c24 hf
        exact w_X2_silence_b27 C hr hR N  h H locs cells slots kc ks ls hf hS (hl.sub [] rfl)
theorem ct_X2_silence (l : Launch) (D : xh_D) {rv : Int32} {h hF : xh_H} {kc ks : Nat} (N : Nat) {a0 : Option Nat} {a1 : Int32} {a2 : Int32} (hf : f_X2_silence N a0 a1 a2 h = some (rv, hF, kc, ks)) : xh_Ct l D yX2_silence (ws_ yX2_silence cX2_silence 5 (Option.some Jvm.ClassFile.FieldType.int)) 2 45 [va_rf a0, .int a1, .int a2] h (some (.int rv)) hF kc ks :=
  xh_meth (cc := cX2_silence) l (by decide) (Nat.le_of_ble_eq_true rfl) (List.forall_mem_cons.mpr ⟨va_rf_cat _, List.forall_mem_cons.mpr ⟨rfl, List.forall_mem_cons.mpr ⟨rfl, fun _ h => absurd h List.not_mem_nil⟩⟩⟩) fun p e s m below meth c ls C hr hnm hl hS => w_X2_silence C hr ⟨Nat.le_refl _, Nat.le_refl _⟩ N a0 a1 a2 h _ _ _ _ _ _ _ hf hS hl
/-- SungSlidesModel.isSyllable(I)Z -/
theorem w_X2_isSyllable (C : xh_C cX2_isSyllable 2 "SungSlidesModel" D g p s m args meth c) (hr : meth.sig.returnType = (Option.some Jvm.ClassFile.FieldType.boolean)) (hR : 1 ≤ R.frames ∧ 22 ≤ R.locals) {rv : Int32} {hF : xh_H} (N : Nat) (a0 : Option Nat) (a1 : Int32)  (h : xh_H) (H : Heap) (locs : List Loc) (cells slots kc ks : Nat) (ls : Array Slot) (hf : f_X2_isSyllable N a0 a1 h = some (rv, hF, kc, ks)) (hS : xh_T D g s R h H locs cells slots kc ks) (hl : xh_L ls 2 [(0, va_rf a0), (1, .int a1)]) : W p l e R s m args below meth c H locs cells slots (MQ below (xh_Q D g (some (.int rv)) hF) args s R.cells R.slots (xh_A g)) (F0 m 0 ls []) := by
  have hx := C.1
  have hb := C.2.1
  unfold f_X2_isSyllable at hf
  refine lv_iload_n hx hb dX2_isSyllable_0 rfl (hl.at 1 rfl) ?_
  refine lv_iconst (v := 0) hx hb dX2_isSyllable_1 xi_c0 ?_
  refine xr_aload_n C dX2_isSyllable_2 rfl (hl.at 0 rfl) ?_
  refine xr_getR C hS xf_X2 0 (by decide) q817 (fun _ h => h) hf dX2_isSyllable_3 (fun x3 hf => ?_)
  refine lv_iconst (v := 5) hx hb dX2_isSyllable_6 xi_c5 ?_
  refine xr_iald C hS hf dX2_isSyllable_7 (fun x7 hf => ?_)
  refine lv_iconst (v := 1) hx hb dX2_isSyllable_8 xi_c1 ?_
  refine lv_isub hx hb dX2_isSyllable_9 ?_
  refine xr_S (V := fun v => some (.int v)) (n := 3) (fr := 0) (lo := 0) (As := [.int a1, .int (0 : Int32), .int (x7 - (1 : Int32))]) C hS (lw_S q873 q874 q60 q875) hd_X2_in ⟨Nat.le_trans (Nat.le_of_ble_eq_true rfl) hR.1, Nat.le_trans (Nat.le_of_ble_eq_true rfl) hR.2⟩ rfl hl.1.1 rfl xm_r0 hf (fun v h1 k1 n1 e1 => ct_X2_in l D N e1) dX2_isSyllable_10 (fun x10 h H locs cells slots kc ks hS hf => ?_)
  refine W.eq (g2 := F0 m 13 ls [.int x10]) rfl ?_
  exact xr_zret C hS hr hf dX2_isSyllable_13
theorem ct_X2_isSyllable (l : Launch) (D : xh_D) {rv : Int32} {h hF : xh_H} {kc ks : Nat} (N : Nat) {a0 : Option Nat} {a1 : Int32} (hf : f_X2_isSyllable N a0 a1 h = some (rv, hF, kc, ks)) : xh_Ct l D yX2_isSyllable (ws_ yX2_isSyllable cX2_isSyllable 2 (Option.some Jvm.ClassFile.FieldType.boolean)) 1 22 [va_rf a0, .int a1] h (some (.int rv)) hF kc ks :=
  xh_meth (cc := cX2_isSyllable) l (by decide) (Nat.le_of_ble_eq_true rfl) (List.forall_mem_cons.mpr ⟨va_rf_cat _, List.forall_mem_cons.mpr ⟨rfl, fun _ h => absurd h List.not_mem_nil⟩⟩) fun p e s m below meth c ls C hr hnm hl hS => w_X2_isSyllable C hr ⟨Nat.le_refl _, Nat.le_refl _⟩ N a0 a1 h _ _ _ _ _ _ _ hf hS hl
def K_X2_singAlong_44 (p : Program) (l : Launch) (e : Env) (s : State) (m : MethodId) (args : Array Value) (below : List Frame) (meth : Method) (c : Code) (D : xh_D) (g : Nat → Nat) (R : Room) (rv : Int32) (hF : xh_H) (k : Option Nat → Int32 → Int32 → Int32 → xh_H → xh_R Int32) : Prop := ∀ (a0 : Option Nat) (a2 : Int32) (a3 : Int32) (a4 : Int32) (h : xh_H) (H : Heap) (locs : List Loc) (cells slots kc ks : Nat) (ls : Array Slot), k a0 a2 a3 a4 h = some (rv, hF, kc, ks) → xh_T D g s R h H locs cells slots kc ks → xh_L ls 7 [(0, va_rf a0), (2, .int a2), (3, .int a3), (4, .int a4)] → W p l e R s m args below meth c H locs cells slots (MQ below (xh_Q D g (some (.int rv)) hF) args s R.cells R.slots (xh_A g)) (F0 m 44 ls [])
def K_X2_singAlong_59 (p : Program) (l : Launch) (e : Env) (s : State) (m : MethodId) (args : Array Value) (below : List Frame) (meth : Method) (c : Code) (D : xh_D) (g : Nat → Nat) (R : Room) (rv : Int32) (hF : xh_H) (k : Option Nat → Int32 → Int32 → Int32 → Int32 → xh_H → xh_R Int32) : Prop := ∀ (a0 : Option Nat) (a2 : Int32) (a3 : Int32) (a4 : Int32) (a5 : Int32) (h : xh_H) (H : Heap) (locs : List Loc) (cells slots kc ks : Nat) (ls : Array Slot), k a0 a2 a3 a4 a5 h = some (rv, hF, kc, ks) → xh_T D g s R h H locs cells slots kc ks → xh_L ls 7 [(0, va_rf a0), (2, .int a2), (3, .int a3), (4, .int a4), (5, .int a5)] → W p l e R s m args below meth c H locs cells slots (MQ below (xh_Q D g (some (.int rv)) hF) args s R.cells R.slots (xh_A g)) (F0 m 59 ls [])
theorem w_X2_singAlong_b129 (C : xh_C cX2_singAlong 7 "SungSlidesModel" D g p s m args meth c) (hr : meth.sig.returnType = (Option.some Jvm.ClassFile.FieldType.int)) (hR : 7 ≤ R.frames ∧ 157 ≤ R.locals) {rv : Int32} {hF : xh_H} (N : Nat) : ∀ (a0 : Option Nat) (h : xh_H) (H : Heap) (locs : List Loc) (cells slots kc ks : Nat) (ls : Array Slot), f_X2_singAlong_b129 N a0 h = some (rv, hF, kc, ks) → xh_T D g s R h H locs cells slots kc ks → xh_L ls 7 [(0, va_rf a0)] → W p l e R s m args below meth c H locs cells slots (MQ below (xh_Q D g (some (.int rv)) hF) args s R.cells R.slots (xh_A g)) (F0 m 129 ls []) := by
  intro a0 h H locs cells slots kc ks ls hf hS hl
  have hx := C.1
  have hb := C.2.1
  unfold f_X2_singAlong_b129 at hf
  refine xr_aload_n C dX2_singAlong_129 rfl (hl.at 0 rfl) ?_
  refine xr_V (V := fun _ => none) (n := 0) (fr := 6) (lo := 137) (As := []) C hS xf_X2 (lw_V q925 q927 qs27 q60 q928) hdv_X2_judgeSong ⟨Nat.le_trans (Nat.le_of_ble_eq_true rfl) hR.1, Nat.le_trans (Nat.le_of_ble_eq_true rfl) hR.2⟩ rfl hl.1.1 rfl xm_r0 hf (fun v h1 k1 n1 e1 => ct_X2_judgeSong l D N e1) dX2_singAlong_130 (fun _ h H locs cells slots kc ks hS hf => ?_)
  refine W.eq (g2 := F0 m 133 ls []) rfl ?_
  refine xr_aload_n C dX2_singAlong_133 rfl (hl.at 0 rfl) ?_
  refine xr_V (V := fun v => some (.int v)) (n := 0) (fr := 0) (lo := 0) (As := []) C hS xf_X2 (lw_V q972 q974 qs38 q60 q975) hdv_X2_hits ⟨Nat.le_trans (Nat.le_of_ble_eq_true rfl) hR.1, Nat.le_trans (Nat.le_of_ble_eq_true rfl) hR.2⟩ rfl hl.1.1 rfl xm_r0 hf (fun v h1 k1 n1 e1 => ct_X2_hits l D N e1) dX2_singAlong_134 (fun x134 h H locs cells slots kc ks hS hf => ?_)
  refine W.eq (g2 := F0 m 137 ls [.int x134]) rfl ?_
  exact xr_iret C hS hr hf dX2_singAlong_137
theorem w_X2_singAlong_b123 (C : xh_C cX2_singAlong 7 "SungSlidesModel" D g p s m args meth c) (hr : meth.sig.returnType = (Option.some Jvm.ClassFile.FieldType.int)) (hR : 7 ≤ R.frames ∧ 157 ≤ R.locals) {rv : Int32} {hF : xh_H} (N : Nat) {k44 : Option Nat → Int32 → Int32 → Int32 → xh_H → xh_R Int32} (hk44 : K_X2_singAlong_44 p l e s m args below meth c D g R rv hF k44) : ∀ (a0 : Option Nat) (a2 : Int32) (a3 : Int32) (a4 : Int32) (h : xh_H) (H : Heap) (locs : List Loc) (cells slots kc ks : Nat) (ls : Array Slot), f_X2_singAlong_b123 N k44 a0 a2 a3 a4 h = some (rv, hF, kc, ks) → xh_T D g s R h H locs cells slots kc ks → xh_L ls 7 [(0, va_rf a0), (2, .int a2), (3, .int a3), (4, .int a4)] → W p l e R s m args below meth c H locs cells slots (MQ below (xh_Q D g (some (.int rv)) hF) args s R.cells R.slots (xh_A g)) (F0 m 123 ls []) := by
  intro a0 a2 a3 a4 h H locs cells slots kc ks ls hf hS hl
  have hx := C.1
  have hb := C.2.1
  unfold f_X2_singAlong_b123 at hf
  refine xr_iinc C dX2_singAlong_123 hl (k := 3) rfl (xi_inc xi_c1) (Nat.le_of_ble_eq_true rfl) (lv' := [(4, .int (a4 + (1 : Int32))), (0, va_rf a0), (2, .int a2), (3, .int a3)]) rfl (fun ls hl => ?_)
  refine lv_goto (tgt := 44) hx hb dX2_singAlong_126 (by decide) ?_
  exact hk44 a0 a2 a3 (a4 + (1 : Int32))  h H locs cells slots kc ks ls hf hS (hl.sub [1, 2, 3, 0] rfl)
theorem w_X2_singAlong_b116 (C : xh_C cX2_singAlong 7 "SungSlidesModel" D g p s m args meth c) (hr : meth.sig.returnType = (Option.some Jvm.ClassFile.FieldType.int)) (hR : 7 ≤ R.frames ∧ 157 ≤ R.locals) {rv : Int32} {hF : xh_H} (N : Nat) {k59 : Option Nat → Int32 → Int32 → Int32 → Int32 → xh_H → xh_R Int32} (hk59 : K_X2_singAlong_59 p l e s m args below meth c D g R rv hF k59) : ∀ (a0 : Option Nat) (a2 : Int32) (a3 : Int32) (a4 : Int32) (a5 : Int32) (t0 : Option Nat) (t1 : Int32) (t2 : Int32) (h : xh_H) (H : Heap) (locs : List Loc) (cells slots kc ks : Nat) (ls : Array Slot), f_X2_singAlong_b116 N k59 a0 a2 a3 a4 a5 t0 t1 t2 h = some (rv, hF, kc, ks) → xh_T D g s R h H locs cells slots kc ks → xh_L ls 7 [(0, va_rf a0), (2, .int a2), (3, .int a3), (4, .int a4), (5, .int a5)] → W p l e R s m args below meth c H locs cells slots (MQ below (xh_Q D g (some (.int rv)) hF) args s R.cells R.slots (xh_A g)) (F0 m 116 ls [.int t2, .int t1, va_rf t0]) := by
  intro a0 a2 a3 a4 a5 t0 t1 t2 h H locs cells slots kc ks ls hf hS hl
  have hx := C.1
  have hb := C.2.1
  unfold f_X2_singAlong_b116 at hf
  refine xr_iast C hS hf dX2_singAlong_116 (fun h H locs hS hf => ?_)
  refine xr_iinc C dX2_singAlong_117 hl (k := 4) rfl (xi_inc xi_c1) (Nat.le_of_ble_eq_true rfl) (lv' := [(5, .int (a5 + (1 : Int32))), (0, va_rf a0), (2, .int a2), (3, .int a3), (4, .int a4)]) rfl (fun ls hl => ?_)
  refine lv_goto (tgt := 59) hx hb dX2_singAlong_120 (by decide) ?_
  exact hk59 a0 a2 a3 a4 (a5 + (1 : Int32))  h H locs cells slots kc ks ls hf hS (hl.sub [1, 2, 3, 4, 0] rfl)
theorem w_X2_singAlong_b59 (C : xh_C cX2_singAlong 7 "SungSlidesModel" D g p s m args meth c) (hr : meth.sig.returnType = (Option.some Jvm.ClassFile.FieldType.int)) (hR : 7 ≤ R.frames ∧ 157 ≤ R.locals) {rv : Int32} {hF : xh_H} (N : Nat) {k44 : Option Nat → Int32 → Int32 → Int32 → xh_H → xh_R Int32} (hk44 : K_X2_singAlong_44 p l e s m args below meth c D g R rv hF k44) {k59 : Option Nat → Int32 → Int32 → Int32 → Int32 → xh_H → xh_R Int32} (hk59 : K_X2_singAlong_59 p l e s m args below meth c D g R rv hF k59) : ∀ (a0 : Option Nat) (a2 : Int32) (a3 : Int32) (a4 : Int32) (a5 : Int32) (h : xh_H) (H : Heap) (locs : List Loc) (cells slots kc ks : Nat) (ls : Array Slot), f_X2_singAlong_b59 N k44 k59 a0 a2 a3 a4 a5 h = some (rv, hF, kc, ks) → xh_T D g s R h H locs cells slots kc ks → xh_L ls 7 [(0, va_rf a0), (2, .int a2), (3, .int a3), (4, .int a4), (5, .int a5)] → W p l e R s m args below meth c H locs cells slots (MQ below (xh_Q D g (some (.int rv)) hF) args s R.cells R.slots (xh_A g)) (F0 m 59 ls []) := by
  intro a0 a2 a3 a4 a5 h H locs cells slots kc ks ls hf hS hl
  have hx := C.1
  have hb := C.2.1
  unfold f_X2_singAlong_b59 at hf
  refine lv_iload hx hb dX2_singAlong_59 (hl.at 4 rfl) ?_
  refine xr_aload_n C dX2_singAlong_61 rfl (hl.at 0 rfl) ?_
  refine lv_iload hx hb dX2_singAlong_62 (hl.at 3 rfl) ?_
  refine xr_V (V := fun v => some (.int v)) (n := 1) (fr := 1) (lo := 22) (As := [.int a4]) C hS xf_X2 (lw_V q884 q886 qs22 q60 q887) hdv_X2_behind ⟨Nat.le_trans (Nat.le_of_ble_eq_true rfl) hR.1, Nat.le_trans (Nat.le_of_ble_eq_true rfl) hR.2⟩ rfl hl.1.1 rfl (xm_rc rfl xm_r0) hf (fun v h1 k1 n1 e1 => ct_X2_behind l D N e1) dX2_singAlong_64 (fun x64 h H locs cells slots kc ks hS hf => ?_)
  refine W.eq (g2 := F0 m 67 ls [.int x64, .int a5]) rfl ?_
  refine lv_icmp_ge (tgt := 123) hx hb dX2_singAlong_67 (by decide) (fun c67 => ?_) (fun c67 => ?_)
  · replace hf := xb_pos c67 hf
    exact w_X2_singAlong_b123 C hr hR N hk44 a0 a2 a3 a4  h H locs cells slots kc ks ls hf hS (hl.sub [0, 1, 2, 3] rfl)
  · replace hf := xb_neg c67 hf
    refine xr_aload_n C dX2_singAlong_70 rfl (hl.at 0 rfl) ?_
    refine lv_iload hx hb dX2_singAlong_71 (hl.at 3 rfl) ?_
    refine lv_iload hx hb dX2_singAlong_73 (hl.at 4 rfl) ?_
    refine xr_aload_n C dX2_singAlong_75 rfl (hl.at 0 rfl) ?_
    refine lv_iload hx hb dX2_singAlong_76 (hl.at 3 rfl) ?_
    refine lv_iconst (v := 0) hx hb dX2_singAlong_78 xi_c0 ?_
    refine xr_V (V := fun v => some (.int v)) (n := 2) (fr := 0) (lo := 0) (As := [.int a4, .int (0 : Int32)]) C hS xf_X2 (lw_V q888 q890 qs23 q60 q891) hdv_X2_of ⟨Nat.le_trans (Nat.le_of_ble_eq_true rfl) hR.1, Nat.le_trans (Nat.le_of_ble_eq_true rfl) hR.2⟩ rfl hl.1.1 rfl (xm_rc rfl (xm_rc rfl (xm_rc (va_rf_cat _) xm_r0))) hf (fun v h1 k1 n1 e1 => ct_X2_of l D N e1) dX2_singAlong_79 (fun x79 h H locs cells slots kc ks hS hf => ?_)
    refine W.eq (g2 := F0 m 82 ls [.int x79, .int a5, .int a4, va_rf a0]) rfl ?_
    refine lv_isub hx hb dX2_singAlong_82 ?_
    refine xr_V (V := fun v => some (.int v)) (n := 2) (fr := 1) (lo := 22) (As := [.int a4, .int (a5 - x79)]) C hS xf_X2 (lw_V q941 q943 qs31 q60 q944) hdv_X2_wantedIn ⟨Nat.le_trans (Nat.le_of_ble_eq_true rfl) hR.1, Nat.le_trans (Nat.le_of_ble_eq_true rfl) hR.2⟩ rfl hl.1.1 rfl xm_r0 hf (fun v h1 k1 n1 e1 => ct_X2_wantedIn l D N e1) dX2_singAlong_83 (fun x83 h H locs cells slots kc ks hS hf => ?_)
    refine W.eq (g2 := F0 m 86 ls [.int x83]) rfl ?_
    refine lv_iload_n hx hb dX2_singAlong_86 rfl (hl.at 2 rfl) ?_
    refine lv_iadd hx hb dX2_singAlong_87 ?_
    refine xr_istore C dX2_singAlong_88 hl (Nat.le_of_ble_eq_true rfl) (lv' := [(6, .int (x83 + a3)), (0, va_rf a0), (2, .int a2), (3, .int a3), (4, .int a4), (5, .int a5)]) rfl (fun ls hl => ?_)
    refine xr_aload_n C dX2_singAlong_90 rfl (hl.at 1 rfl) ?_
    refine xr_getR C hS xf_X2 0 (by decide) q817 (fun _ h => h) hf dX2_singAlong_91 (fun x91 hf => ?_)
    refine lv_sipush (v := 206) hx hb dX2_singAlong_94 xi_s206 ?_
    refine lv_iload hx hb dX2_singAlong_97 (hl.at 5 rfl) ?_
    refine lv_iadd hx hb dX2_singAlong_99 ?_
    refine lv_iload hx hb dX2_singAlong_100 (hl.at 0 rfl) ?_
    refine xr_S (V := fun v => some (.int v)) (n := 1) (fr := 1) (lo := 22) (As := [.int (x83 + a3)]) C hS (lw_S q870 q871 q60 q872) hd_X2_isPitch ⟨Nat.le_trans (Nat.le_of_ble_eq_true rfl) hR.1, Nat.le_trans (Nat.le_of_ble_eq_true rfl) hR.2⟩ rfl hl.1.1 rfl (xm_rc rfl (xm_rc (va_rf_cat _) xm_r0)) hf (fun v h1 k1 n1 e1 => ct_X2_isPitch l D N e1) dX2_singAlong_102 (fun x102 h H locs cells slots kc ks hS hf => ?_)
    refine W.eq (g2 := F0 m 105 ls [.int x102, .int ((206 : Int32) + a5), va_rf x91]) rfl ?_
    refine lv_if_eq (tgt := 115) hx hb dX2_singAlong_105 (by decide) (fun c105 => ?_) (fun c105 => ?_)
    · replace hf := xb_pos c105 hf
      refine lv_iconst (v := 0) hx hb dX2_singAlong_115 xi_c0 ?_
      exact w_X2_singAlong_b116 C hr hR N hk59 a0 a2 a3 a4 a5 x91 ((206 : Int32) + a5) (0 : Int32) h H locs cells slots kc ks ls hf hS (hl.sub [1, 2, 3, 4, 5] rfl)
    · replace hf := xb_neg c105 hf
      refine lv_iload hx hb dX2_singAlong_108 (hl.at 0 rfl) ?_
      refine lv_iconst (v := 1) hx hb dX2_singAlong_110 xi_c1 ?_
      refine lv_iadd hx hb dX2_singAlong_111 ?_
      refine lv_goto (tgt := 116) hx hb dX2_singAlong_112 (by decide) ?_
      exact w_X2_singAlong_b116 C hr hR N hk59 a0 a2 a3 a4 a5 x91 ((206 : Int32) + a5) ((x83 + a3) + (1 : Int32)) h H locs cells slots kc ks ls hf hS (hl.sub [1, 2, 3, 4, 5] rfl)
theorem w_X2_singAlong_l59 (C : xh_C cX2_singAlong 7 "SungSlidesModel" D g p s m args meth c) (hr : meth.sig.returnType = (Option.some Jvm.ClassFile.FieldType.int)) (hR : 7 ≤ R.frames ∧ 157 ≤ R.locals) {rv : Int32} {hF : xh_H} (N : Nat) {k44 : Option Nat → Int32 → Int32 → Int32 → xh_H → xh_R Int32} (hk44 : K_X2_singAlong_44 p l e s m args below meth c D g R rv hF k44) : ∀ n : Nat, K_X2_singAlong_59 p l e s m args below meth c D g R rv hF (f_X2_singAlong_l59 N k44 n) := by
  intro n
  induction n with
  | zero => exact fun a0 a2 a3 a4 a5 h H locs cells slots kc ks ls hf => absurd (show (none : xh_R Int32) = some _ from hf) (by intro q; cases q)
  | succ n ih => exact fun a0 a2 a3 a4 a5 h H locs cells slots kc ks ls hf => w_X2_singAlong_b59 C hr hR N hk44 ih a0 a2 a3 a4 a5 h H locs cells slots kc ks ls hf
theorem w_X2_singAlong_b44 (C : xh_C cX2_singAlong 7 "SungSlidesModel" D g p s m args meth c) (hr : meth.sig.returnType = (Option.some Jvm.ClassFile.FieldType.int)) (hR : 7 ≤ R.frames ∧ 157 ≤ R.locals) {rv : Int32} {hF : xh_H} (N : Nat) {k44 : Option Nat → Int32 → Int32 → Int32 → xh_H → xh_R Int32} (hk44 : K_X2_singAlong_44 p l e s m args below meth c D g R rv hF k44) : ∀ (a0 : Option Nat) (a2 : Int32) (a3 : Int32) (a4 : Int32) (h : xh_H) (H : Heap) (locs : List Loc) (cells slots kc ks : Nat) (ls : Array Slot), f_X2_singAlong_b44 N k44 a0 a2 a3 a4 h = some (rv, hF, kc, ks) → xh_T D g s R h H locs cells slots kc ks → xh_L ls 7 [(0, va_rf a0), (2, .int a2), (3, .int a3), (4, .int a4)] → W p l e R s m args below meth c H locs cells slots (MQ below (xh_Q D g (some (.int rv)) hF) args s R.cells R.slots (xh_A g)) (F0 m 44 ls []) := by
  intro a0 a2 a3 a4 h H locs cells slots kc ks ls hf hS hl
  have hx := C.1
  have hb := C.2.1
  unfold f_X2_singAlong_b44 at hf
  refine lv_iload hx hb dX2_singAlong_44 (hl.at 3 rfl) ?_
  refine lv_iload_n hx hb dX2_singAlong_46 rfl (hl.at 1 rfl) ?_
  refine lv_icmp_gt (tgt := 129) hx hb dX2_singAlong_47 (by decide) (fun c47 => ?_) (fun c47 => ?_)
  · replace hf := xb_pos c47 hf
    exact w_X2_singAlong_b129 C hr hR N a0  h H locs cells slots kc ks ls hf hS (hl.sub [0] rfl)
  · replace hf := xb_neg c47 hf
    refine xr_aload_n C dX2_singAlong_50 rfl (hl.at 0 rfl) ?_
    refine lv_iload hx hb dX2_singAlong_51 (hl.at 3 rfl) ?_
    refine lv_iconst (v := 0) hx hb dX2_singAlong_53 xi_c0 ?_
    refine xr_V (V := fun v => some (.int v)) (n := 2) (fr := 0) (lo := 0) (As := [.int a4, .int (0 : Int32)]) C hS xf_X2 (lw_V q888 q890 qs23 q60 q891) hdv_X2_of ⟨Nat.le_trans (Nat.le_of_ble_eq_true rfl) hR.1, Nat.le_trans (Nat.le_of_ble_eq_true rfl) hR.2⟩ rfl hl.1.1 rfl xm_r0 hf (fun v h1 k1 n1 e1 => ct_X2_of l D N e1) dX2_singAlong_54 (fun x54 h H locs cells slots kc ks hS hf => ?_)
    refine W.eq (g2 := F0 m 57 ls [.int x54]) rfl ?_
    refine xr_istore C dX2_singAlong_57 hl (Nat.le_of_ble_eq_true rfl) (lv' := [(5, .int x54), (0, va_rf a0), (2, .int a2), (3, .int a3), (4, .int a4)]) rfl (fun ls hl => ?_)
    exact w_X2_singAlong_l59 C hr hR N hk44 N a0 a2 a3 a4 x54  h H locs cells slots kc ks ls hf hS (hl.sub [1, 2, 3, 4, 0] rfl)
theorem w_X2_singAlong_l44 (C : xh_C cX2_singAlong 7 "SungSlidesModel" D g p s m args meth c) (hr : meth.sig.returnType = (Option.some Jvm.ClassFile.FieldType.int)) (hR : 7 ≤ R.frames ∧ 157 ≤ R.locals) {rv : Int32} {hF : xh_H} (N : Nat) : ∀ n : Nat, K_X2_singAlong_44 p l e s m args below meth c D g R rv hF (f_X2_singAlong_l44 N n) := by
  intro n
  induction n with
  | zero => exact fun a0 a2 a3 a4 h H locs cells slots kc ks ls hf => absurd (show (none : xh_R Int32) = some _ from hf) (by intro q; cases q)
  | succ n ih => exact fun a0 a2 a3 a4 h H locs cells slots kc ks ls hf => w_X2_singAlong_b44 C hr hR N ih a0 a2 a3 a4 h H locs cells slots kc ks ls hf
theorem w_X2_singAlong_b34 (C : xh_C cX2_singAlong 7 "SungSlidesModel" D g p s m args meth c) (hr : meth.sig.returnType = (Option.some Jvm.ClassFile.FieldType.int)) (hR : 7 ≤ R.frames ∧ 157 ≤ R.locals) {rv : Int32} {hF : xh_H} (N : Nat) : ∀ (h : xh_H) (H : Heap) (locs : List Loc) (cells slots kc ks : Nat) (ls : Array Slot), f_X2_singAlong_b34 N  h = some (rv, hF, kc, ks) → xh_T D g s R h H locs cells slots kc ks → xh_L ls 7 [] → W p l e R s m args below meth c H locs cells slots (MQ below (xh_Q D g (some (.int rv)) hF) args s R.cells R.slots (xh_A g)) (F0 m 34 ls []) := by
  intro  h H locs cells slots kc ks ls hf hS hl
  have hx := C.1
  have hb := C.2.1
  unfold f_X2_singAlong_b34 at hf
  refine lv_bipush (v := -2) hx hb dX2_singAlong_34 xi_bm2 ?_
  exact xr_iret C hS hr hf dX2_singAlong_36
theorem w_X2_singAlong_b16 (C : xh_C cX2_singAlong 7 "SungSlidesModel" D g p s m args meth c) (hr : meth.sig.returnType = (Option.some Jvm.ClassFile.FieldType.int)) (hR : 7 ≤ R.frames ∧ 157 ≤ R.locals) {rv : Int32} {hF : xh_H} (N : Nat) : ∀ (h : xh_H) (H : Heap) (locs : List Loc) (cells slots kc ks : Nat) (ls : Array Slot), f_X2_singAlong_b16 N  h = some (rv, hF, kc, ks) → xh_T D g s R h H locs cells slots kc ks → xh_L ls 7 [] → W p l e R s m args below meth c H locs cells slots (MQ below (xh_Q D g (some (.int rv)) hF) args s R.cells R.slots (xh_A g)) (F0 m 16 ls []) := by
  intro  h H locs cells slots kc ks ls hf hS hl
  have hx := C.1
  have hb := C.2.1
  unfold f_X2_singAlong_b16 at hf
  refine lv_iconst (v := -1) hx hb dX2_singAlong_16 xi_cm1 ?_
  exact xr_iret C hS hr hf dX2_singAlong_17
/-- SungSlidesModel.singAlong(III)I -/
theorem w_X2_singAlong (C : xh_C cX2_singAlong 7 "SungSlidesModel" D g p s m args meth c) (hr : meth.sig.returnType = (Option.some Jvm.ClassFile.FieldType.int)) (hR : 7 ≤ R.frames ∧ 157 ≤ R.locals) {rv : Int32} {hF : xh_H} (N : Nat) (a0 : Option Nat) (a1 : Int32) (a2 : Int32) (a3 : Int32)  (h : xh_H) (H : Heap) (locs : List Loc) (cells slots kc ks : Nat) (ls : Array Slot) (hf : f_X2_singAlong N a0 a1 a2 a3 h = some (rv, hF, kc, ks)) (hS : xh_T D g s R h H locs cells slots kc ks) (hl : xh_L ls 7 [(0, va_rf a0), (1, .int a1), (2, .int a2), (3, .int a3)]) : W p l e R s m args below meth c H locs cells slots (MQ below (xh_Q D g (some (.int rv)) hF) args s R.cells R.slots (xh_A g)) (F0 m 0 ls []) := by
  have hx := C.1
  have hb := C.2.1
  unfold f_X2_singAlong at hf
  refine xr_aload_n C dX2_singAlong_0 rfl (hl.at 0 rfl) ?_
  refine lv_iload_n hx hb dX2_singAlong_1 rfl (hl.at 1 rfl) ?_
  refine xr_V (V := fun v => some (.int v)) (n := 1) (fr := 1) (lo := 22) (As := [.int a1]) C hS xf_X2 (lw_V q984 q986 qs39 q60 q987) hdv_X2_isSyllable ⟨Nat.le_trans (Nat.le_of_ble_eq_true rfl) hR.1, Nat.le_trans (Nat.le_of_ble_eq_true rfl) hR.2⟩ rfl hl.1.1 rfl xm_r0 hf (fun v h1 k1 n1 e1 => ct_X2_isSyllable l D N e1) dX2_singAlong_2 (fun x2 h H locs cells slots kc ks hS hf => ?_)
  refine W.eq (g2 := F0 m 5 ls [.int x2]) rfl ?_
  refine lv_if_eq (tgt := 16) hx hb dX2_singAlong_5 (by decide) (fun c5 => ?_) (fun c5 => ?_)
  · replace hf := xb_pos c5 hf
    exact w_X2_singAlong_b16 C hr hR N  h H locs cells slots kc ks ls hf hS (hl.sub [] rfl)
  · replace hf := xb_neg c5 hf
    refine xr_aload_n C dX2_singAlong_8 rfl (hl.at 0 rfl) ?_
    refine lv_iload_n hx hb dX2_singAlong_9 rfl (hl.at 2 rfl) ?_
    refine xr_V (V := fun v => some (.int v)) (n := 1) (fr := 1) (lo := 22) (As := [.int a2]) C hS xf_X2 (lw_V q984 q986 qs39 q60 q987) hdv_X2_isSyllable ⟨Nat.le_trans (Nat.le_of_ble_eq_true rfl) hR.1, Nat.le_trans (Nat.le_of_ble_eq_true rfl) hR.2⟩ rfl hl.1.1 rfl xm_r0 hf (fun v h1 k1 n1 e1 => ct_X2_isSyllable l D N e1) dX2_singAlong_10 (fun x10 h H locs cells slots kc ks hS hf => ?_)
    refine W.eq (g2 := F0 m 13 ls [.int x10]) rfl ?_
    refine lv_if_ne (tgt := 18) hx hb dX2_singAlong_13 (by decide) (fun c13 => ?_) (fun c13 => ?_)
    · replace hf := xb_neg c13 hf
      refine lv_iload_n hx hb dX2_singAlong_18 rfl (hl.at 2 rfl) ?_
      refine lv_iload_n hx hb dX2_singAlong_19 rfl (hl.at 1 rfl) ?_
      refine lv_icmp_lt (tgt := 34) hx hb dX2_singAlong_20 (by decide) (fun c20 => ?_) (fun c20 => ?_)
      · replace hf := xb_pos c20 hf
        exact w_X2_singAlong_b34 C hr hR N  h H locs cells slots kc ks ls hf hS (hl.sub [] rfl)
      · replace hf := xb_neg c20 hf
        refine lv_iload_n hx hb dX2_singAlong_23 rfl (hl.at 3 rfl) ?_
        refine lv_bipush (v := -60) hx hb dX2_singAlong_24 xi_bm60 ?_
        refine lv_bipush (v := 60) hx hb dX2_singAlong_26 xi_b60 ?_
        refine xr_S (V := fun v => some (.int v)) (n := 3) (fr := 0) (lo := 0) (As := [.int a3, .int (-60 : Int32), .int (60 : Int32)]) C hS (lw_S q873 q874 q60 q875) hd_X2_in ⟨Nat.le_trans (Nat.le_of_ble_eq_true rfl) hR.1, Nat.le_trans (Nat.le_of_ble_eq_true rfl) hR.2⟩ rfl hl.1.1 rfl xm_r0 hf (fun v h1 k1 n1 e1 => ct_X2_in l D N e1) dX2_singAlong_28 (fun x28 h H locs cells slots kc ks hS hf => ?_)
        refine W.eq (g2 := F0 m 31 ls [.int x28]) rfl ?_
        refine lv_if_ne (tgt := 37) hx hb dX2_singAlong_31 (by decide) (fun c31 => ?_) (fun c31 => ?_)
        · replace hf := xb_neg c31 hf
          refine xr_aload_n C dX2_singAlong_37 rfl (hl.at 0 rfl) ?_
          refine xr_V (V := fun _ => none) (n := 0) (fr := 1) (lo := 24) (As := []) C hS xf_X2 (lw_V q892 q894 qs24 q60 q895) hdv_X2_record ⟨Nat.le_trans (Nat.le_of_ble_eq_true rfl) hR.1, Nat.le_trans (Nat.le_of_ble_eq_true rfl) hR.2⟩ rfl hl.1.1 rfl xm_r0 hf (fun v h1 k1 n1 e1 => ct_X2_record l D N e1) dX2_singAlong_38 (fun _ h H locs cells slots kc ks hS hf => ?_)
          refine W.eq (g2 := F0 m 41 ls []) rfl ?_
          refine lv_iload_n hx hb dX2_singAlong_41 rfl (hl.at 1 rfl) ?_
          refine xr_istore C dX2_singAlong_42 hl (Nat.le_of_ble_eq_true rfl) (lv' := [(4, .int a1), (0, va_rf a0), (1, .int a1), (2, .int a2), (3, .int a3)]) rfl (fun ls hl => ?_)
          exact w_X2_singAlong_l44 C hr hR N N a0 a2 a3 a1  h H locs cells slots kc ks ls hf hS (hl.sub [1, 3, 4, 0] rfl)
        · replace hf := xb_pos c31 hf
          exact w_X2_singAlong_b34 C hr hR N  h H locs cells slots kc ks ls hf hS (hl.sub [] rfl)
    · replace hf := xb_pos c13 hf
      exact w_X2_singAlong_b16 C hr hR N  h H locs cells slots kc ks ls hf hS (hl.sub [] rfl)
theorem ct_X2_singAlong (l : Launch) (D : xh_D) {rv : Int32} {h hF : xh_H} {kc ks : Nat} (N : Nat) {a0 : Option Nat} {a1 : Int32} {a2 : Int32} {a3 : Int32} (hf : f_X2_singAlong N a0 a1 a2 a3 h = some (rv, hF, kc, ks)) : xh_Ct l D yX2_singAlong (ws_ yX2_singAlong cX2_singAlong 7 (Option.some Jvm.ClassFile.FieldType.int)) 7 157 [va_rf a0, .int a1, .int a2, .int a3] h (some (.int rv)) hF kc ks :=
  xh_meth (cc := cX2_singAlong) l (by decide) (Nat.le_of_ble_eq_true rfl) (List.forall_mem_cons.mpr ⟨va_rf_cat _, List.forall_mem_cons.mpr ⟨rfl, List.forall_mem_cons.mpr ⟨rfl, List.forall_mem_cons.mpr ⟨rfl, fun _ h => absurd h List.not_mem_nil⟩⟩⟩⟩) fun p e s m below meth c ls C hr hnm hl hS => w_X2_singAlong C hr ⟨Nat.le_refl _, Nat.le_refl _⟩ N a0 a1 a2 a3 h _ _ _ _ _ _ _ hf hS hl
/-- SungSlidesModel.type(C)I -/
theorem w_X2_type (C : xh_C cX2_type 2 "SungSlidesModel" D g p s m args meth c) (hr : meth.sig.returnType = (Option.some Jvm.ClassFile.FieldType.int)) (hR : 0 ≤ R.frames ∧ 0 ≤ R.locals) {rv : Int32} {hF : xh_H} (N : Nat) (a0 : Option Nat) (a1 : Int32)  (h : xh_H) (H : Heap) (locs : List Loc) (cells slots kc ks : Nat) (ls : Array Slot) (hf : f_X2_type N a0 a1 h = some (rv, hF, kc, ks)) (hS : xh_T D g s R h H locs cells slots kc ks) (hl : xh_L ls 2 [(0, va_rf a0), (1, .int a1)]) : W p l e R s m args below meth c H locs cells slots (MQ below (xh_Q D g (some (.int rv)) hF) args s R.cells R.slots (xh_A g)) (F0 m 0 ls []) := by
  have hx := C.1
  have hb := C.2.1
  unfold f_X2_type at hf
  refine xr_aload_n C dX2_type_0 rfl (hl.at 0 rfl) ?_
  refine xr_getI C hS xf_X2 6 (by decide) q823 (fun _ h => h) hf dX2_type_1 (fun x1 hf => ?_)
  refine lv_bipush (v := 60) hx hb dX2_type_4 xi_b60 ?_
  refine lv_icmp_ne (tgt := 12) hx hb dX2_type_6 (by decide) (fun c6 => ?_) (fun c6 => ?_)
  · replace hf := xb_neg c6 hf
    refine xr_aload_n C dX2_type_12 rfl (hl.at 0 rfl) ?_
    refine xr_getR C hS xf_X2 5 (by decide) q822 (fun _ h => h) hf dX2_type_13 (fun x13 hf => ?_)
    refine xr_aload_n C dX2_type_16 rfl (hl.at 0 rfl) ?_
    refine xr_getI C hS xf_X2 6 (by decide) q823 (fun _ h => h) hf dX2_type_17 (fun x17 hf => ?_)
    refine lv_iload_n hx hb dX2_type_20 rfl (hl.at 1 rfl) ?_
    refine xr_cast C hS hf dX2_type_21 (fun h H locs hS hf => ?_)
    refine xr_aload_n C dX2_type_22 rfl (hl.at 0 rfl) ?_
    refine lv_dup hx hb dX2_type_23 (va_rf_cat _) ?_
    refine xr_getI C hS xf_X2 6 (by decide) q823 (fun _ h => h) hf dX2_type_24 (fun x24 hf => ?_)
    refine lv_iconst (v := 1) hx hb dX2_type_27 xi_c1 ?_
    refine lv_iadd hx hb dX2_type_28 ?_
    refine xr_put C hS xf_X2 6 (by decide) q823 (fun _ h => h) rfl xv_int hf dX2_type_29 (fun h H locs hS hf => ?_)
    refine xr_aload_n C dX2_type_32 rfl (hl.at 0 rfl) ?_
    refine xr_getI C hS xf_X2 6 (by decide) q823 (fun _ h => h) hf dX2_type_33 (fun x33 hf => ?_)
    exact xr_iret C hS hr hf dX2_type_36
  · replace hf := xb_pos c6 hf
    refine lv_bipush (v := -3) hx hb dX2_type_9 xi_bm3 ?_
    exact xr_iret C hS hr hf dX2_type_11
theorem ct_X2_type (l : Launch) (D : xh_D) {rv : Int32} {h hF : xh_H} {kc ks : Nat} (N : Nat) {a0 : Option Nat} {a1 : Int32} (hf : f_X2_type N a0 a1 h = some (rv, hF, kc, ks)) : xh_Ct l D yX2_type (ws_ yX2_type cX2_type 2 (Option.some Jvm.ClassFile.FieldType.int)) 0 0 [va_rf a0, .int a1] h (some (.int rv)) hF kc ks :=
  xh_meth (cc := cX2_type) l (by decide) (Nat.le_of_ble_eq_true rfl) (List.forall_mem_cons.mpr ⟨va_rf_cat _, List.forall_mem_cons.mpr ⟨rfl, fun _ h => absurd h List.not_mem_nil⟩⟩) fun p e s m below meth c ls C hr hnm hl hS => w_X2_type C hr ⟨Nat.le_refl _, Nat.le_refl _⟩ N a0 a1 h _ _ _ _ _ _ _ hf hS hl
/-- SungSlidesModel.clearText()I -/
theorem w_X2_clearText (C : xh_C cX2_clearText 2 "SungSlidesModel" D g p s m args meth c) (hr : meth.sig.returnType = (Option.some Jvm.ClassFile.FieldType.int)) (hR : 0 ≤ R.frames ∧ 0 ≤ R.locals) {rv : Int32} {hF : xh_H} (N : Nat) (a0 : Option Nat)  (h : xh_H) (H : Heap) (locs : List Loc) (cells slots kc ks : Nat) (ls : Array Slot) (hf : f_X2_clearText N a0 h = some (rv, hF, kc, ks)) (hS : xh_T D g s R h H locs cells slots kc ks) (hl : xh_L ls 2 [(0, va_rf a0)]) : W p l e R s m args below meth c H locs cells slots (MQ below (xh_Q D g (some (.int rv)) hF) args s R.cells R.slots (xh_A g)) (F0 m 0 ls []) := by
  have hx := C.1
  have hb := C.2.1
  unfold f_X2_clearText at hf
  refine xr_aload_n C dX2_clearText_0 rfl (hl.at 0 rfl) ?_
  refine xr_getI C hS xf_X2 6 (by decide) q823 (fun _ h => h) hf dX2_clearText_1 (fun x1 hf => ?_)
  refine xr_istore_n C dX2_clearText_4 rfl hl (Nat.le_of_ble_eq_true rfl) (lv' := [(1, .int x1), (0, va_rf a0)]) rfl (fun ls hl => ?_)
  refine xr_aload_n C dX2_clearText_5 rfl (hl.at 1 rfl) ?_
  refine lv_iconst (v := 0) hx hb dX2_clearText_6 xi_c0 ?_
  refine xr_put C hS xf_X2 6 (by decide) q823 (fun _ h => h) rfl xv_int hf dX2_clearText_7 (fun h H locs hS hf => ?_)
  refine lv_iload_n hx hb dX2_clearText_10 rfl (hl.at 0 rfl) ?_
  exact xr_iret C hS hr hf dX2_clearText_11
theorem ct_X2_clearText (l : Launch) (D : xh_D) {rv : Int32} {h hF : xh_H} {kc ks : Nat} (N : Nat) {a0 : Option Nat} (hf : f_X2_clearText N a0 h = some (rv, hF, kc, ks)) : xh_Ct l D yX2_clearText (ws_ yX2_clearText cX2_clearText 2 (Option.some Jvm.ClassFile.FieldType.int)) 0 0 [va_rf a0] h (some (.int rv)) hF kc ks :=
  xh_meth (cc := cX2_clearText) l (by decide) (Nat.le_of_ble_eq_true rfl) (List.forall_mem_cons.mpr ⟨va_rf_cat _, fun _ h => absurd h List.not_mem_nil⟩) fun p e s m below meth c ls C hr hnm hl hS => w_X2_clearText C hr ⟨Nat.le_refl _, Nat.le_refl _⟩ N a0 h _ _ _ _ _ _ _ hf hS hl
theorem w_X2_isNext_b32 (C : xh_C cX2_isNext 3 "SungSlidesModel" D g p s m args meth c) (hr : meth.sig.returnType = (Option.some Jvm.ClassFile.FieldType.boolean)) (hR : 1 ≤ R.frames ∧ 22 ≤ R.locals) {rv : Int32} {hF : xh_H} (N : Nat) : ∀ (h : xh_H) (H : Heap) (locs : List Loc) (cells slots kc ks : Nat) (ls : Array Slot), f_X2_isNext_b32 N  h = some (rv, hF, kc, ks) → xh_T D g s R h H locs cells slots kc ks → xh_L ls 3 [] → W p l e R s m args below meth c H locs cells slots (MQ below (xh_Q D g (some (.int rv)) hF) args s R.cells R.slots (xh_A g)) (F0 m 32 ls []) := by
  intro  h H locs cells slots kc ks ls hf hS hl
  have hx := C.1
  have hb := C.2.1
  unfold f_X2_isNext_b32 at hf
  refine lv_iconst (v := 0) hx hb dX2_isNext_32 xi_c0 ?_
  exact xr_zret1 C hS hr (by decide) hf dX2_isNext_33
/-- SungSlidesModel.isNext(II)Z -/
theorem w_X2_isNext (C : xh_C cX2_isNext 3 "SungSlidesModel" D g p s m args meth c) (hr : meth.sig.returnType = (Option.some Jvm.ClassFile.FieldType.boolean)) (hR : 1 ≤ R.frames ∧ 22 ≤ R.locals) {rv : Int32} {hF : xh_H} (N : Nat) (a0 : Option Nat) (a1 : Int32) (a2 : Int32)  (h : xh_H) (H : Heap) (locs : List Loc) (cells slots kc ks : Nat) (ls : Array Slot) (hf : f_X2_isNext N a0 a1 a2 h = some (rv, hF, kc, ks)) (hS : xh_T D g s R h H locs cells slots kc ks) (hl : xh_L ls 3 [(0, va_rf a0), (1, .int a1), (2, .int a2)]) : W p l e R s m args below meth c H locs cells slots (MQ below (xh_Q D g (some (.int rv)) hF) args s R.cells R.slots (xh_A g)) (F0 m 0 ls []) := by
  have hx := C.1
  have hb := C.2.1
  unfold f_X2_isNext at hf
  refine xr_aload_n C dX2_isNext_0 rfl (hl.at 0 rfl) ?_
  refine xr_getI C hS xf_X2 13 (by decide) q830 (fun _ h => h) hf dX2_isNext_1 (fun x1 hf => ?_)
  refine xr_aload_n C dX2_isNext_4 rfl (hl.at 0 rfl) ?_
  refine xr_getI C hS xf_X2 6 (by decide) q823 (fun _ h => h) hf dX2_isNext_5 (fun x5 hf => ?_)
  refine lv_icmp_ge (tgt := 32) hx hb dX2_isNext_8 (by decide) (fun c8 => ?_) (fun c8 => ?_)
  · replace hf := xb_pos c8 hf
    exact w_X2_isNext_b32 C hr hR N  h H locs cells slots kc ks ls hf hS (hl.sub [] rfl)
  · replace hf := xb_neg c8 hf
    refine xr_aload_n C dX2_isNext_11 rfl (hl.at 0 rfl) ?_
    refine xr_getR C hS xf_X2 5 (by decide) q822 (fun _ h => h) hf dX2_isNext_12 (fun x12 hf => ?_)
    refine xr_aload_n C dX2_isNext_15 rfl (hl.at 0 rfl) ?_
    refine xr_getI C hS xf_X2 13 (by decide) q830 (fun _ h => h) hf dX2_isNext_16 (fun x16 hf => ?_)
    refine xr_cald C hS hf dX2_isNext_19 (fun x19 hf => ?_)
    refine lv_iload_n hx hb dX2_isNext_20 rfl (hl.at 1 rfl) ?_
    refine lv_iload_n hx hb dX2_isNext_21 rfl (hl.at 2 rfl) ?_
    refine xr_S (V := fun v => some (.int v)) (n := 3) (fr := 0) (lo := 0) (As := [.int x19, .int a1, .int a2]) C hS (lw_S q873 q874 q60 q875) hd_X2_in ⟨Nat.le_trans (Nat.le_of_ble_eq_true rfl) hR.1, Nat.le_trans (Nat.le_of_ble_eq_true rfl) hR.2⟩ rfl hl.1.1 rfl xm_r0 hf (fun v h1 k1 n1 e1 => ct_X2_in l D N e1) dX2_isNext_22 (fun x22 h H locs cells slots kc ks hS hf => ?_)
    refine W.eq (g2 := F0 m 25 ls [.int x22]) rfl ?_
    refine lv_if_eq (tgt := 32) hx hb dX2_isNext_25 (by decide) (fun c25 => ?_) (fun c25 => ?_)
    · replace hf := xb_pos c25 hf
      exact w_X2_isNext_b32 C hr hR N  h H locs cells slots kc ks ls hf hS (hl.sub [] rfl)
    · replace hf := xb_neg c25 hf
      refine lv_iconst (v := 1) hx hb dX2_isNext_28 xi_c1 ?_
      refine lv_goto (tgt := 33) hx hb dX2_isNext_29 (by decide) ?_
      exact xr_zret1 C hS hr (by decide) hf dX2_isNext_33
theorem ct_X2_isNext (l : Launch) (D : xh_D) {rv : Int32} {h hF : xh_H} {kc ks : Nat} (N : Nat) {a0 : Option Nat} {a1 : Int32} {a2 : Int32} (hf : f_X2_isNext N a0 a1 a2 h = some (rv, hF, kc, ks)) : xh_Ct l D yX2_isNext (ws_ yX2_isNext cX2_isNext 3 (Option.some Jvm.ClassFile.FieldType.boolean)) 1 22 [va_rf a0, .int a1, .int a2] h (some (.int rv)) hF kc ks :=
  xh_meth (cc := cX2_isNext) l (by decide) (Nat.le_of_ble_eq_true rfl) (List.forall_mem_cons.mpr ⟨va_rf_cat _, List.forall_mem_cons.mpr ⟨rfl, List.forall_mem_cons.mpr ⟨rfl, fun _ h => absurd h List.not_mem_nil⟩⟩⟩) fun p e s m below meth c ls C hr hnm hl hS => w_X2_isNext C hr ⟨Nat.le_refl _, Nat.le_refl _⟩ N a0 a1 a2 h _ _ _ _ _ _ _ hf hS hl
def K_X2_readNumber_39 (p : Program) (l : Launch) (e : Env) (s : State) (m : MethodId) (args : Array Value) (below : List Frame) (meth : Method) (c : Code) (D : xh_D) (g : Nat → Nat) (R : Room) (rv : Int32) (hF : xh_H) (k : Option Nat → Int32 → Int32 → Int32 → xh_H → xh_R Int32) : Prop := ∀ (a0 : Option Nat) (a1 : Int32) (a3 : Int32) (a4 : Int32) (h : xh_H) (H : Heap) (locs : List Loc) (cells slots kc ks : Nat) (ls : Array Slot), k a0 a1 a3 a4 h = some (rv, hF, kc, ks) → xh_T D g s R h H locs cells slots kc ks → xh_L ls 5 [(0, va_rf a0), (1, .int a1), (3, .int a3), (4, .int a4)] → W p l e R s m args below meth c H locs cells slots (MQ below (xh_Q D g (some (.int rv)) hF) args s R.cells R.slots (xh_A g)) (F0 m 39 ls [])
theorem w_X2_readNumber_b110 (C : xh_C cX2_readNumber 5 "SungSlidesModel" D g p s m args meth c) (hr : meth.sig.returnType = (Option.some Jvm.ClassFile.FieldType.boolean)) (hR : 2 ≤ R.frames ∧ 44 ≤ R.locals) {rv : Int32} {hF : xh_H} (N : Nat) : ∀ (a0 : Option Nat) (a1 : Int32) (a4 : Int32) (h : xh_H) (H : Heap) (locs : List Loc) (cells slots kc ks : Nat) (ls : Array Slot), f_X2_readNumber_b110 N a0 a1 a4 h = some (rv, hF, kc, ks) → xh_T D g s R h H locs cells slots kc ks → xh_L ls 5 [(0, va_rf a0), (1, .int a1), (4, .int a4)] → W p l e R s m args below meth c H locs cells slots (MQ below (xh_Q D g (some (.int rv)) hF) args s R.cells R.slots (xh_A g)) (F0 m 110 ls []) := by
  intro a0 a1 a4 h H locs cells slots kc ks ls hf hS hl
  have hx := C.1
  have hb := C.2.1
  unfold f_X2_readNumber_b110 at hf
  refine xr_aload_n C dX2_readNumber_110 rfl (hl.at 0 rfl) ?_
  refine xr_getR C hS xf_X2 14 (by decide) q831 (fun _ h => h) hf dX2_readNumber_111 (fun x111 hf => ?_)
  refine lv_iload_n hx hb dX2_readNumber_114 rfl (hl.at 1 rfl) ?_
  refine lv_iload hx hb dX2_readNumber_115 (hl.at 2 rfl) ?_
  refine xr_iast C hS hf dX2_readNumber_117 (fun h H locs hS hf => ?_)
  refine lv_iconst (v := 1) hx hb dX2_readNumber_118 xi_c1 ?_
  exact xr_zret1 C hS hr (by decide) hf dX2_readNumber_119
theorem w_X2_readNumber_b39 (C : xh_C cX2_readNumber 5 "SungSlidesModel" D g p s m args meth c) (hr : meth.sig.returnType = (Option.some Jvm.ClassFile.FieldType.boolean)) (hR : 2 ≤ R.frames ∧ 44 ≤ R.locals) {rv : Int32} {hF : xh_H} (N : Nat) {k39 : Option Nat → Int32 → Int32 → Int32 → xh_H → xh_R Int32} (hk39 : K_X2_readNumber_39 p l e s m args below meth c D g R rv hF k39) : ∀ (a0 : Option Nat) (a1 : Int32) (a3 : Int32) (a4 : Int32) (h : xh_H) (H : Heap) (locs : List Loc) (cells slots kc ks : Nat) (ls : Array Slot), f_X2_readNumber_b39 N k39 a0 a1 a3 a4 h = some (rv, hF, kc, ks) → xh_T D g s R h H locs cells slots kc ks → xh_L ls 5 [(0, va_rf a0), (1, .int a1), (3, .int a3), (4, .int a4)] → W p l e R s m args below meth c H locs cells slots (MQ below (xh_Q D g (some (.int rv)) hF) args s R.cells R.slots (xh_A g)) (F0 m 39 ls []) := by
  intro a0 a1 a3 a4 h H locs cells slots kc ks ls hf hS hl
  have hx := C.1
  have hb := C.2.1
  unfold f_X2_readNumber_b39 at hf
  refine lv_iload hx hb dX2_readNumber_39 (hl.at 3 rfl) ?_
  refine lv_if_le (tgt := 110) hx hb dX2_readNumber_41 (by decide) (fun c41 => ?_) (fun c41 => ?_)
  · replace hf := xb_pos c41 hf
    exact w_X2_readNumber_b110 C hr hR N a0 a1 a4  h H locs cells slots kc ks ls hf hS (hl.sub [0, 1, 3] rfl)
  · replace hf := xb_neg c41 hf
    refine xr_aload_n C dX2_readNumber_44 rfl (hl.at 0 rfl) ?_
    refine lv_bipush (v := 48) hx hb dX2_readNumber_45 xi_b48 ?_
    refine lv_bipush (v := 57) hx hb dX2_readNumber_47 xi_b57 ?_
    refine xr_V (V := fun v => some (.int v)) (n := 2) (fr := 1) (lo := 22) (As := [.int (48 : Int32), .int (57 : Int32)]) C hS xf_X2 (lw_V q1012 q1014 qs43 q60 q1015) hdv_X2_isNext ⟨Nat.le_trans (Nat.le_of_ble_eq_true rfl) hR.1, Nat.le_trans (Nat.le_of_ble_eq_true rfl) hR.2⟩ rfl hl.1.1 rfl xm_r0 hf (fun v h1 k1 n1 e1 => ct_X2_isNext l D N e1) dX2_readNumber_49 (fun x49 h H locs cells slots kc ks hS hf => ?_)
    refine W.eq (g2 := F0 m 52 ls [.int x49]) rfl ?_
    refine lv_if_eq (tgt := 110) hx hb dX2_readNumber_52 (by decide) (fun c52 => ?_) (fun c52 => ?_)
    · replace hf := xb_pos c52 hf
      exact w_X2_readNumber_b110 C hr hR N a0 a1 a4  h H locs cells slots kc ks ls hf hS (hl.sub [0, 1, 3] rfl)
    · replace hf := xb_neg c52 hf
      refine lv_bipush (v := 10) hx hb dX2_readNumber_55 xi_b10 ?_
      refine lv_iload hx hb dX2_readNumber_57 (hl.at 3 rfl) ?_
      refine lv_imul hx hb dX2_readNumber_59 ?_
      refine xr_aload_n C dX2_readNumber_60 rfl (hl.at 0 rfl) ?_
      refine xr_getR C hS xf_X2 5 (by decide) q822 (fun _ h => h) hf dX2_readNumber_61 (fun x61 hf => ?_)
      refine xr_aload_n C dX2_readNumber_64 rfl (hl.at 0 rfl) ?_
      refine xr_getI C hS xf_X2 13 (by decide) q830 (fun _ h => h) hf dX2_readNumber_65 (fun x65 hf => ?_)
      refine xr_cald C hS hf dX2_readNumber_68 (fun x68 hf => ?_)
      refine lv_iadd hx hb dX2_readNumber_69 ?_
      refine lv_bipush (v := 48) hx hb dX2_readNumber_70 xi_b48 ?_
      refine lv_isub hx hb dX2_readNumber_72 ?_
      refine lv_iload_n hx hb dX2_readNumber_73 rfl (hl.at 2 rfl) ?_
      refine lv_icmp_gt (tgt := 110) hx hb dX2_readNumber_74 (by decide) (fun c74 => ?_) (fun c74 => ?_)
      · replace hf := xb_pos c74 hf
        exact w_X2_readNumber_b110 C hr hR N a0 a1 a4  h H locs cells slots kc ks ls hf hS (hl.sub [0, 1, 3] rfl)
      · replace hf := xb_neg c74 hf
        refine lv_bipush (v := 10) hx hb dX2_readNumber_77 xi_b10 ?_
        refine lv_iload hx hb dX2_readNumber_79 (hl.at 3 rfl) ?_
        refine lv_imul hx hb dX2_readNumber_81 ?_
        refine xr_aload_n C dX2_readNumber_82 rfl (hl.at 0 rfl) ?_
        refine xr_getR C hS xf_X2 5 (by decide) q822 (fun _ h => h) hf dX2_readNumber_83 (fun x83 hf => ?_)
        refine xr_aload_n C dX2_readNumber_86 rfl (hl.at 0 rfl) ?_
        refine xr_getI C hS xf_X2 13 (by decide) q830 (fun _ h => h) hf dX2_readNumber_87 (fun x87 hf => ?_)
        refine xr_cald C hS hf dX2_readNumber_90 (fun x90 hf => ?_)
        refine lv_iadd hx hb dX2_readNumber_91 ?_
        refine lv_bipush (v := 48) hx hb dX2_readNumber_92 xi_b48 ?_
        refine lv_isub hx hb dX2_readNumber_94 ?_
        refine xr_istore C dX2_readNumber_95 hl (Nat.le_of_ble_eq_true rfl) (lv' := [(4, .int ((((10 : Int32) * a4) + x90) - (48 : Int32))), (0, va_rf a0), (1, .int a1), (3, .int a3)]) rfl (fun ls hl => ?_)
        refine xr_aload_n C dX2_readNumber_97 rfl (hl.at 1 rfl) ?_
        refine lv_dup hx hb dX2_readNumber_98 (va_rf_cat _) ?_
        refine xr_getI C hS xf_X2 13 (by decide) q830 (fun _ h => h) hf dX2_readNumber_99 (fun x99 hf => ?_)
        refine lv_iconst (v := 1) hx hb dX2_readNumber_102 xi_c1 ?_
        refine lv_iadd hx hb dX2_readNumber_103 ?_
        refine xr_put C hS xf_X2 13 (by decide) q830 (fun _ h => h) rfl xv_int hf dX2_readNumber_104 (fun h H locs hS hf => ?_)
        refine lv_goto (tgt := 39) hx hb dX2_readNumber_107 (by decide) ?_
        exact hk39 a0 a1 a3 ((((10 : Int32) * a4) + x90) - (48 : Int32))  h H locs cells slots kc ks ls hf hS (hl.sub [1, 2, 3, 0] rfl)
theorem w_X2_readNumber_l39 (C : xh_C cX2_readNumber 5 "SungSlidesModel" D g p s m args meth c) (hr : meth.sig.returnType = (Option.some Jvm.ClassFile.FieldType.boolean)) (hR : 2 ≤ R.frames ∧ 44 ≤ R.locals) {rv : Int32} {hF : xh_H} (N : Nat) : ∀ n : Nat, K_X2_readNumber_39 p l e s m args below meth c D g R rv hF (f_X2_readNumber_l39 N n) := by
  intro n
  induction n with
  | zero => exact fun a0 a1 a3 a4 h H locs cells slots kc ks ls hf => absurd (show (none : xh_R Int32) = some _ from hf) (by intro q; cases q)
  | succ n ih => exact fun a0 a1 a3 a4 h H locs cells slots kc ks ls hf => w_X2_readNumber_b39 C hr hR N ih a0 a1 a3 a4 h H locs cells slots kc ks ls hf
/-- SungSlidesModel.readNumber(III)Z -/
theorem w_X2_readNumber (C : xh_C cX2_readNumber 5 "SungSlidesModel" D g p s m args meth c) (hr : meth.sig.returnType = (Option.some Jvm.ClassFile.FieldType.boolean)) (hR : 2 ≤ R.frames ∧ 44 ≤ R.locals) {rv : Int32} {hF : xh_H} (N : Nat) (a0 : Option Nat) (a1 : Int32) (a2 : Int32) (a3 : Int32)  (h : xh_H) (H : Heap) (locs : List Loc) (cells slots kc ks : Nat) (ls : Array Slot) (hf : f_X2_readNumber N a0 a1 a2 a3 h = some (rv, hF, kc, ks)) (hS : xh_T D g s R h H locs cells slots kc ks) (hl : xh_L ls 5 [(0, va_rf a0), (1, .int a1), (2, .int a2), (3, .int a3)]) : W p l e R s m args below meth c H locs cells slots (MQ below (xh_Q D g (some (.int rv)) hF) args s R.cells R.slots (xh_A g)) (F0 m 0 ls []) := by
  have hx := C.1
  have hb := C.2.1
  unfold f_X2_readNumber at hf
  refine xr_aload_n C dX2_readNumber_0 rfl (hl.at 0 rfl) ?_
  refine lv_bipush (v := 48) hx hb dX2_readNumber_1 xi_b48 ?_
  refine lv_iload_n hx hb dX2_readNumber_3 rfl (hl.at 2 rfl) ?_
  refine lv_iadd hx hb dX2_readNumber_4 ?_
  refine lv_bipush (v := 57) hx hb dX2_readNumber_5 xi_b57 ?_
  refine xr_V (V := fun v => some (.int v)) (n := 2) (fr := 1) (lo := 22) (As := [.int ((48 : Int32) + a2), .int (57 : Int32)]) C hS xf_X2 (lw_V q1012 q1014 qs43 q60 q1015) hdv_X2_isNext ⟨Nat.le_trans (Nat.le_of_ble_eq_true rfl) hR.1, Nat.le_trans (Nat.le_of_ble_eq_true rfl) hR.2⟩ rfl hl.1.1 rfl xm_r0 hf (fun v h1 k1 n1 e1 => ct_X2_isNext l D N e1) dX2_readNumber_7 (fun x7 h H locs cells slots kc ks hS hf => ?_)
  refine W.eq (g2 := F0 m 10 ls [.int x7]) rfl ?_
  refine lv_if_ne (tgt := 15) hx hb dX2_readNumber_10 (by decide) (fun c10 => ?_) (fun c10 => ?_)
  · replace hf := xb_neg c10 hf
    refine xr_aload_n C dX2_readNumber_15 rfl (hl.at 0 rfl) ?_
    refine xr_getR C hS xf_X2 5 (by decide) q822 (fun _ h => h) hf dX2_readNumber_16 (fun x16 hf => ?_)
    refine xr_aload_n C dX2_readNumber_19 rfl (hl.at 0 rfl) ?_
    refine xr_getI C hS xf_X2 13 (by decide) q830 (fun _ h => h) hf dX2_readNumber_20 (fun x20 hf => ?_)
    refine xr_cald C hS hf dX2_readNumber_23 (fun x23 hf => ?_)
    refine lv_bipush (v := 48) hx hb dX2_readNumber_24 xi_b48 ?_
    refine lv_isub hx hb dX2_readNumber_26 ?_
    refine xr_istore C dX2_readNumber_27 hl (Nat.le_of_ble_eq_true rfl) (lv' := [(4, .int (x23 - (48 : Int32))), (0, va_rf a0), (1, .int a1), (2, .int a2), (3, .int a3)]) rfl (fun ls hl => ?_)
    refine xr_aload_n C dX2_readNumber_29 rfl (hl.at 1 rfl) ?_
    refine lv_dup hx hb dX2_readNumber_30 (va_rf_cat _) ?_
    refine xr_getI C hS xf_X2 13 (by decide) q830 (fun _ h => h) hf dX2_readNumber_31 (fun x31 hf => ?_)
    refine lv_iconst (v := 1) hx hb dX2_readNumber_34 xi_c1 ?_
    refine lv_iadd hx hb dX2_readNumber_35 ?_
    refine xr_put C hS xf_X2 13 (by decide) q830 (fun _ h => h) rfl xv_int hf dX2_readNumber_36 (fun h H locs hS hf => ?_)
    exact w_X2_readNumber_l39 C hr hR N N a0 a1 a3 (x23 - (48 : Int32))  h H locs cells slots kc ks ls hf hS (hl.sub [1, 2, 4, 0] rfl)
  · replace hf := xb_pos c10 hf
    refine lv_iconst (v := 0) hx hb dX2_readNumber_13 xi_c0 ?_
    exact xr_zret1 C hS hr (by decide) hf dX2_readNumber_14
theorem ct_X2_readNumber (l : Launch) (D : xh_D) {rv : Int32} {h hF : xh_H} {kc ks : Nat} (N : Nat) {a0 : Option Nat} {a1 : Int32} {a2 : Int32} {a3 : Int32} (hf : f_X2_readNumber N a0 a1 a2 a3 h = some (rv, hF, kc, ks)) : xh_Ct l D yX2_readNumber (ws_ yX2_readNumber cX2_readNumber 5 (Option.some Jvm.ClassFile.FieldType.boolean)) 2 44 [va_rf a0, .int a1, .int a2, .int a3] h (some (.int rv)) hF kc ks :=
  xh_meth (cc := cX2_readNumber) l (by decide) (Nat.le_of_ble_eq_true rfl) (List.forall_mem_cons.mpr ⟨va_rf_cat _, List.forall_mem_cons.mpr ⟨rfl, List.forall_mem_cons.mpr ⟨rfl, List.forall_mem_cons.mpr ⟨rfl, fun _ h => absurd h List.not_mem_nil⟩⟩⟩⟩) fun p e s m below meth c ls C hr hnm hl hS => w_X2_readNumber C hr ⟨Nat.le_refl _, Nat.le_refl _⟩ N a0 a1 a2 a3 h _ _ _ _ _ _ _ hf hS hl
end WALK
