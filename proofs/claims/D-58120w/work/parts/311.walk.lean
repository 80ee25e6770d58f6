/-! WALKS, printed by gen/walk.py -/
set_option maxRecDepth 100000
section WALK
variable {p : Program} {l : Launch} {e : Env} {s : State} {m : MethodId} {args : Array Value} {below : List Frame} {meth : Method} {c : Code} {D : xh_D} {g : Nat → Nat} {R : Room}
theorem w_X2_takes_b21 (C : xh_C cX2_takes 3 "SungSlidesModel" D g p s m args meth c) (hr : meth.sig.returnType = (Option.some Jvm.ClassFile.FieldType.boolean)) (hR : 2 ≤ R.frames ∧ 44 ≤ R.locals) {rv : Int32} {hF : xh_H} (N : Nat) : ∀ (a2 : Int32) (t0 : Option Nat) (t1 : Int32) (t2 : Int32) (h : xh_H) (H : Heap) (locs : List Loc) (cells slots kc ks : Nat) (ls : Array Slot), f_X2_takes_b21 N a2 t0 t1 t2 h = some (rv, hF, kc, ks) → xh_T D g s R h H locs cells slots kc ks → xh_L ls 3 [(2, .int a2)] → W p l e R s m args below meth c H locs cells slots (MQ below (xh_Q D g (some (.int rv)) hF) args s R.cells R.slots (xh_A g)) (F0 m 21 ls [.int t2, .int t1, va_rf t0]) := by
  intro a2 t0 t1 t2 h H locs cells slots kc ks ls hf hS hl
  have hx := C.1
  have hb := C.2.1
  unfold f_X2_takes_b21 at hf
  refine lv_iadd hx hb dX2_takes_21 ?_
  refine xr_put C hS xf_X2 13 (by decide) q830 (fun _ h => h) rfl xv_int hf dX2_takes_22 (fun h H locs hS hf => ?_)
  refine lv_iload_n hx hb dX2_takes_25 rfl (hl.at 0 rfl) ?_
  exact xr_zret C hS hr hf dX2_takes_26
/-- SungSlidesModel.takes(I)Z -/
theorem w_X2_takes (C : xh_C cX2_takes 3 "SungSlidesModel" D g p s m args meth c) (hr : meth.sig.returnType = (Option.some Jvm.ClassFile.FieldType.boolean)) (hR : 2 ≤ R.frames ∧ 44 ≤ R.locals) {rv : Int32} {hF : xh_H} (N : Nat) (a0 : Option Nat) (a1 : Int32)  (h : xh_H) (H : Heap) (locs : List Loc) (cells slots kc ks : Nat) (ls : Array Slot) (hf : f_X2_takes N a0 a1 h = some (rv, hF, kc, ks)) (hS : xh_T D g s R h H locs cells slots kc ks) (hl : xh_L ls 3 [(0, va_rf a0), (1, .int a1)]) : W p l e R s m args below meth c H locs cells slots (MQ below (xh_Q D g (some (.int rv)) hF) args s R.cells R.slots (xh_A g)) (F0 m 0 ls []) := by
  have hx := C.1
  have hb := C.2.1
  unfold f_X2_takes at hf
  refine xr_aload_n C dX2_takes_0 rfl (hl.at 0 rfl) ?_
  refine lv_iload_n hx hb dX2_takes_1 rfl (hl.at 1 rfl) ?_
  refine lv_iload_n hx hb dX2_takes_2 rfl (hl.at 1 rfl) ?_
  refine xr_V (V := fun v => some (.int v)) (n := 2) (fr := 1) (lo := 22) (As := [.int a1, .int a1]) C hS xf_X2 (lw_V q1012 q1014 qs43 q60 q1015) hdv_X2_isNext ⟨Nat.le_trans (Nat.le_of_ble_eq_true rfl) hR.1, Nat.le_trans (Nat.le_of_ble_eq_true rfl) hR.2⟩ rfl hl.1.1 rfl xm_r0 hf (fun v h1 k1 n1 e1 => ct_X2_isNext l D N e1) dX2_takes_3 (fun x3 h H locs cells slots kc ks hS hf => ?_)
  refine W.eq (g2 := F0 m 6 ls [.int x3]) rfl ?_
  refine xr_istore_n C dX2_takes_6 rfl hl (Nat.le_of_ble_eq_true rfl) (lv' := [(2, .int x3), (0, va_rf a0), (1, .int a1)]) rfl (fun ls hl => ?_)
  refine xr_aload_n C dX2_takes_7 rfl (hl.at 1 rfl) ?_
  refine lv_dup hx hb dX2_takes_8 (va_rf_cat _) ?_
  refine xr_getI C hS xf_X2 13 (by decide) q830 (fun _ h => h) hf dX2_takes_9 (fun x9 hf => ?_)
  refine lv_iload_n hx hb dX2_takes_12 rfl (hl.at 0 rfl) ?_
  refine lv_if_eq (tgt := 20) hx hb dX2_takes_13 (by decide) (fun c13 => ?_) (fun c13 => ?_)
  · replace hf := xb_pos c13 hf
    refine lv_iconst (v := 0) hx hb dX2_takes_20 xi_c0 ?_
    exact w_X2_takes_b21 C hr hR N x3 a0 x9 (0 : Int32) h H locs cells slots kc ks ls hf hS (hl.sub [0] rfl)
  · replace hf := xb_neg c13 hf
    refine lv_iconst (v := 1) hx hb dX2_takes_16 xi_c1 ?_
    refine lv_goto (tgt := 21) hx hb dX2_takes_17 (by decide) ?_
    exact w_X2_takes_b21 C hr hR N x3 a0 x9 (1 : Int32) h H locs cells slots kc ks ls hf hS (hl.sub [0] rfl)
theorem ct_X2_takes (l : Launch) (D : xh_D) {rv : Int32} {h hF : xh_H} {kc ks : Nat} (N : Nat) {a0 : Option Nat} {a1 : Int32} (hf : f_X2_takes N a0 a1 h = some (rv, hF, kc, ks)) : xh_Ct l D yX2_takes (ws_ yX2_takes cX2_takes 3 (Option.some Jvm.ClassFile.FieldType.boolean)) 2 44 [va_rf a0, .int a1] h (some (.int rv)) hF kc ks :=
  xh_meth (cc := cX2_takes) l (by decide) (Nat.le_of_ble_eq_true rfl) (List.forall_mem_cons.mpr ⟨va_rf_cat _, List.forall_mem_cons.mpr ⟨rfl, fun _ h => absurd h List.not_mem_nil⟩⟩) fun p e s m below meth c ls C hr hnm hl hS => w_X2_takes C hr ⟨Nat.le_refl _, Nat.le_refl _⟩ N a0 a1 h _ _ _ _ _ _ _ hf hS hl
theorem w_X2_readSyllable_b98 (C : xh_C cX2_readSyllable 1 "SungSlidesModel" D g p s m args meth c) (hr : meth.sig.returnType = (Option.some Jvm.ClassFile.FieldType.boolean)) (hR : 3 ≤ R.frames ∧ 68 ≤ R.locals) {rv : Int32} {hF : xh_H} (N : Nat) : ∀ (h : xh_H) (H : Heap) (locs : List Loc) (cells slots kc ks : Nat) (ls : Array Slot), f_X2_readSyllable_b98 N  h = some (rv, hF, kc, ks) → xh_T D g s R h H locs cells slots kc ks → xh_L ls 1 [] → W p l e R s m args below meth c H locs cells slots (MQ below (xh_Q D g (some (.int rv)) hF) args s R.cells R.slots (xh_A g)) (F0 m 98 ls []) := by
  intro  h H locs cells slots kc ks ls hf hS hl
  have hx := C.1
  have hb := C.2.1
  unfold f_X2_readSyllable_b98 at hf
  refine lv_iconst (v := 0) hx hb dX2_readSyllable_98 xi_c0 ?_
  exact xr_zret1 C hS hr (by decide) hf dX2_readSyllable_99
theorem w_X2_readSyllable_b74 (C : xh_C cX2_readSyllable 1 "SungSlidesModel" D g p s m args meth c) (hr : meth.sig.returnType = (Option.some Jvm.ClassFile.FieldType.boolean)) (hR : 3 ≤ R.frames ∧ 68 ≤ R.locals) {rv : Int32} {hF : xh_H} (N : Nat) : ∀ (a0 : Option Nat) (h : xh_H) (H : Heap) (locs : List Loc) (cells slots kc ks : Nat) (ls : Array Slot), f_X2_readSyllable_b74 N a0 h = some (rv, hF, kc, ks) → xh_T D g s R h H locs cells slots kc ks → xh_L ls 1 [(0, va_rf a0)] → W p l e R s m args below meth c H locs cells slots (MQ below (xh_Q D g (some (.int rv)) hF) args s R.cells R.slots (xh_A g)) (F0 m 74 ls []) := by
  intro a0 h H locs cells slots kc ks ls hf hS hl
  have hx := C.1
  have hb := C.2.1
  unfold f_X2_readSyllable_b74 at hf
  refine xr_aload_n C dX2_readSyllable_74 rfl (hl.at 0 rfl) ?_
  refine lv_bipush (v := 58) hx hb dX2_readSyllable_75 xi_b58 ?_
  refine xr_V (V := fun v => some (.int v)) (n := 1) (fr := 2) (lo := 44) (As := [.int (58 : Int32)]) C hS xf_X2 (lw_V q1008 q1010 qs42 q60 q1011) hdv_X2_takes ⟨Nat.le_trans (Nat.le_of_ble_eq_true rfl) hR.1, Nat.le_trans (Nat.le_of_ble_eq_true rfl) hR.2⟩ rfl hl.1.1 rfl xm_r0 hf (fun v h1 k1 n1 e1 => ct_X2_takes l D N e1) dX2_readSyllable_77 (fun x77 h H locs cells slots kc ks hS hf => ?_)
  refine W.eq (g2 := F0 m 80 ls [.int x77]) rfl ?_
  refine lv_if_eq (tgt := 98) hx hb dX2_readSyllable_80 (by decide) (fun c80 => ?_) (fun c80 => ?_)
  · replace hf := xb_pos c80 hf
    exact w_X2_readSyllable_b98 C hr hR N  h H locs cells slots kc ks ls hf hS (hl.sub [] rfl)
  · replace hf := xb_neg c80 hf
    refine xr_aload_n C dX2_readSyllable_83 rfl (hl.at 0 rfl) ?_
    refine lv_iconst (v := 3) hx hb dX2_readSyllable_84 xi_c3 ?_
    refine lv_iconst (v := 1) hx hb dX2_readSyllable_85 xi_c1 ?_
    refine lv_bipush (v := 32) hx hb dX2_readSyllable_86 xi_b32 ?_
    refine xr_V (V := fun v => some (.int v)) (n := 3) (fr := 2) (lo := 44) (As := [.int (3 : Int32), .int (1 : Int32), .int (32 : Int32)]) C hS xf_X2 (lw_V q1016 q1018 qs44 q60 q1019) hdv_X2_readNumber ⟨Nat.le_trans (Nat.le_of_ble_eq_true rfl) hR.1, Nat.le_trans (Nat.le_of_ble_eq_true rfl) hR.2⟩ rfl hl.1.1 rfl xm_r0 hf (fun v h1 k1 n1 e1 => ct_X2_readNumber l D N e1) dX2_readSyllable_88 (fun x88 h H locs cells slots kc ks hS hf => ?_)
    refine W.eq (g2 := F0 m 91 ls [.int x88]) rfl ?_
    refine lv_if_eq (tgt := 98) hx hb dX2_readSyllable_91 (by decide) (fun c91 => ?_) (fun c91 => ?_)
    · replace hf := xb_pos c91 hf
      exact w_X2_readSyllable_b98 C hr hR N  h H locs cells slots kc ks ls hf hS (hl.sub [] rfl)
    · replace hf := xb_neg c91 hf
      refine lv_iconst (v := 1) hx hb dX2_readSyllable_94 xi_c1 ?_
      refine lv_goto (tgt := 99) hx hb dX2_readSyllable_95 (by decide) ?_
      exact xr_zret1 C hS hr (by decide) hf dX2_readSyllable_99
theorem w_X2_readSyllable_b38 (C : xh_C cX2_readSyllable 1 "SungSlidesModel" D g p s m args meth c) (hr : meth.sig.returnType = (Option.some Jvm.ClassFile.FieldType.boolean)) (hR : 3 ≤ R.frames ∧ 68 ≤ R.locals) {rv : Int32} {hF : xh_H} (N : Nat) : ∀ (h : xh_H) (H : Heap) (locs : List Loc) (cells slots kc ks : Nat) (ls : Array Slot), f_X2_readSyllable_b38 N  h = some (rv, hF, kc, ks) → xh_T D g s R h H locs cells slots kc ks → xh_L ls 1 [] → W p l e R s m args below meth c H locs cells slots (MQ below (xh_Q D g (some (.int rv)) hF) args s R.cells R.slots (xh_A g)) (F0 m 38 ls []) := by
  intro  h H locs cells slots kc ks ls hf hS hl
  have hx := C.1
  have hb := C.2.1
  unfold f_X2_readSyllable_b38 at hf
  refine lv_iconst (v := 0) hx hb dX2_readSyllable_38 xi_c0 ?_
  exact xr_zret1 C hS hr (by decide) hf dX2_readSyllable_39
theorem w_X2_readSyllable_b27 (C : xh_C cX2_readSyllable 1 "SungSlidesModel" D g p s m args meth c) (hr : meth.sig.returnType = (Option.some Jvm.ClassFile.FieldType.boolean)) (hR : 3 ≤ R.frames ∧ 68 ≤ R.locals) {rv : Int32} {hF : xh_H} (N : Nat) : ∀ (a0 : Option Nat) (h : xh_H) (H : Heap) (locs : List Loc) (cells slots kc ks : Nat) (ls : Array Slot), f_X2_readSyllable_b27 N a0 h = some (rv, hF, kc, ks) → xh_T D g s R h H locs cells slots kc ks → xh_L ls 1 [(0, va_rf a0)] → W p l e R s m args below meth c H locs cells slots (MQ below (xh_Q D g (some (.int rv)) hF) args s R.cells R.slots (xh_A g)) (F0 m 27 ls []) := by
  intro a0 h H locs cells slots kc ks ls hf hS hl
  have hx := C.1
  have hb := C.2.1
  unfold f_X2_readSyllable_b27 at hf
  refine xr_aload_n C dX2_readSyllable_27 rfl (hl.at 0 rfl) ?_
  refine lv_iconst (v := 1) hx hb dX2_readSyllable_28 xi_c1 ?_
  refine lv_iconst (v := 0) hx hb dX2_readSyllable_29 xi_c0 ?_
  refine lv_bipush (v := 60) hx hb dX2_readSyllable_30 xi_b60 ?_
  refine xr_V (V := fun v => some (.int v)) (n := 3) (fr := 2) (lo := 44) (As := [.int (1 : Int32), .int (0 : Int32), .int (60 : Int32)]) C hS xf_X2 (lw_V q1016 q1018 qs44 q60 q1019) hdv_X2_readNumber ⟨Nat.le_trans (Nat.le_of_ble_eq_true rfl) hR.1, Nat.le_trans (Nat.le_of_ble_eq_true rfl) hR.2⟩ rfl hl.1.1 rfl xm_r0 hf (fun v h1 k1 n1 e1 => ct_X2_readNumber l D N e1) dX2_readSyllable_32 (fun x32 h H locs cells slots kc ks hS hf => ?_)
  refine W.eq (g2 := F0 m 35 ls [.int x32]) rfl ?_
  refine lv_if_ne (tgt := 40) hx hb dX2_readSyllable_35 (by decide) (fun c35 => ?_) (fun c35 => ?_)
  · replace hf := xb_neg c35 hf
    refine xr_aload_n C dX2_readSyllable_40 rfl (hl.at 0 rfl) ?_
    refine xr_getR C hS xf_X2 14 (by decide) q831 (fun _ h => h) hf dX2_readSyllable_41 (fun x41 hf => ?_)
    refine lv_iconst (v := 2) hx hb dX2_readSyllable_44 xi_c2 ?_
    refine xr_aload_n C dX2_readSyllable_45 rfl (hl.at 0 rfl) ?_
    refine xr_getR C hS xf_X2 14 (by decide) q831 (fun _ h => h) hf dX2_readSyllable_46 (fun x46 hf => ?_)
    refine lv_iconst (v := 1) hx hb dX2_readSyllable_49 xi_c1 ?_
    refine xr_iald C hS hf dX2_readSyllable_50 (fun x50 hf => ?_)
    refine xr_iast C hS hf dX2_readSyllable_51 (fun h H locs hS hf => ?_)
    refine xr_aload_n C dX2_readSyllable_52 rfl (hl.at 0 rfl) ?_
    refine lv_bipush (v := 45) hx hb dX2_readSyllable_53 xi_b45 ?_
    refine xr_V (V := fun v => some (.int v)) (n := 1) (fr := 2) (lo := 44) (As := [.int (45 : Int32)]) C hS xf_X2 (lw_V q1008 q1010 qs42 q60 q1011) hdv_X2_takes ⟨Nat.le_trans (Nat.le_of_ble_eq_true rfl) hR.1, Nat.le_trans (Nat.le_of_ble_eq_true rfl) hR.2⟩ rfl hl.1.1 rfl xm_r0 hf (fun v h1 k1 n1 e1 => ct_X2_takes l D N e1) dX2_readSyllable_55 (fun x55 h H locs cells slots kc ks hS hf => ?_)
    refine W.eq (g2 := F0 m 58 ls [.int x55]) rfl ?_
    refine lv_if_eq (tgt := 74) hx hb dX2_readSyllable_58 (by decide) (fun c58 => ?_) (fun c58 => ?_)
    · replace hf := xb_pos c58 hf
      exact w_X2_readSyllable_b74 C hr hR N a0  h H locs cells slots kc ks ls hf hS (hl.sub [0] rfl)
    · replace hf := xb_neg c58 hf
      refine xr_aload_n C dX2_readSyllable_61 rfl (hl.at 0 rfl) ?_
      refine lv_iconst (v := 2) hx hb dX2_readSyllable_62 xi_c2 ?_
      refine lv_iconst (v := 0) hx hb dX2_readSyllable_63 xi_c0 ?_
      refine lv_bipush (v := 60) hx hb dX2_readSyllable_64 xi_b60 ?_
      refine xr_V (V := fun v => some (.int v)) (n := 3) (fr := 2) (lo := 44) (As := [.int (2 : Int32), .int (0 : Int32), .int (60 : Int32)]) C hS xf_X2 (lw_V q1016 q1018 qs44 q60 q1019) hdv_X2_readNumber ⟨Nat.le_trans (Nat.le_of_ble_eq_true rfl) hR.1, Nat.le_trans (Nat.le_of_ble_eq_true rfl) hR.2⟩ rfl hl.1.1 rfl xm_r0 hf (fun v h1 k1 n1 e1 => ct_X2_readNumber l D N e1) dX2_readSyllable_66 (fun x66 h H locs cells slots kc ks hS hf => ?_)
      refine W.eq (g2 := F0 m 69 ls [.int x66]) rfl ?_
      refine lv_if_ne (tgt := 74) hx hb dX2_readSyllable_69 (by decide) (fun c69 => ?_) (fun c69 => ?_)
      · replace hf := xb_neg c69 hf
        exact w_X2_readSyllable_b74 C hr hR N a0  h H locs cells slots kc ks ls hf hS (hl.sub [0] rfl)
      · replace hf := xb_pos c69 hf
        refine lv_iconst (v := 0) hx hb dX2_readSyllable_72 xi_c0 ?_
        exact xr_zret1 C hS hr (by decide) hf dX2_readSyllable_73
  · replace hf := xb_pos c35 hf
    exact w_X2_readSyllable_b38 C hr hR N  h H locs cells slots kc ks ls hf hS (hl.sub [] rfl)
/-- SungSlidesModel.readSyllable()Z -/
theorem w_X2_readSyllable (C : xh_C cX2_readSyllable 1 "SungSlidesModel" D g p s m args meth c) (hr : meth.sig.returnType = (Option.some Jvm.ClassFile.FieldType.boolean)) (hR : 3 ≤ R.frames ∧ 68 ≤ R.locals) {rv : Int32} {hF : xh_H} (N : Nat) (a0 : Option Nat)  (h : xh_H) (H : Heap) (locs : List Loc) (cells slots kc ks : Nat) (ls : Array Slot) (hf : f_X2_readSyllable N a0 h = some (rv, hF, kc, ks)) (hS : xh_T D g s R h H locs cells slots kc ks) (hl : xh_L ls 1 [(0, va_rf a0)]) : W p l e R s m args below meth c H locs cells slots (MQ below (xh_Q D g (some (.int rv)) hF) args s R.cells R.slots (xh_A g)) (F0 m 0 ls []) := by
  have hx := C.1
  have hb := C.2.1
  unfold f_X2_readSyllable at hf
  refine xr_aload_n C dX2_readSyllable_0 rfl (hl.at 0 rfl) ?_
  refine xr_getR C hS xf_X2 14 (by decide) q831 (fun _ h => h) hf dX2_readSyllable_1 (fun x1 hf => ?_)
  refine lv_iconst (v := 0) hx hb dX2_readSyllable_4 xi_c0 ?_
  refine lv_iconst (v := 0) hx hb dX2_readSyllable_5 xi_c0 ?_
  refine xr_iast C hS hf dX2_readSyllable_6 (fun h H locs hS hf => ?_)
  refine xr_aload_n C dX2_readSyllable_7 rfl (hl.at 0 rfl) ?_
  refine lv_bipush (v := 46) hx hb dX2_readSyllable_8 xi_b46 ?_
  refine xr_V (V := fun v => some (.int v)) (n := 1) (fr := 2) (lo := 44) (As := [.int (46 : Int32)]) C hS xf_X2 (lw_V q1008 q1010 qs42 q60 q1011) hdv_X2_takes ⟨Nat.le_trans (Nat.le_of_ble_eq_true rfl) hR.1, Nat.le_trans (Nat.le_of_ble_eq_true rfl) hR.2⟩ rfl hl.1.1 rfl xm_r0 hf (fun v h1 k1 n1 e1 => ct_X2_takes l D N e1) dX2_readSyllable_10 (fun x10 h H locs cells slots kc ks hS hf => ?_)
  refine W.eq (g2 := F0 m 13 ls [.int x10]) rfl ?_
  refine lv_if_eq (tgt := 27) hx hb dX2_readSyllable_13 (by decide) (fun c13 => ?_) (fun c13 => ?_)
  · replace hf := xb_pos c13 hf
    exact w_X2_readSyllable_b27 C hr hR N a0  h H locs cells slots kc ks ls hf hS (hl.sub [0] rfl)
  · replace hf := xb_neg c13 hf
    refine xr_aload_n C dX2_readSyllable_16 rfl (hl.at 0 rfl) ?_
    refine lv_iconst (v := 0) hx hb dX2_readSyllable_17 xi_c0 ?_
    refine lv_iconst (v := 1) hx hb dX2_readSyllable_18 xi_c1 ?_
    refine lv_bipush (v := 32) hx hb dX2_readSyllable_19 xi_b32 ?_
    refine xr_V (V := fun v => some (.int v)) (n := 3) (fr := 2) (lo := 44) (As := [.int (0 : Int32), .int (1 : Int32), .int (32 : Int32)]) C hS xf_X2 (lw_V q1016 q1018 qs44 q60 q1019) hdv_X2_readNumber ⟨Nat.le_trans (Nat.le_of_ble_eq_true rfl) hR.1, Nat.le_trans (Nat.le_of_ble_eq_true rfl) hR.2⟩ rfl hl.1.1 rfl xm_r0 hf (fun v h1 k1 n1 e1 => ct_X2_readNumber l D N e1) dX2_readSyllable_21 (fun x21 h H locs cells slots kc ks hS hf => ?_)
    refine W.eq (g2 := F0 m 24 ls [.int x21]) rfl ?_
    refine lv_if_eq (tgt := 38) hx hb dX2_readSyllable_24 (by decide) (fun c24 => ?_) (fun c24 => ?_)
    · replace hf := xb_pos c24 hf
      exact w_X2_readSyllable_b38 C hr hR N  h H locs cells slots kc ks ls hf hS (hl.sub [] rfl)
    · replace hf := xb_neg c24 hf
      exact w_X2_readSyllable_b27 C hr hR N a0  h H locs cells slots kc ks ls hf hS (hl.sub [0] rfl)
theorem ct_X2_readSyllable (l : Launch) (D : xh_D) {rv : Int32} {h hF : xh_H} {kc ks : Nat} (N : Nat) {a0 : Option Nat} (hf : f_X2_readSyllable N a0 h = some (rv, hF, kc, ks)) : xh_Ct l D yX2_readSyllable (ws_ yX2_readSyllable cX2_readSyllable 1 (Option.some Jvm.ClassFile.FieldType.boolean)) 3 68 [va_rf a0] h (some (.int rv)) hF kc ks :=
  xh_meth (cc := cX2_readSyllable) l (by decide) (Nat.le_of_ble_eq_true rfl) (List.forall_mem_cons.mpr ⟨va_rf_cat _, fun _ h => absurd h List.not_mem_nil⟩) fun p e s m below meth c ls C hr hnm hl hS => w_X2_readSyllable C hr ⟨Nat.le_refl _, Nat.le_refl _⟩ N a0 h _ _ _ _ _ _ _ hf hS hl
def K_X2_readText_17 (p : Program) (l : Launch) (e : Env) (s : State) (m : MethodId) (args : Array Value) (below : List Frame) (meth : Method) (c : Code) (D : xh_D) (g : Nat → Nat) (R : Room) (rv : Int32) (hF : xh_H) (k : Option Nat → Int32 → Int32 → Int32 → xh_H → xh_R Int32) : Prop := ∀ (a0 : Option Nat) (a1 : Int32) (a2 : Int32) (a3 : Int32) (h : xh_H) (H : Heap) (locs : List Loc) (cells slots kc ks : Nat) (ls : Array Slot), k a0 a1 a2 a3 h = some (rv, hF, kc, ks) → xh_T D g s R h H locs cells slots kc ks → xh_L ls 4 [(0, va_rf a0), (1, .int a1), (2, .int a2), (3, .int a3)] → W p l e R s m args below meth c H locs cells slots (MQ below (xh_Q D g (some (.int rv)) hF) args s R.cells R.slots (xh_A g)) (F0 m 17 ls [])
theorem w_X2_readText_b135 (C : xh_C cX2_readText 4 "SungSlidesModel" D g p s m args meth c) (hr : meth.sig.returnType = (Option.some Jvm.ClassFile.FieldType.boolean)) (hR : 4 ≤ R.frames ∧ 89 ≤ R.locals) {rv : Int32} {hF : xh_H} (N : Nat) : ∀ (h : xh_H) (H : Heap) (locs : List Loc) (cells slots kc ks : Nat) (ls : Array Slot), f_X2_readText_b135 N  h = some (rv, hF, kc, ks) → xh_T D g s R h H locs cells slots kc ks → xh_L ls 4 [] → W p l e R s m args below meth c H locs cells slots (MQ below (xh_Q D g (some (.int rv)) hF) args s R.cells R.slots (xh_A g)) (F0 m 135 ls []) := by
  intro  h H locs cells slots kc ks ls hf hS hl
  have hx := C.1
  have hb := C.2.1
  unfold f_X2_readText_b135 at hf
  refine lv_iconst (v := 0) hx hb dX2_readText_135 xi_c0 ?_
  exact xr_zret1 C hS hr (by decide) hf dX2_readText_136
theorem w_X2_readText_b131 (C : xh_C cX2_readText 4 "SungSlidesModel" D g p s m args meth c) (hr : meth.sig.returnType = (Option.some Jvm.ClassFile.FieldType.boolean)) (hR : 4 ≤ R.frames ∧ 89 ≤ R.locals) {rv : Int32} {hF : xh_H} (N : Nat) {k17 : Option Nat → Int32 → Int32 → Int32 → xh_H → xh_R Int32} (hk17 : K_X2_readText_17 p l e s m args below meth c D g R rv hF k17) : ∀ (a0 : Option Nat) (a1 : Int32) (a2 : Int32) (t0 : Int32) (h : xh_H) (H : Heap) (locs : List Loc) (cells slots kc ks : Nat) (ls : Array Slot), f_X2_readText_b131 N k17 a0 a1 a2 t0 h = some (rv, hF, kc, ks) → xh_T D g s R h H locs cells slots kc ks → xh_L ls 4 [(0, va_rf a0), (1, .int a1), (2, .int a2)] → W p l e R s m args below meth c H locs cells slots (MQ below (xh_Q D g (some (.int rv)) hF) args s R.cells R.slots (xh_A g)) (F0 m 131 ls [.int t0]) := by
  intro a0 a1 a2 t0 h H locs cells slots kc ks ls hf hS hl
  have hx := C.1
  have hb := C.2.1
  unfold f_X2_readText_b131 at hf
  refine xr_istore_n C dX2_readText_131 rfl hl (Nat.le_of_ble_eq_true rfl) (lv' := [(3, .int t0), (0, va_rf a0), (1, .int a1), (2, .int a2)]) rfl (fun ls hl => ?_)
  refine lv_goto (tgt := 17) hx hb dX2_readText_132 (by decide) ?_
  exact hk17 a0 a1 a2 t0  h H locs cells slots kc ks ls hf hS (hl.sub [1, 2, 3, 0] rfl)
theorem w_X2_readText_b130 (C : xh_C cX2_readText 4 "SungSlidesModel" D g p s m args meth c) (hr : meth.sig.returnType = (Option.some Jvm.ClassFile.FieldType.boolean)) (hR : 4 ≤ R.frames ∧ 89 ≤ R.locals) {rv : Int32} {hF : xh_H} (N : Nat) {k17 : Option Nat → Int32 → Int32 → Int32 → xh_H → xh_R Int32} (hk17 : K_X2_readText_17 p l e s m args below meth c D g R rv hF k17) : ∀ (a0 : Option Nat) (a1 : Int32) (a2 : Int32) (h : xh_H) (H : Heap) (locs : List Loc) (cells slots kc ks : Nat) (ls : Array Slot), f_X2_readText_b130 N k17 a0 a1 a2 h = some (rv, hF, kc, ks) → xh_T D g s R h H locs cells slots kc ks → xh_L ls 4 [(0, va_rf a0), (1, .int a1), (2, .int a2)] → W p l e R s m args below meth c H locs cells slots (MQ below (xh_Q D g (some (.int rv)) hF) args s R.cells R.slots (xh_A g)) (F0 m 130 ls []) := by
  intro a0 a1 a2 h H locs cells slots kc ks ls hf hS hl
  have hx := C.1
  have hb := C.2.1
  unfold f_X2_readText_b130 at hf
  refine lv_iconst (v := 0) hx hb dX2_readText_130 xi_c0 ?_
  exact w_X2_readText_b131 C hr hR N hk17 a0 a1 a2 (0 : Int32) h H locs cells slots kc ks ls hf hS (hl.sub [0, 1, 2] rfl)
theorem w_X2_readText_b119 (C : xh_C cX2_readText 4 "SungSlidesModel" D g p s m args meth c) (hr : meth.sig.returnType = (Option.some Jvm.ClassFile.FieldType.boolean)) (hR : 4 ≤ R.frames ∧ 89 ≤ R.locals) {rv : Int32} {hF : xh_H} (N : Nat) {k17 : Option Nat → Int32 → Int32 → Int32 → xh_H → xh_R Int32} (hk17 : K_X2_readText_17 p l e s m args below meth c D g R rv hF k17) : ∀ (a0 : Option Nat) (a1 : Int32) (a2 : Int32) (h : xh_H) (H : Heap) (locs : List Loc) (cells slots kc ks : Nat) (ls : Array Slot), f_X2_readText_b119 N k17 a0 a1 a2 h = some (rv, hF, kc, ks) → xh_T D g s R h H locs cells slots kc ks → xh_L ls 4 [(0, va_rf a0), (1, .int a1), (2, .int a2)] → W p l e R s m args below meth c H locs cells slots (MQ below (xh_Q D g (some (.int rv)) hF) args s R.cells R.slots (xh_A g)) (F0 m 119 ls []) := by
  intro a0 a1 a2 h H locs cells slots kc ks ls hf hS hl
  have hx := C.1
  have hb := C.2.1
  unfold f_X2_readText_b119 at hf
  refine xr_aload_n C dX2_readText_119 rfl (hl.at 0 rfl) ?_
  refine xr_V (V := fun v => some (.int v)) (n := 0) (fr := 3) (lo := 68) (As := []) C hS xf_X2 (lw_V q1004 q1006 qs41 q60 q1007) hdv_X2_readSyllable ⟨Nat.le_trans (Nat.le_of_ble_eq_true rfl) hR.1, Nat.le_trans (Nat.le_of_ble_eq_true rfl) hR.2⟩ rfl hl.1.1 rfl xm_r0 hf (fun v h1 k1 n1 e1 => ct_X2_readSyllable l D N e1) dX2_readText_120 (fun x120 h H locs cells slots kc ks hS hf => ?_)
  refine W.eq (g2 := F0 m 123 ls [.int x120]) rfl ?_
  refine lv_if_eq (tgt := 130) hx hb dX2_readText_123 (by decide) (fun c123 => ?_) (fun c123 => ?_)
  · replace hf := xb_pos c123 hf
    exact w_X2_readText_b130 C hr hR N hk17 a0 a1 a2  h H locs cells slots kc ks ls hf hS (hl.sub [0, 1, 2] rfl)
  · replace hf := xb_neg c123 hf
    refine lv_iconst (v := 1) hx hb dX2_readText_126 xi_c1 ?_
    refine lv_goto (tgt := 131) hx hb dX2_readText_127 (by decide) ?_
    exact w_X2_readText_b131 C hr hR N hk17 a0 a1 a2 (1 : Int32) h H locs cells slots kc ks ls hf hS (hl.sub [0, 1, 2] rfl)
theorem w_X2_readText_b104 (C : xh_C cX2_readText 4 "SungSlidesModel" D g p s m args meth c) (hr : meth.sig.returnType = (Option.some Jvm.ClassFile.FieldType.boolean)) (hR : 4 ≤ R.frames ∧ 89 ≤ R.locals) {rv : Int32} {hF : xh_H} (N : Nat) {k17 : Option Nat → Int32 → Int32 → Int32 → xh_H → xh_R Int32} (hk17 : K_X2_readText_17 p l e s m args below meth c D g R rv hF k17) : ∀ (a0 : Option Nat) (a1 : Int32) (t0 : Int32) (h : xh_H) (H : Heap) (locs : List Loc) (cells slots kc ks : Nat) (ls : Array Slot), f_X2_readText_b104 N k17 a0 a1 t0 h = some (rv, hF, kc, ks) → xh_T D g s R h H locs cells slots kc ks → xh_L ls 4 [(0, va_rf a0), (1, .int a1)] → W p l e R s m args below meth c H locs cells slots (MQ below (xh_Q D g (some (.int rv)) hF) args s R.cells R.slots (xh_A g)) (F0 m 104 ls [.int t0]) := by
  intro a0 a1 t0 h H locs cells slots kc ks ls hf hS hl
  have hx := C.1
  have hb := C.2.1
  unfold f_X2_readText_b104 at hf
  refine xr_istore_n C dX2_readText_104 rfl hl (Nat.le_of_ble_eq_true rfl) (lv' := [(2, .int t0), (0, va_rf a0), (1, .int a1)]) rfl (fun ls hl => ?_)
  refine lv_iload_n hx hb dX2_readText_105 rfl (hl.at 0 rfl) ?_
  refine lv_iconst (v := 1) hx hb dX2_readText_106 xi_c1 ?_
  refine lv_icmp_eq (tgt := 119) hx hb dX2_readText_107 (by decide) (fun c107 => ?_) (fun c107 => ?_)
  · replace hf := xb_pos c107 hf
    exact w_X2_readText_b119 C hr hR N hk17 a0 a1 t0  h H locs cells slots kc ks ls hf hS (hl.sub [1, 2, 0] rfl)
  · replace hf := xb_neg c107 hf
    refine xr_aload_n C dX2_readText_110 rfl (hl.at 1 rfl) ?_
    refine lv_bipush (v := 44) hx hb dX2_readText_111 xi_b44 ?_
    refine xr_V (V := fun v => some (.int v)) (n := 1) (fr := 2) (lo := 44) (As := [.int (44 : Int32)]) C hS xf_X2 (lw_V q1008 q1010 qs42 q60 q1011) hdv_X2_takes ⟨Nat.le_trans (Nat.le_of_ble_eq_true rfl) hR.1, Nat.le_trans (Nat.le_of_ble_eq_true rfl) hR.2⟩ rfl hl.1.1 rfl xm_r0 hf (fun v h1 k1 n1 e1 => ct_X2_takes l D N e1) dX2_readText_113 (fun x113 h H locs cells slots kc ks hS hf => ?_)
    refine W.eq (g2 := F0 m 116 ls [.int x113]) rfl ?_
    refine lv_if_eq (tgt := 130) hx hb dX2_readText_116 (by decide) (fun c116 => ?_) (fun c116 => ?_)
    · replace hf := xb_pos c116 hf
      exact w_X2_readText_b130 C hr hR N hk17 a0 a1 t0  h H locs cells slots kc ks ls hf hS (hl.sub [1, 2, 0] rfl)
    · replace hf := xb_neg c116 hf
      exact w_X2_readText_b119 C hr hR N hk17 a0 a1 t0  h H locs cells slots kc ks ls hf hS (hl.sub [1, 2, 0] rfl)
theorem w_X2_readText_b88 (C : xh_C cX2_readText 4 "SungSlidesModel" D g p s m args meth c) (hr : meth.sig.returnType = (Option.some Jvm.ClassFile.FieldType.boolean)) (hR : 4 ≤ R.frames ∧ 89 ≤ R.locals) {rv : Int32} {hF : xh_H} (N : Nat) : ∀ (h : xh_H) (H : Heap) (locs : List Loc) (cells slots kc ks : Nat) (ls : Array Slot), f_X2_readText_b88 N  h = some (rv, hF, kc, ks) → xh_T D g s R h H locs cells slots kc ks → xh_L ls 4 [] → W p l e R s m args below meth c H locs cells slots (MQ below (xh_Q D g (some (.int rv)) hF) args s R.cells R.slots (xh_A g)) (F0 m 88 ls []) := by
  intro  h H locs cells slots kc ks ls hf hS hl
  have hx := C.1
  have hb := C.2.1
  unfold f_X2_readText_b88 at hf
  refine lv_iconst (v := 1) hx hb dX2_readText_88 xi_c1 ?_
  exact xr_zret1 C hS hr (by decide) hf dX2_readText_89
theorem w_X2_readText_b77 (C : xh_C cX2_readText 4 "SungSlidesModel" D g p s m args meth c) (hr : meth.sig.returnType = (Option.some Jvm.ClassFile.FieldType.boolean)) (hR : 4 ≤ R.frames ∧ 89 ≤ R.locals) {rv : Int32} {hF : xh_H} (N : Nat) {k17 : Option Nat → Int32 → Int32 → Int32 → xh_H → xh_R Int32} (hk17 : K_X2_readText_17 p l e s m args below meth c D g R rv hF k17) : ∀ (a0 : Option Nat) (a1 : Int32) (h : xh_H) (H : Heap) (locs : List Loc) (cells slots kc ks : Nat) (ls : Array Slot), f_X2_readText_b77 N k17 a0 a1 h = some (rv, hF, kc, ks) → xh_T D g s R h H locs cells slots kc ks → xh_L ls 4 [(0, va_rf a0), (1, .int a1)] → W p l e R s m args below meth c H locs cells slots (MQ below (xh_Q D g (some (.int rv)) hF) args s R.cells R.slots (xh_A g)) (F0 m 77 ls []) := by
  intro a0 a1 h H locs cells slots kc ks ls hf hS hl
  have hx := C.1
  have hb := C.2.1
  unfold f_X2_readText_b77 at hf
  refine xr_aload_n C dX2_readText_77 rfl (hl.at 0 rfl) ?_
  refine xr_getI C hS xf_X2 13 (by decide) q830 (fun _ h => h) hf dX2_readText_78 (fun x78 hf => ?_)
  refine xr_aload_n C dX2_readText_81 rfl (hl.at 0 rfl) ?_
  refine xr_getI C hS xf_X2 6 (by decide) q823 (fun _ h => h) hf dX2_readText_82 (fun x82 hf => ?_)
  refine lv_icmp_ne (tgt := 90) hx hb dX2_readText_85 (by decide) (fun c85 => ?_) (fun c85 => ?_)
  · replace hf := xb_neg c85 hf
    refine xr_aload_n C dX2_readText_90 rfl (hl.at 0 rfl) ?_
    refine lv_bipush (v := 47) hx hb dX2_readText_91 xi_b47 ?_
    refine xr_V (V := fun v => some (.int v)) (n := 1) (fr := 2) (lo := 44) (As := [.int (47 : Int32)]) C hS xf_X2 (lw_V q1008 q1010 qs42 q60 q1011) hdv_X2_takes ⟨Nat.le_trans (Nat.le_of_ble_eq_true rfl) hR.1, Nat.le_trans (Nat.le_of_ble_eq_true rfl) hR.2⟩ rfl hl.1.1 rfl xm_r0 hf (fun v h1 k1 n1 e1 => ct_X2_takes l D N e1) dX2_readText_93 (fun x93 h H locs cells slots kc ks hS hf => ?_)
    refine W.eq (g2 := F0 m 96 ls [.int x93]) rfl ?_
    refine lv_if_eq (tgt := 103) hx hb dX2_readText_96 (by decide) (fun c96 => ?_) (fun c96 => ?_)
    · replace hf := xb_pos c96 hf
      refine lv_iconst (v := 0) hx hb dX2_readText_103 xi_c0 ?_
      exact w_X2_readText_b104 C hr hR N hk17 a0 a1 (0 : Int32) h H locs cells slots kc ks ls hf hS (hl.sub [0, 1] rfl)
    · replace hf := xb_neg c96 hf
      refine lv_iconst (v := 1) hx hb dX2_readText_99 xi_c1 ?_
      refine lv_goto (tgt := 104) hx hb dX2_readText_100 (by decide) ?_
      exact w_X2_readText_b104 C hr hR N hk17 a0 a1 (1 : Int32) h H locs cells slots kc ks ls hf hS (hl.sub [0, 1] rfl)
  · replace hf := xb_pos c85 hf
    exact w_X2_readText_b88 C hr hR N  h H locs cells slots kc ks ls hf hS (hl.sub [] rfl)
theorem w_X2_readText_b17 (C : xh_C cX2_readText 4 "SungSlidesModel" D g p s m args meth c) (hr : meth.sig.returnType = (Option.some Jvm.ClassFile.FieldType.boolean)) (hR : 4 ≤ R.frames ∧ 89 ≤ R.locals) {rv : Int32} {hF : xh_H} (N : Nat) {k17 : Option Nat → Int32 → Int32 → Int32 → xh_H → xh_R Int32} (hk17 : K_X2_readText_17 p l e s m args below meth c D g R rv hF k17) : ∀ (a0 : Option Nat) (a1 : Int32) (a2 : Int32) (a3 : Int32) (h : xh_H) (H : Heap) (locs : List Loc) (cells slots kc ks : Nat) (ls : Array Slot), f_X2_readText_b17 N k17 a0 a1 a2 a3 h = some (rv, hF, kc, ks) → xh_T D g s R h H locs cells slots kc ks → xh_L ls 4 [(0, va_rf a0), (1, .int a1), (2, .int a2), (3, .int a3)] → W p l e R s m args below meth c H locs cells slots (MQ below (xh_Q D g (some (.int rv)) hF) args s R.cells R.slots (xh_A g)) (F0 m 17 ls []) := by
  intro a0 a1 a2 a3 h H locs cells slots kc ks ls hf hS hl
  have hx := C.1
  have hb := C.2.1
  unfold f_X2_readText_b17 at hf
  refine lv_iload_n hx hb dX2_readText_17 rfl (hl.at 3 rfl) ?_
  refine lv_if_eq (tgt := 135) hx hb dX2_readText_18 (by decide) (fun c18 => ?_) (fun c18 => ?_)
  · replace hf := xb_pos c18 hf
    exact w_X2_readText_b135 C hr hR N  h H locs cells slots kc ks ls hf hS (hl.sub [] rfl)
  · replace hf := xb_neg c18 hf
    refine xr_aload_n C dX2_readText_21 rfl (hl.at 0 rfl) ?_
    refine lv_dup hx hb dX2_readText_22 (va_rf_cat _) ?_
    refine xr_getI C hS xf_X2 15 (by decide) q832 (fun _ h => h) hf dX2_readText_23 (fun x23 hf => ?_)
    refine xr_aload_n C dX2_readText_26 rfl (hl.at 0 rfl) ?_
    refine xr_getR C hS xf_X2 14 (by decide) q831 (fun _ h => h) hf dX2_readText_27 (fun x27 hf => ?_)
    refine lv_iconst (v := 0) hx hb dX2_readText_30 xi_c0 ?_
    refine xr_iald C hS hf dX2_readText_31 (fun x31 hf => ?_)
    refine xr_aload_n C dX2_readText_32 rfl (hl.at 0 rfl) ?_
    refine xr_getR C hS xf_X2 14 (by decide) q831 (fun _ h => h) hf dX2_readText_33 (fun x33 hf => ?_)
    refine lv_iconst (v := 3) hx hb dX2_readText_36 xi_c3 ?_
    refine xr_iald C hS hf dX2_readText_37 (fun x37 hf => ?_)
    refine lv_iadd hx hb dX2_readText_38 ?_
    refine lv_iadd hx hb dX2_readText_39 ?_
    refine xr_put C hS xf_X2 15 (by decide) q832 (fun _ h => h) rfl xv_int hf dX2_readText_40 (fun h H locs hS hf => ?_)
    refine lv_iload_n hx hb dX2_readText_43 rfl (hl.at 1 rfl) ?_
    refine lv_if_eq (tgt := 77) hx hb dX2_readText_44 (by decide) (fun c44 => ?_) (fun c44 => ?_)
    · replace hf := xb_pos c44 hf
      exact w_X2_readText_b77 C hr hR N hk17 a0 a1  h H locs cells slots kc ks ls hf hS (hl.sub [0, 1] rfl)
    · replace hf := xb_neg c44 hf
      refine xr_aload_n C dX2_readText_47 rfl (hl.at 0 rfl) ?_
      refine xr_aload_n C dX2_readText_48 rfl (hl.at 0 rfl) ?_
      refine xr_getR C hS xf_X2 14 (by decide) q831 (fun _ h => h) hf dX2_readText_49 (fun x49 hf => ?_)
      refine lv_iconst (v := 0) hx hb dX2_readText_52 xi_c0 ?_
      refine xr_iald C hS hf dX2_readText_53 (fun x53 hf => ?_)
      refine xr_aload_n C dX2_readText_54 rfl (hl.at 0 rfl) ?_
      refine xr_getR C hS xf_X2 14 (by decide) q831 (fun _ h => h) hf dX2_readText_55 (fun x55 hf => ?_)
      refine lv_iconst (v := 1) hx hb dX2_readText_58 xi_c1 ?_
      refine xr_iald C hS hf dX2_readText_59 (fun x59 hf => ?_)
      refine xr_aload_n C dX2_readText_60 rfl (hl.at 0 rfl) ?_
      refine xr_getR C hS xf_X2 14 (by decide) q831 (fun _ h => h) hf dX2_readText_61 (fun x61 hf => ?_)
      refine lv_iconst (v := 2) hx hb dX2_readText_64 xi_c2 ?_
      refine xr_iald C hS hf dX2_readText_65 (fun x65 hf => ?_)
      refine xr_aload_n C dX2_readText_66 rfl (hl.at 0 rfl) ?_
      refine xr_getR C hS xf_X2 14 (by decide) q831 (fun _ h => h) hf dX2_readText_67 (fun x67 hf => ?_)
      refine lv_iconst (v := 3) hx hb dX2_readText_70 xi_c3 ?_
      refine xr_iald C hS hf dX2_readText_71 (fun x71 hf => ?_)
      refine lv_iload_n hx hb dX2_readText_72 rfl (hl.at 2 rfl) ?_
      refine xr_V (V := fun v => some (.int v)) (n := 5) (fr := 3) (lo := 63) (As := [.int x53, .int x59, .int x65, .int x71, .int a2]) C hS xf_X2 (lw_V q899 q901 qs25 q60 q902) hdv_X2_doAdd ⟨Nat.le_trans (Nat.le_of_ble_eq_true rfl) hR.1, Nat.le_trans (Nat.le_of_ble_eq_true rfl) hR.2⟩ rfl hl.1.1 rfl xm_r0 hf (fun v h1 k1 n1 e1 => ct_X2_doAdd l D N e1) dX2_readText_73 (fun x73 h H locs cells slots kc ks hS hf => ?_)
      refine W.eq (g2 := F0 m 76 ls [.int x73]) rfl ?_
      refine lv_pop hx hb dX2_readText_76 rfl ?_
      exact w_X2_readText_b77 C hr hR N hk17 a0 a1  h H locs cells slots kc ks ls hf hS (hl.sub [0, 1] rfl)
theorem w_X2_readText_l17 (C : xh_C cX2_readText 4 "SungSlidesModel" D g p s m args meth c) (hr : meth.sig.returnType = (Option.some Jvm.ClassFile.FieldType.boolean)) (hR : 4 ≤ R.frames ∧ 89 ≤ R.locals) {rv : Int32} {hF : xh_H} (N : Nat) : ∀ n : Nat, K_X2_readText_17 p l e s m args below meth c D g R rv hF (f_X2_readText_l17 N n) := by
  intro n
  induction n with
  | zero => exact fun a0 a1 a2 a3 h H locs cells slots kc ks ls hf => absurd (show (none : xh_R Int32) = some _ from hf) (by intro q; cases q)
  | succ n ih => exact fun a0 a1 a2 a3 h H locs cells slots kc ks ls hf => w_X2_readText_b17 C hr hR N ih a0 a1 a2 a3 h H locs cells slots kc ks ls hf
/-- SungSlidesModel.readText(Z)Z -/
theorem w_X2_readText (C : xh_C cX2_readText 4 "SungSlidesModel" D g p s m args meth c) (hr : meth.sig.returnType = (Option.some Jvm.ClassFile.FieldType.boolean)) (hR : 4 ≤ R.frames ∧ 89 ≤ R.locals) {rv : Int32} {hF : xh_H} (N : Nat) (a0 : Option Nat) (a1 : Int32)  (h : xh_H) (H : Heap) (locs : List Loc) (cells slots kc ks : Nat) (ls : Array Slot) (hf : f_X2_readText N a0 a1 h = some (rv, hF, kc, ks)) (hS : xh_T D g s R h H locs cells slots kc ks) (hl : xh_L ls 4 [(0, va_rf a0), (1, .int a1)]) : W p l e R s m args below meth c H locs cells slots (MQ below (xh_Q D g (some (.int rv)) hF) args s R.cells R.slots (xh_A g)) (F0 m 0 ls []) := by
  have hx := C.1
  have hb := C.2.1
  unfold f_X2_readText at hf
  refine xr_aload_n C dX2_readText_0 rfl (hl.at 0 rfl) ?_
  refine lv_iconst (v := 0) hx hb dX2_readText_1 xi_c0 ?_
  refine xr_put C hS xf_X2 13 (by decide) q830 (fun _ h => h) rfl xv_int hf dX2_readText_2 (fun h H locs hS hf => ?_)
  refine xr_aload_n C dX2_readText_5 rfl (hl.at 0 rfl) ?_
  refine lv_iconst (v := 0) hx hb dX2_readText_6 xi_c0 ?_
  refine xr_put C hS xf_X2 15 (by decide) q832 (fun _ h => h) rfl xv_int hf dX2_readText_7 (fun h H locs hS hf => ?_)
  refine lv_iconst (v := 1) hx hb dX2_readText_10 xi_c1 ?_
  refine xr_istore_n C dX2_readText_11 rfl hl (Nat.le_of_ble_eq_true rfl) (lv' := [(2, .int (1 : Int32)), (0, va_rf a0), (1, .int a1)]) rfl (fun ls hl => ?_)
  refine xr_aload_n C dX2_readText_12 rfl (hl.at 1 rfl) ?_
  refine xr_V (V := fun v => some (.int v)) (n := 0) (fr := 3) (lo := 68) (As := []) C hS xf_X2 (lw_V q1004 q1006 qs41 q60 q1007) hdv_X2_readSyllable ⟨Nat.le_trans (Nat.le_of_ble_eq_true rfl) hR.1, Nat.le_trans (Nat.le_of_ble_eq_true rfl) hR.2⟩ rfl hl.1.1 rfl xm_r0 hf (fun v h1 k1 n1 e1 => ct_X2_readSyllable l D N e1) dX2_readText_13 (fun x13 h H locs cells slots kc ks hS hf => ?_)
  refine W.eq (g2 := F0 m 16 ls [.int x13]) rfl ?_
  refine xr_istore_n C dX2_readText_16 rfl hl (Nat.le_of_ble_eq_true rfl) (lv' := [(3, .int x13), (2, .int (1 : Int32)), (0, va_rf a0), (1, .int a1)]) rfl (fun ls hl => ?_)
  exact w_X2_readText_l17 C hr hR N N a0 a1 (1 : Int32) x13  h H locs cells slots kc ks ls hf hS (hl.sub [2, 3, 1, 0] rfl)
theorem ct_X2_readText (l : Launch) (D : xh_D) {rv : Int32} {h hF : xh_H} {kc ks : Nat} (N : Nat) {a0 : Option Nat} {a1 : Int32} (hf : f_X2_readText N a0 a1 h = some (rv, hF, kc, ks)) : xh_Ct l D yX2_readText (ws_ yX2_readText cX2_readText 4 (Option.some Jvm.ClassFile.FieldType.boolean)) 4 89 [va_rf a0, .int a1] h (some (.int rv)) hF kc ks :=
  xh_meth (cc := cX2_readText) l (by decide) (Nat.le_of_ble_eq_true rfl) (List.forall_mem_cons.mpr ⟨va_rf_cat _, List.forall_mem_cons.mpr ⟨rfl, fun _ h => absurd h List.not_mem_nil⟩⟩) fun p e s m below meth c ls C hr hnm hl hS => w_X2_readText C hr ⟨Nat.le_refl _, Nat.le_refl _⟩ N a0 a1 h _ _ _ _ _ _ _ hf hS hl
/-- SungSlidesModel.read()I -/
theorem w_X2_read (C : xh_C cX2_read 1 "SungSlidesModel" D g p s m args meth c) (hr : meth.sig.returnType = (Option.some Jvm.ClassFile.FieldType.int)) (hR : 5 ≤ R.frames ∧ 112 ≤ R.locals) {rv : Int32} {hF : xh_H} (N : Nat) (a0 : Option Nat)  (h : xh_H) (H : Heap) (locs : List Loc) (cells slots kc ks : Nat) (ls : Array Slot) (hf : f_X2_read N a0 h = some (rv, hF, kc, ks)) (hS : xh_T D g s R h H locs cells slots kc ks) (hl : xh_L ls 1 [(0, va_rf a0)]) : W p l e R s m args below meth c H locs cells slots (MQ below (xh_Q D g (some (.int rv)) hF) args s R.cells R.slots (xh_A g)) (F0 m 0 ls []) := by
  have hx := C.1
  have hb := C.2.1
  unfold f_X2_read at hf
  refine xr_aload_n C dX2_read_0 rfl (hl.at 0 rfl) ?_
  refine lv_iconst (v := 0) hx hb dX2_read_1 xi_c0 ?_
  refine xr_V (V := fun v => some (.int v)) (n := 1) (fr := 4) (lo := 89) (As := [.int (0 : Int32)]) C hS xf_X2 (lw_V q1000 q1002 qs40 q60 q1003) hdv_X2_readText ⟨Nat.le_trans (Nat.le_of_ble_eq_true rfl) hR.1, Nat.le_trans (Nat.le_of_ble_eq_true rfl) hR.2⟩ rfl hl.1.1 rfl xm_r0 hf (fun v h1 k1 n1 e1 => ct_X2_readText l D N e1) dX2_read_2 (fun x2 h H locs cells slots kc ks hS hf => ?_)
  refine W.eq (g2 := F0 m 5 ls [.int x2]) rfl ?_
  refine lv_if_ne (tgt := 16) hx hb dX2_read_5 (by decide) (fun c5 => ?_) (fun c5 => ?_)
  · replace hf := xb_neg c5 hf
    refine xr_aload_n C dX2_read_16 rfl (hl.at 0 rfl) ?_
    refine xr_getI C hS xf_X2 15 (by decide) q832 (fun _ h => h) hf dX2_read_17 (fun x17 hf => ?_)
    refine lv_sipush (v := 600) hx hb dX2_read_20 xi_s600 ?_
    refine lv_icmp_le (tgt := 29) hx hb dX2_read_23 (by decide) (fun c23 => ?_) (fun c23 => ?_)
    · replace hf := xb_pos c23 hf
      refine xr_aload_n C dX2_read_29 rfl (hl.at 0 rfl) ?_
      refine xr_V (V := fun _ => none) (n := 0) (fr := 1) (lo := 24) (As := []) C hS xf_X2 (lw_V q892 q894 qs24 q60 q895) hdv_X2_record ⟨Nat.le_trans (Nat.le_of_ble_eq_true rfl) hR.1, Nat.le_trans (Nat.le_of_ble_eq_true rfl) hR.2⟩ rfl hl.1.1 rfl xm_r0 hf (fun v h1 k1 n1 e1 => ct_X2_record l D N e1) dX2_read_30 (fun _ h H locs cells slots kc ks hS hf => ?_)
      refine W.eq (g2 := F0 m 33 ls []) rfl ?_
      refine xr_aload_n C dX2_read_33 rfl (hl.at 0 rfl) ?_
      refine xr_getR C hS xf_X2 0 (by decide) q817 (fun _ h => h) hf dX2_read_34 (fun x34 hf => ?_)
      refine lv_iconst (v := 5) hx hb dX2_read_37 xi_c5 ?_
      refine lv_iconst (v := 0) hx hb dX2_read_38 xi_c0 ?_
      refine xr_iast C hS hf dX2_read_39 (fun h H locs hS hf => ?_)
      refine xr_aload_n C dX2_read_40 rfl (hl.at 0 rfl) ?_
      refine lv_iconst (v := 1) hx hb dX2_read_41 xi_c1 ?_
      refine xr_V (V := fun v => some (.int v)) (n := 1) (fr := 4) (lo := 89) (As := [.int (1 : Int32)]) C hS xf_X2 (lw_V q1000 q1002 qs40 q60 q1003) hdv_X2_readText ⟨Nat.le_trans (Nat.le_of_ble_eq_true rfl) hR.1, Nat.le_trans (Nat.le_of_ble_eq_true rfl) hR.2⟩ rfl hl.1.1 rfl xm_r0 hf (fun v h1 k1 n1 e1 => ct_X2_readText l D N e1) dX2_read_42 (fun x42 h H locs cells slots kc ks hS hf => ?_)
      refine W.eq (g2 := F0 m 45 ls [.int x42]) rfl ?_
      refine lv_if_eq (tgt := 57) hx hb dX2_read_45 (by decide) (fun c45 => ?_) (fun c45 => ?_)
      · replace hf := xb_pos c45 hf
        refine lv_iconst (v := 0) hx hb dX2_read_57 xi_c0 ?_
        exact xr_iret C hS hr hf dX2_read_58
      · replace hf := xb_neg c45 hf
        refine xr_aload_n C dX2_read_48 rfl (hl.at 0 rfl) ?_
        refine xr_getR C hS xf_X2 0 (by decide) q817 (fun _ h => h) hf dX2_read_49 (fun x49 hf => ?_)
        refine lv_iconst (v := 5) hx hb dX2_read_52 xi_c5 ?_
        refine xr_iald C hS hf dX2_read_53 (fun x53 hf => ?_)
        refine lv_goto (tgt := 58) hx hb dX2_read_54 (by decide) ?_
        exact xr_iret C hS hr hf dX2_read_58
    · replace hf := xb_neg c23 hf
      refine lv_bipush (v := -3) hx hb dX2_read_26 xi_bm3 ?_
      exact xr_iret C hS hr hf dX2_read_28
  · replace hf := xb_pos c5 hf
    refine lv_bipush (v := -100) hx hb dX2_read_8 xi_bm100 ?_
    refine xr_aload_n C dX2_read_10 rfl (hl.at 0 rfl) ?_
    refine xr_getI C hS xf_X2 13 (by decide) q830 (fun _ h => h) hf dX2_read_11 (fun x11 hf => ?_)
    refine lv_isub hx hb dX2_read_14 ?_
    exact xr_iret C hS hr hf dX2_read_15
theorem ct_X2_read (l : Launch) (D : xh_D) {rv : Int32} {h hF : xh_H} {kc ks : Nat} (N : Nat) {a0 : Option Nat} (hf : f_X2_read N a0 h = some (rv, hF, kc, ks)) : xh_Ct l D yX2_read (ws_ yX2_read cX2_read 1 (Option.some Jvm.ClassFile.FieldType.int)) 5 112 [va_rf a0] h (some (.int rv)) hF kc ks :=
  xh_meth (cc := cX2_read) l (by decide) (Nat.le_of_ble_eq_true rfl) (List.forall_mem_cons.mpr ⟨va_rf_cat _, fun _ h => absurd h List.not_mem_nil⟩) fun p e s m below meth c ls C hr hnm hl hS => w_X2_read C hr ⟨Nat.le_refl _, Nat.le_refl _⟩ N a0 h _ _ _ _ _ _ _ hf hS hl
/-- SungSlidesModel.undo()I -/
theorem w_X2_undo (C : xh_C cX2_undo 1 "SungSlidesModel" D g p s m args meth c) (hr : meth.sig.returnType = (Option.some Jvm.ClassFile.FieldType.int)) (hR : 1 ≤ R.frames ∧ 24 ≤ R.locals) {rv : Int32} {hF : xh_H} (N : Nat) (a0 : Option Nat)  (h : xh_H) (H : Heap) (locs : List Loc) (cells slots kc ks : Nat) (ls : Array Slot) (hf : f_X2_undo N a0 h = some (rv, hF, kc, ks)) (hS : xh_T D g s R h H locs cells slots kc ks) (hl : xh_L ls 1 [(0, va_rf a0)]) : W p l e R s m args below meth c H locs cells slots (MQ below (xh_Q D g (some (.int rv)) hF) args s R.cells R.slots (xh_A g)) (F0 m 0 ls []) := by
  have hx := C.1
  have hb := C.2.1
  unfold f_X2_undo at hf
  refine xr_aload_n C dX2_undo_0 rfl (hl.at 0 rfl) ?_
  refine xr_getI C hS xf_X2 2 (by decide) q819 (fun _ h => h) hf dX2_undo_1 (fun x1 hf => ?_)
  refine lv_if_ne (tgt := 10) hx hb dX2_undo_4 (by decide) (fun c4 => ?_) (fun c4 => ?_)
  · replace hf := xb_neg c4 hf
    refine xr_aload_n C dX2_undo_10 rfl (hl.at 0 rfl) ?_
    refine lv_dup hx hb dX2_undo_11 (va_rf_cat _) ?_
    refine xr_getI C hS xf_X2 2 (by decide) q819 (fun _ h => h) hf dX2_undo_12 (fun x12 hf => ?_)
    refine lv_iconst (v := 1) hx hb dX2_undo_15 xi_c1 ?_
    refine lv_isub hx hb dX2_undo_16 ?_
    refine xr_put C hS xf_X2 2 (by decide) q819 (fun _ h => h) rfl xv_int hf dX2_undo_17 (fun h H locs hS hf => ?_)
    refine xr_aload_n C dX2_undo_20 rfl (hl.at 0 rfl) ?_
    refine xr_getR C hS xf_X2 1 (by decide) q818 (fun _ h => h) hf dX2_undo_21 (fun x21 hf => ?_)
    refine lv_sipush (v := 806) hx hb dX2_undo_24 xi_s806 ?_
    refine xr_aload_n C dX2_undo_27 rfl (hl.at 0 rfl) ?_
    refine xr_getI C hS xf_X2 2 (by decide) q819 (fun _ h => h) hf dX2_undo_28 (fun x28 hf => ?_)
    refine lv_imul hx hb dX2_undo_31 ?_
    refine xr_aload_n C dX2_undo_32 rfl (hl.at 0 rfl) ?_
    refine xr_getR C hS xf_X2 0 (by decide) q817 (fun _ h => h) hf dX2_undo_33 (fun x33 hf => ?_)
    refine lv_iconst (v := 0) hx hb dX2_undo_36 xi_c0 ?_
    refine xr_S (V := fun _ => none) (n := 4) (fr := 0) (lo := 0) (As := [va_rf x21, .int ((806 : Int32) * x28), va_rf x33, .int (0 : Int32)]) C hS (lw_S q896 q897 q60 q898) hd_X2_copy ⟨Nat.le_trans (Nat.le_of_ble_eq_true rfl) hR.1, Nat.le_trans (Nat.le_of_ble_eq_true rfl) hR.2⟩ rfl hl.1.1 rfl xm_r0 hf (fun v h1 k1 n1 e1 => ct_X2_copy l D N e1) dX2_undo_37 (fun _ h H locs cells slots kc ks hS hf => ?_)
    refine W.eq (g2 := F0 m 40 ls []) rfl ?_
    refine xr_aload_n C dX2_undo_40 rfl (hl.at 0 rfl) ?_
    refine xr_getI C hS xf_X2 2 (by decide) q819 (fun _ h => h) hf dX2_undo_41 (fun x41 hf => ?_)
    exact xr_iret C hS hr hf dX2_undo_44
  · replace hf := xb_pos c4 hf
    refine lv_bipush (v := -5) hx hb dX2_undo_7 xi_bm5 ?_
    exact xr_iret C hS hr hf dX2_undo_9
theorem ct_X2_undo (l : Launch) (D : xh_D) {rv : Int32} {h hF : xh_H} {kc ks : Nat} (N : Nat) {a0 : Option Nat} (hf : f_X2_undo N a0 h = some (rv, hF, kc, ks)) : xh_Ct l D yX2_undo (ws_ yX2_undo cX2_undo 1 (Option.some Jvm.ClassFile.FieldType.int)) 1 24 [va_rf a0] h (some (.int rv)) hF kc ks :=
  xh_meth (cc := cX2_undo) l (by decide) (Nat.le_of_ble_eq_true rfl) (List.forall_mem_cons.mpr ⟨va_rf_cat _, fun _ h => absurd h List.not_mem_nil⟩) fun p e s m below meth c ls C hr hnm hl hS => w_X2_undo C hr ⟨Nat.le_refl _, Nat.le_refl _⟩ N a0 h _ _ _ _ _ _ _ hf hS hl
/-- SungSlidesModel.keep()I -/
theorem w_X2_keep (C : xh_C cX2_keep 1 "SungSlidesModel" D g p s m args meth c) (hr : meth.sig.returnType = (Option.some Jvm.ClassFile.FieldType.int)) (hR : 1 ≤ R.frames ∧ 24 ≤ R.locals) {rv : Int32} {hF : xh_H} (N : Nat) (a0 : Option Nat)  (h : xh_H) (H : Heap) (locs : List Loc) (cells slots kc ks : Nat) (ls : Array Slot) (hf : f_X2_keep N a0 h = some (rv, hF, kc, ks)) (hS : xh_T D g s R h H locs cells slots kc ks) (hl : xh_L ls 1 [(0, va_rf a0)]) : W p l e R s m args below meth c H locs cells slots (MQ below (xh_Q D g (some (.int rv)) hF) args s R.cells R.slots (xh_A g)) (F0 m 0 ls []) := by
  have hx := C.1
  have hb := C.2.1
  unfold f_X2_keep at hf
  refine xr_aload_n C dX2_keep_0 rfl (hl.at 0 rfl) ?_
  refine xr_getR C hS xf_X2 0 (by decide) q817 (fun _ h => h) hf dX2_keep_1 (fun x1 hf => ?_)
  refine lv_iconst (v := 0) hx hb dX2_keep_4 xi_c0 ?_
  refine xr_aload_n C dX2_keep_5 rfl (hl.at 0 rfl) ?_
  refine xr_getR C hS xf_X2 3 (by decide) q820 (fun _ h => h) hf dX2_keep_6 (fun x6 hf => ?_)
  refine lv_iconst (v := 0) hx hb dX2_keep_9 xi_c0 ?_
  refine xr_S (V := fun _ => none) (n := 4) (fr := 0) (lo := 0) (As := [va_rf x1, .int (0 : Int32), va_rf x6, .int (0 : Int32)]) C hS (lw_S q896 q897 q60 q898) hd_X2_copy ⟨Nat.le_trans (Nat.le_of_ble_eq_true rfl) hR.1, Nat.le_trans (Nat.le_of_ble_eq_true rfl) hR.2⟩ rfl hl.1.1 rfl xm_r0 hf (fun v h1 k1 n1 e1 => ct_X2_copy l D N e1) dX2_keep_10 (fun _ h H locs cells slots kc ks hS hf => ?_)
  refine W.eq (g2 := F0 m 13 ls []) rfl ?_
  refine xr_aload_n C dX2_keep_13 rfl (hl.at 0 rfl) ?_
  refine lv_iconst (v := 1) hx hb dX2_keep_14 xi_c1 ?_
  obtain ⟨hz, hf⟩ := xb_pZ hf
  refine xr_put C hS xf_X2 4 (by decide) q821 (fun _ h => h) rfl (xv_bool hz) hf dX2_keep_15 (fun h H locs hS hf => ?_)
  refine xr_aload_n C dX2_keep_18 rfl (hl.at 0 rfl) ?_
  refine xr_getR C hS xf_X2 0 (by decide) q817 (fun _ h => h) hf dX2_keep_19 (fun x19 hf => ?_)
  refine lv_iconst (v := 5) hx hb dX2_keep_22 xi_c5 ?_
  refine xr_iald C hS hf dX2_keep_23 (fun x23 hf => ?_)
  exact xr_iret C hS hr hf dX2_keep_24
theorem ct_X2_keep (l : Launch) (D : xh_D) {rv : Int32} {h hF : xh_H} {kc ks : Nat} (N : Nat) {a0 : Option Nat} (hf : f_X2_keep N a0 h = some (rv, hF, kc, ks)) : xh_Ct l D yX2_keep (ws_ yX2_keep cX2_keep 1 (Option.some Jvm.ClassFile.FieldType.int)) 1 24 [va_rf a0] h (some (.int rv)) hF kc ks :=
  xh_meth (cc := cX2_keep) l (by decide) (Nat.le_of_ble_eq_true rfl) (List.forall_mem_cons.mpr ⟨va_rf_cat _, fun _ h => absurd h List.not_mem_nil⟩) fun p e s m below meth c ls C hr hnm hl hS => w_X2_keep C hr ⟨Nat.le_refl _, Nat.le_refl _⟩ N a0 h _ _ _ _ _ _ _ hf hS hl
/-- SungSlidesModel.restore()I -/
theorem w_X2_restore (C : xh_C cX2_restore 1 "SungSlidesModel" D g p s m args meth c) (hr : meth.sig.returnType = (Option.some Jvm.ClassFile.FieldType.int)) (hR : 2 ≤ R.frames ∧ 45 ≤ R.locals) {rv : Int32} {hF : xh_H} (N : Nat) (a0 : Option Nat)  (h : xh_H) (H : Heap) (locs : List Loc) (cells slots kc ks : Nat) (ls : Array Slot) (hf : f_X2_restore N a0 h = some (rv, hF, kc, ks)) (hS : xh_T D g s R h H locs cells slots kc ks) (hl : xh_L ls 1 [(0, va_rf a0)]) : W p l e R s m args below meth c H locs cells slots (MQ below (xh_Q D g (some (.int rv)) hF) args s R.cells R.slots (xh_A g)) (F0 m 0 ls []) := by
  have hx := C.1
  have hb := C.2.1
  unfold f_X2_restore at hf
  refine xr_aload_n C dX2_restore_0 rfl (hl.at 0 rfl) ?_
  refine xr_getI C hS xf_X2 4 (by decide) q821 (fun _ h => h) hf dX2_restore_1 (fun x1 hf => ?_)
  refine lv_if_ne (tgt := 10) hx hb dX2_restore_4 (by decide) (fun c4 => ?_) (fun c4 => ?_)
  · replace hf := xb_neg c4 hf
    refine xr_aload_n C dX2_restore_10 rfl (hl.at 0 rfl) ?_
    refine xr_V (V := fun _ => none) (n := 0) (fr := 1) (lo := 24) (As := []) C hS xf_X2 (lw_V q892 q894 qs24 q60 q895) hdv_X2_record ⟨Nat.le_trans (Nat.le_of_ble_eq_true rfl) hR.1, Nat.le_trans (Nat.le_of_ble_eq_true rfl) hR.2⟩ rfl hl.1.1 rfl xm_r0 hf (fun v h1 k1 n1 e1 => ct_X2_record l D N e1) dX2_restore_11 (fun _ h H locs cells slots kc ks hS hf => ?_)
    refine W.eq (g2 := F0 m 14 ls []) rfl ?_
    refine xr_aload_n C dX2_restore_14 rfl (hl.at 0 rfl) ?_
    refine xr_getR C hS xf_X2 3 (by decide) q820 (fun _ h => h) hf dX2_restore_15 (fun x15 hf => ?_)
    refine lv_iconst (v := 0) hx hb dX2_restore_18 xi_c0 ?_
    refine xr_aload_n C dX2_restore_19 rfl (hl.at 0 rfl) ?_
    refine xr_getR C hS xf_X2 0 (by decide) q817 (fun _ h => h) hf dX2_restore_20 (fun x20 hf => ?_)
    refine lv_iconst (v := 0) hx hb dX2_restore_23 xi_c0 ?_
    refine xr_S (V := fun _ => none) (n := 4) (fr := 0) (lo := 0) (As := [va_rf x15, .int (0 : Int32), va_rf x20, .int (0 : Int32)]) C hS (lw_S q896 q897 q60 q898) hd_X2_copy ⟨Nat.le_trans (Nat.le_of_ble_eq_true rfl) hR.1, Nat.le_trans (Nat.le_of_ble_eq_true rfl) hR.2⟩ rfl hl.1.1 rfl xm_r0 hf (fun v h1 k1 n1 e1 => ct_X2_copy l D N e1) dX2_restore_24 (fun _ h H locs cells slots kc ks hS hf => ?_)
    refine W.eq (g2 := F0 m 27 ls []) rfl ?_
    refine xr_aload_n C dX2_restore_27 rfl (hl.at 0 rfl) ?_
    refine xr_getR C hS xf_X2 0 (by decide) q817 (fun _ h => h) hf dX2_restore_28 (fun x28 hf => ?_)
    refine lv_iconst (v := 5) hx hb dX2_restore_31 xi_c5 ?_
    refine xr_iald C hS hf dX2_restore_32 (fun x32 hf => ?_)
    exact xr_iret C hS hr hf dX2_restore_33
  · replace hf := xb_pos c4 hf
    refine lv_bipush (v := -5) hx hb dX2_restore_7 xi_bm5 ?_
    exact xr_iret C hS hr hf dX2_restore_9
theorem ct_X2_restore (l : Launch) (D : xh_D) {rv : Int32} {h hF : xh_H} {kc ks : Nat} (N : Nat) {a0 : Option Nat} (hf : f_X2_restore N a0 h = some (rv, hF, kc, ks)) : xh_Ct l D yX2_restore (ws_ yX2_restore cX2_restore 1 (Option.some Jvm.ClassFile.FieldType.int)) 2 45 [va_rf a0] h (some (.int rv)) hF kc ks :=
  xh_meth (cc := cX2_restore) l (by decide) (Nat.le_of_ble_eq_true rfl) (List.forall_mem_cons.mpr ⟨va_rf_cat _, fun _ h => absurd h List.not_mem_nil⟩) fun p e s m below meth c ls C hr hnm hl hS => w_X2_restore C hr ⟨Nat.le_refl _, Nat.le_refl _⟩ N a0 h _ _ _ _ _ _ _ hf hS hl
def K_X2_phraseOf_4 (p : Program) (l : Launch) (e : Env) (s : State) (m : MethodId) (args : Array Value) (below : List Frame) (meth : Method) (c : Code) (D : xh_D) (g : Nat → Nat) (R : Room) (rv : Int32) (hF : xh_H) (k : Option Nat → Int32 → Int32 → Int32 → xh_H → xh_R Int32) : Prop := ∀ (a0 : Option Nat) (a1 : Int32) (a2 : Int32) (a3 : Int32) (h : xh_H) (H : Heap) (locs : List Loc) (cells slots kc ks : Nat) (ls : Array Slot), k a0 a1 a2 a3 h = some (rv, hF, kc, ks) → xh_T D g s R h H locs cells slots kc ks → xh_L ls 4 [(0, va_rf a0), (1, .int a1), (2, .int a2), (3, .int a3)] → W p l e R s m args below meth c H locs cells slots (MQ below (xh_Q D g (some (.int rv)) hF) args s R.cells R.slots (xh_A g)) (F0 m 4 ls [])
theorem w_X2_phraseOf_b24 (C : xh_C cX2_phraseOf 4 "SungSlidesModel" D g p s m args meth c) (hr : meth.sig.returnType = (Option.some Jvm.ClassFile.FieldType.int)) (hR : 1 ≤ R.frames ∧ 22 ≤ R.locals) {rv : Int32} {hF : xh_H} (N : Nat) : ∀ (a2 : Int32) (h : xh_H) (H : Heap) (locs : List Loc) (cells slots kc ks : Nat) (ls : Array Slot), f_X2_phraseOf_b24 N a2 h = some (rv, hF, kc, ks) → xh_T D g s R h H locs cells slots kc ks → xh_L ls 4 [(2, .int a2)] → W p l e R s m args below meth c H locs cells slots (MQ below (xh_Q D g (some (.int rv)) hF) args s R.cells R.slots (xh_A g)) (F0 m 24 ls []) := by
  intro a2 h H locs cells slots kc ks ls hf hS hl
  have hx := C.1
  have hb := C.2.1
  unfold f_X2_phraseOf_b24 at hf
  refine lv_iload_n hx hb dX2_phraseOf_24 rfl (hl.at 0 rfl) ?_
  exact xr_iret C hS hr hf dX2_phraseOf_25
theorem w_X2_phraseOf_b4 (C : xh_C cX2_phraseOf 4 "SungSlidesModel" D g p s m args meth c) (hr : meth.sig.returnType = (Option.some Jvm.ClassFile.FieldType.int)) (hR : 1 ≤ R.frames ∧ 22 ≤ R.locals) {rv : Int32} {hF : xh_H} (N : Nat) {k4 : Option Nat → Int32 → Int32 → Int32 → xh_H → xh_R Int32} (hk4 : K_X2_phraseOf_4 p l e s m args below meth c D g R rv hF k4) : ∀ (a0 : Option Nat) (a1 : Int32) (a2 : Int32) (a3 : Int32) (h : xh_H) (H : Heap) (locs : List Loc) (cells slots kc ks : Nat) (ls : Array Slot), f_X2_phraseOf_b4 N k4 a0 a1 a2 a3 h = some (rv, hF, kc, ks) → xh_T D g s R h H locs cells slots kc ks → xh_L ls 4 [(0, va_rf a0), (1, .int a1), (2, .int a2), (3, .int a3)] → W p l e R s m args below meth c H locs cells slots (MQ below (xh_Q D g (some (.int rv)) hF) args s R.cells R.slots (xh_A g)) (F0 m 4 ls []) := by
  intro a0 a1 a2 a3 h H locs cells slots kc ks ls hf hS hl
  have hx := C.1
  have hb := C.2.1
  unfold f_X2_phraseOf_b4 at hf
  refine lv_iload_n hx hb dX2_phraseOf_4 rfl (hl.at 3 rfl) ?_
  refine lv_iload_n hx hb dX2_phraseOf_5 rfl (hl.at 1 rfl) ?_
  refine lv_icmp_gt (tgt := 24) hx hb dX2_phraseOf_6 (by decide) (fun c6 => ?_) (fun c6 => ?_)
  · replace hf := xb_pos c6 hf
    exact w_X2_phraseOf_b24 C hr hR N a2  h H locs cells slots kc ks ls hf hS (hl.sub [2] rfl)
  · replace hf := xb_neg c6 hf
    refine lv_iload_n hx hb dX2_phraseOf_9 rfl (hl.at 2 rfl) ?_
    refine xr_aload_n C dX2_phraseOf_10 rfl (hl.at 0 rfl) ?_
    refine lv_iload_n hx hb dX2_phraseOf_11 rfl (hl.at 3 rfl) ?_
    refine lv_iconst (v := 4) hx hb dX2_phraseOf_12 xi_c4 ?_
    refine xr_V (V := fun v => some (.int v)) (n := 2) (fr := 0) (lo := 0) (As := [.int a3, .int (4 : Int32)]) C hS xf_X2 (lw_V q888 q890 qs23 q60 q891) hdv_X2_of ⟨Nat.le_trans (Nat.le_of_ble_eq_true rfl) hR.1, Nat.le_trans (Nat.le_of_ble_eq_true rfl) hR.2⟩ rfl hl.1.1 rfl (xm_rc rfl xm_r0) hf (fun v h1 k1 n1 e1 => ct_X2_of l D N e1) dX2_phraseOf_13 (fun x13 h H locs cells slots kc ks hS hf => ?_)
    refine W.eq (g2 := F0 m 16 ls [.int x13, .int a2]) rfl ?_
    refine lv_iadd hx hb dX2_phraseOf_16 ?_
    refine xr_istore_n C dX2_phraseOf_17 rfl hl (Nat.le_of_ble_eq_true rfl) (lv' := [(2, .int (a2 + x13)), (0, va_rf a0), (1, .int a1), (3, .int a3)]) rfl (fun ls hl => ?_)
    refine xr_iinc C dX2_phraseOf_18 hl (k := 3) rfl (xi_inc xi_c1) (Nat.le_of_ble_eq_true rfl) (lv' := [(3, .int (a3 + (1 : Int32))), (2, .int (a2 + x13)), (0, va_rf a0), (1, .int a1)]) rfl (fun ls hl => ?_)
    refine lv_goto (tgt := 4) hx hb dX2_phraseOf_21 (by decide) ?_
    exact hk4 a0 a1 (a2 + x13) (a3 + (1 : Int32))  h H locs cells slots kc ks ls hf hS (hl.sub [2, 3, 1, 0] rfl)
theorem w_X2_phraseOf_l4 (C : xh_C cX2_phraseOf 4 "SungSlidesModel" D g p s m args meth c) (hr : meth.sig.returnType = (Option.some Jvm.ClassFile.FieldType.int)) (hR : 1 ≤ R.frames ∧ 22 ≤ R.locals) {rv : Int32} {hF : xh_H} (N : Nat) : ∀ n : Nat, K_X2_phraseOf_4 p l e s m args below meth c D g R rv hF (f_X2_phraseOf_l4 N n) := by
  intro n
  induction n with
  | zero => exact fun a0 a1 a2 a3 h H locs cells slots kc ks ls hf => absurd (show (none : xh_R Int32) = some _ from hf) (by intro q; cases q)
  | succ n ih => exact fun a0 a1 a2 a3 h H locs cells slots kc ks ls hf => w_X2_phraseOf_b4 C hr hR N ih a0 a1 a2 a3 h H locs cells slots kc ks ls hf
/-- SungSlidesModel.phraseOf(I)I -/
theorem w_X2_phraseOf (C : xh_C cX2_phraseOf 4 "SungSlidesModel" D g p s m args meth c) (hr : meth.sig.returnType = (Option.some Jvm.ClassFile.FieldType.int)) (hR : 1 ≤ R.frames ∧ 22 ≤ R.locals) {rv : Int32} {hF : xh_H} (N : Nat) (a0 : Option Nat) (a1 : Int32)  (h : xh_H) (H : Heap) (locs : List Loc) (cells slots kc ks : Nat) (ls : Array Slot) (hf : f_X2_phraseOf N a0 a1 h = some (rv, hF, kc, ks)) (hS : xh_T D g s R h H locs cells slots kc ks) (hl : xh_L ls 4 [(0, va_rf a0), (1, .int a1)]) : W p l e R s m args below meth c H locs cells slots (MQ below (xh_Q D g (some (.int rv)) hF) args s R.cells R.slots (xh_A g)) (F0 m 0 ls []) := by
  have hx := C.1
  have hb := C.2.1
  unfold f_X2_phraseOf at hf
  refine lv_iconst (v := -1) hx hb dX2_phraseOf_0 xi_cm1 ?_
  refine xr_istore_n C dX2_phraseOf_1 rfl hl (Nat.le_of_ble_eq_true rfl) (lv' := [(2, .int (-1 : Int32)), (0, va_rf a0), (1, .int a1)]) rfl (fun ls hl => ?_)
  refine lv_iconst (v := 0) hx hb dX2_phraseOf_2 xi_c0 ?_
  refine xr_istore_n C dX2_phraseOf_3 rfl hl (Nat.le_of_ble_eq_true rfl) (lv' := [(3, .int (0 : Int32)), (2, .int (-1 : Int32)), (0, va_rf a0), (1, .int a1)]) rfl (fun ls hl => ?_)
  exact w_X2_phraseOf_l4 C hr hR N N a0 a1 (-1 : Int32) (0 : Int32)  h H locs cells slots kc ks ls hf hS (hl.sub [2, 3, 1, 0] rfl)
theorem ct_X2_phraseOf (l : Launch) (D : xh_D) {rv : Int32} {h hF : xh_H} {kc ks : Nat} (N : Nat) {a0 : Option Nat} {a1 : Int32} (hf : f_X2_phraseOf N a0 a1 h = some (rv, hF, kc, ks)) : xh_Ct l D yX2_phraseOf (ws_ yX2_phraseOf cX2_phraseOf 4 (Option.some Jvm.ClassFile.FieldType.int)) 1 22 [va_rf a0, .int a1] h (some (.int rv)) hF kc ks :=
  xh_meth (cc := cX2_phraseOf) l (by decide) (Nat.le_of_ble_eq_true rfl) (List.forall_mem_cons.mpr ⟨va_rf_cat _, List.forall_mem_cons.mpr ⟨rfl, fun _ h => absurd h List.not_mem_nil⟩⟩) fun p e s m below meth c ls C hr hnm hl hS => w_X2_phraseOf C hr ⟨Nat.le_refl _, Nat.le_refl _⟩ N a0 a1 h _ _ _ _ _ _ _ hf hS hl
theorem w_X2_syllable_b76 (C : xh_C cX2_syllable 3 "SungSlidesModel" D g p s m args meth c) (hr : meth.sig.returnType = (Option.some Jvm.ClassFile.FieldType.int)) (hR : 7 ≤ R.frames ∧ 157 ≤ R.locals) {rv : Int32} {hF : xh_H} (N : Nat) : ∀ (a0 : Option Nat) (a1 : Int32) (a2 : Int32) (h : xh_H) (H : Heap) (locs : List Loc) (cells slots kc ks : Nat) (ls : Array Slot), f_X2_syllable_b76 N a0 a1 a2 h = some (rv, hF, kc, ks) → xh_T D g s R h H locs cells slots kc ks → xh_L ls 3 [(0, va_rf a0), (1, .int a1), (2, .int a2)] → W p l e R s m args below meth c H locs cells slots (MQ below (xh_Q D g (some (.int rv)) hF) args s R.cells R.slots (xh_A g)) (F0 m 76 ls []) := by
  intro a0 a1 a2 h H locs cells slots kc ks ls hf hS hl
  have hx := C.1
  have hb := C.2.1
  unfold f_X2_syllable_b76 at hf
  refine xr_aload_n C dX2_syllable_76 rfl (hl.at 0 rfl) ?_
  refine lv_iload_n hx hb dX2_syllable_77 rfl (hl.at 1 rfl) ?_
  refine lv_iload_n hx hb dX2_syllable_78 rfl (hl.at 2 rfl) ?_
  refine xr_V (V := fun v => some (.int v)) (n := 2) (fr := 0) (lo := 0) (As := [.int a1, .int a2]) C hS xf_X2 (lw_V q888 q890 qs23 q60 q891) hdv_X2_of ⟨Nat.le_trans (Nat.le_of_ble_eq_true rfl) hR.1, Nat.le_trans (Nat.le_of_ble_eq_true rfl) hR.2⟩ rfl hl.1.1 rfl xm_r0 hf (fun v h1 k1 n1 e1 => ct_X2_of l D N e1) dX2_syllable_79 (fun x79 h H locs cells slots kc ks hS hf => ?_)
  refine W.eq (g2 := F0 m 82 ls [.int x79]) rfl ?_
  exact xr_iret C hS hr hf dX2_syllable_82
/-- SungSlidesModel.syllable(II)I -/
theorem w_X2_syllable (C : xh_C cX2_syllable 3 "SungSlidesModel" D g p s m args meth c) (hr : meth.sig.returnType = (Option.some Jvm.ClassFile.FieldType.int)) (hR : 7 ≤ R.frames ∧ 157 ≤ R.locals) {rv : Int32} {hF : xh_H} (N : Nat) (a0 : Option Nat) (a1 : Int32) (a2 : Int32)  (h : xh_H) (H : Heap) (locs : List Loc) (cells slots kc ks : Nat) (ls : Array Slot) (hf : f_X2_syllable N a0 a1 a2 h = some (rv, hF, kc, ks)) (hS : xh_T D g s R h H locs cells slots kc ks) (hl : xh_L ls 3 [(0, va_rf a0), (1, .int a1), (2, .int a2)]) : W p l e R s m args below meth c H locs cells slots (MQ below (xh_Q D g (some (.int rv)) hF) args s R.cells R.slots (xh_A g)) (F0 m 0 ls []) := by
  have hx := C.1
  have hb := C.2.1
  unfold f_X2_syllable at hf
  refine xr_aload_n C dX2_syllable_0 rfl (hl.at 0 rfl) ?_
  refine lv_iload_n hx hb dX2_syllable_1 rfl (hl.at 1 rfl) ?_
  refine xr_V (V := fun v => some (.int v)) (n := 1) (fr := 1) (lo := 22) (As := [.int a1]) C hS xf_X2 (lw_V q984 q986 qs39 q60 q987) hdv_X2_isSyllable ⟨Nat.le_trans (Nat.le_of_ble_eq_true rfl) hR.1, Nat.le_trans (Nat.le_of_ble_eq_true rfl) hR.2⟩ rfl hl.1.1 rfl xm_r0 hf (fun v h1 k1 n1 e1 => ct_X2_isSyllable l D N e1) dX2_syllable_2 (fun x2 h H locs cells slots kc ks hS hf => ?_)
  refine W.eq (g2 := F0 m 5 ls [.int x2]) rfl ?_
  refine lv_if_ne (tgt := 10) hx hb dX2_syllable_5 (by decide) (fun c5 => ?_) (fun c5 => ?_)
  · replace hf := xb_neg c5 hf
    refine xr_aload_n C dX2_syllable_10 rfl (hl.at 0 rfl) ?_
    refine xr_V (V := fun _ => none) (n := 0) (fr := 6) (lo := 137) (As := []) C hS xf_X2 (lw_V q925 q927 qs27 q60 q928) hdv_X2_judgeSong ⟨Nat.le_trans (Nat.le_of_ble_eq_true rfl) hR.1, Nat.le_trans (Nat.le_of_ble_eq_true rfl) hR.2⟩ rfl hl.1.1 rfl xm_r0 hf (fun v h1 k1 n1 e1 => ct_X2_judgeSong l D N e1) dX2_syllable_11 (fun _ h H locs cells slots kc ks hS hf => ?_)
    refine W.eq (g2 := F0 m 14 ls []) rfl ?_
    refine lv_iload_n hx hb dX2_syllable_14 rfl (hl.at 2 rfl) ?_
    by_cases c15_0 : a2 = 0
    · replace hf := xb_pos c15_0 hf
      refine xr_tab c15_0 C dX2_syllable_15 (by decide) (by decide) (off := 61) (tgt := 76) (by decide) (by decide) ?_
      exact w_X2_syllable_b76 C hr hR N a0 a1 a2  h H locs cells slots kc ks ls hf hS (hl.sub [0, 1, 2] rfl)
    replace hf := xb_neg c15_0 hf
    by_cases c15_1 : a2 = 1
    · replace hf := xb_pos c15_1 hf
      refine xr_tab c15_1 C dX2_syllable_15 (by decide) (by decide) (off := 61) (tgt := 76) (by decide) (by decide) ?_
      exact w_X2_syllable_b76 C hr hR N a0 a1 a2  h H locs cells slots kc ks ls hf hS (hl.sub [0, 1, 2] rfl)
    replace hf := xb_neg c15_1 hf
    by_cases c15_2 : a2 = 2
    · replace hf := xb_pos c15_2 hf
      refine xr_tab c15_2 C dX2_syllable_15 (by decide) (by decide) (off := 61) (tgt := 76) (by decide) (by decide) ?_
      exact w_X2_syllable_b76 C hr hR N a0 a1 a2  h H locs cells slots kc ks ls hf hS (hl.sub [0, 1, 2] rfl)
    replace hf := xb_neg c15_2 hf
    by_cases c15_3 : a2 = 3
    · replace hf := xb_pos c15_3 hf
      refine xr_tab c15_3 C dX2_syllable_15 (by decide) (by decide) (off := 61) (tgt := 76) (by decide) (by decide) ?_
      exact w_X2_syllable_b76 C hr hR N a0 a1 a2  h H locs cells slots kc ks ls hf hS (hl.sub [0, 1, 2] rfl)
    replace hf := xb_neg c15_3 hf
    by_cases c15_4 : a2 = 4
    · replace hf := xb_pos c15_4 hf
      refine xr_tab c15_4 C dX2_syllable_15 (by decide) (by decide) (off := 68) (tgt := 83) (by decide) (by decide) ?_
      refine xr_aload_n C dX2_syllable_83 rfl (hl.at 0 rfl) ?_
      refine lv_iload_n hx hb dX2_syllable_84 rfl (hl.at 1 rfl) ?_
      refine xr_V (V := fun v => some (.int v)) (n := 1) (fr := 1) (lo := 22) (As := [.int a1]) C hS xf_X2 (lw_V q1036 q1038 qs45 q60 q1039) hdv_X2_phraseOf ⟨Nat.le_trans (Nat.le_of_ble_eq_true rfl) hR.1, Nat.le_trans (Nat.le_of_ble_eq_true rfl) hR.2⟩ rfl hl.1.1 rfl xm_r0 hf (fun v h1 k1 n1 e1 => ct_X2_phraseOf l D N e1) dX2_syllable_85 (fun x85 h H locs cells slots kc ks hS hf => ?_)
      refine W.eq (g2 := F0 m 88 ls [.int x85]) rfl ?_
      exact xr_iret C hS hr hf dX2_syllable_88
    replace hf := xb_neg c15_4 hf
    by_cases c15_5 : a2 = 5
    · replace hf := xb_pos c15_5 hf
      refine xr_tab c15_5 C dX2_syllable_15 (by decide) (by decide) (off := 74) (tgt := 89) (by decide) (by decide) ?_
      refine xr_aload_n C dX2_syllable_89 rfl (hl.at 0 rfl) ?_
      refine lv_iload_n hx hb dX2_syllable_90 rfl (hl.at 1 rfl) ?_
      refine lv_iconst (v := 0) hx hb dX2_syllable_91 xi_c0 ?_
      refine xr_V (V := fun v => some (.int v)) (n := 2) (fr := 3) (lo := 68) (As := [.int a1, .int (0 : Int32)]) C hS xf_X2 (lw_V q968 q970 qs37 q60 q971) hdv_X2_bars ⟨Nat.le_trans (Nat.le_of_ble_eq_true rfl) hR.1, Nat.le_trans (Nat.le_of_ble_eq_true rfl) hR.2⟩ rfl hl.1.1 rfl xm_r0 hf (fun v h1 k1 n1 e1 => ct_X2_bars l D N e1) dX2_syllable_92 (fun x92 h H locs cells slots kc ks hS hf => ?_)
      refine W.eq (g2 := F0 m 95 ls [.int x92]) rfl ?_
      exact xr_iret C hS hr hf dX2_syllable_95
    replace hf := xb_neg c15_5 hf
    by_cases c15_6 : a2 = 6
    · replace hf := xb_pos c15_6 hf
      refine xr_tab c15_6 C dX2_syllable_15 (by decide) (by decide) (off := 81) (tgt := 96) (by decide) (by decide) ?_
      refine xr_aload_n C dX2_syllable_96 rfl (hl.at 0 rfl) ?_
      refine xr_getR C hS xf_X2 8 (by decide) q825 (fun _ h => h) hf dX2_syllable_97 (fun x97 hf => ?_)
      refine lv_iload_n hx hb dX2_syllable_100 rfl (hl.at 1 rfl) ?_
      refine xr_iald C hS hf dX2_syllable_101 (fun x101 hf => ?_)
      exact xr_iret C hS hr hf dX2_syllable_102
    replace hf := xb_neg c15_6 hf
    by_cases c15_7 : a2 = 7
    · replace hf := xb_pos c15_7 hf
      refine xr_tab c15_7 C dX2_syllable_15 (by decide) (by decide) (off := 88) (tgt := 103) (by decide) (by decide) ?_
      refine xr_aload_n C dX2_syllable_103 rfl (hl.at 0 rfl) ?_
      refine lv_iload_n hx hb dX2_syllable_104 rfl (hl.at 1 rfl) ?_
      refine xr_V (V := fun v => some (.int v)) (n := 1) (fr := 1) (lo := 22) (As := [.int a1]) C hS xf_X2 (lw_V q960 q962 qs35 q60 q963) hdv_X2_share ⟨Nat.le_trans (Nat.le_of_ble_eq_true rfl) hR.1, Nat.le_trans (Nat.le_of_ble_eq_true rfl) hR.2⟩ rfl hl.1.1 rfl xm_r0 hf (fun v h1 k1 n1 e1 => ct_X2_share l D N e1) dX2_syllable_105 (fun x105 h H locs cells slots kc ks hS hf => ?_)
      refine W.eq (g2 := F0 m 108 ls [.int x105]) rfl ?_
      exact xr_iret C hS hr hf dX2_syllable_108
    replace hf := xb_neg c15_7 hf
    by_cases c15_8 : a2 = 8
    · replace hf := xb_pos c15_8 hf
      refine xr_tab c15_8 C dX2_syllable_15 (by decide) (by decide) (off := 94) (tgt := 109) (by decide) (by decide) ?_
      refine xr_aload_n C dX2_syllable_109 rfl (hl.at 0 rfl) ?_
      refine xr_getR C hS xf_X2 9 (by decide) q826 (fun _ h => h) hf dX2_syllable_110 (fun x110 hf => ?_)
      refine lv_iload_n hx hb dX2_syllable_113 rfl (hl.at 1 rfl) ?_
      refine xr_iald C hS hf dX2_syllable_114 (fun x114 hf => ?_)
      exact xr_iret C hS hr hf dX2_syllable_115
    replace hf := xb_neg c15_8 hf
    by_cases c15_9 : a2 = 9
    · replace hf := xb_pos c15_9 hf
      refine xr_tab c15_9 C dX2_syllable_15 (by decide) (by decide) (off := 101) (tgt := 116) (by decide) (by decide) ?_
      refine xr_aload_n C dX2_syllable_116 rfl (hl.at 0 rfl) ?_
      refine xr_getR C hS xf_X2 10 (by decide) q827 (fun _ h => h) hf dX2_syllable_117 (fun x117 hf => ?_)
      refine lv_iload_n hx hb dX2_syllable_120 rfl (hl.at 1 rfl) ?_
      refine xr_iald C hS hf dX2_syllable_121 (fun x121 hf => ?_)
      exact xr_iret C hS hr hf dX2_syllable_122
    replace hf := xb_neg c15_9 hf
    by_cases c15_10 : a2 = 10
    · replace hf := xb_pos c15_10 hf
      refine xr_tab c15_10 C dX2_syllable_15 (by decide) (by decide) (off := 108) (tgt := 123) (by decide) (by decide) ?_
      refine xr_aload_n C dX2_syllable_123 rfl (hl.at 0 rfl) ?_
      refine xr_getR C hS xf_X2 12 (by decide) q829 (fun _ h => h) hf dX2_syllable_124 (fun x124 hf => ?_)
      refine lv_iload_n hx hb dX2_syllable_127 rfl (hl.at 1 rfl) ?_
      refine xr_iald C hS hf dX2_syllable_128 (fun x128 hf => ?_)
      exact xr_iret C hS hr hf dX2_syllable_129
    replace hf := xb_neg c15_10 hf
    by_cases c15_11 : a2 = 11
    · replace hf := xb_pos c15_11 hf
      refine xr_tab c15_11 C dX2_syllable_15 (by decide) (by decide) (off := 115) (tgt := 130) (by decide) (by decide) ?_
      refine xr_aload_n C dX2_syllable_130 rfl (hl.at 0 rfl) ?_
      refine xr_getR C hS xf_X2 11 (by decide) q828 (fun _ h => h) hf dX2_syllable_131 (fun x131 hf => ?_)
      refine lv_iload_n hx hb dX2_syllable_134 rfl (hl.at 1 rfl) ?_
      refine xr_iald C hS hf dX2_syllable_135 (fun x135 hf => ?_)
      exact xr_iret C hS hr hf dX2_syllable_136
    replace hf := xb_neg c15_11 hf
    refine lv_tableOut (tgt := 137) hx hb dX2_syllable_15 (by have ec15_0 := lv_neT c15_0 (a := 0) (by decide); have ec15_1 := lv_neT c15_1 (a := 1) (by decide); have ec15_2 := lv_neT c15_2 (a := 2) (by decide); have ec15_3 := lv_neT c15_3 (a := 3) (by decide); have ec15_4 := lv_neT c15_4 (a := 4) (by decide); have ec15_5 := lv_neT c15_5 (a := 5) (by decide); have ec15_6 := lv_neT c15_6 (a := 6) (by decide); have ec15_7 := lv_neT c15_7 (a := 7) (by decide); have ec15_8 := lv_neT c15_8 (a := 8) (by decide); have ec15_9 := lv_neT c15_9 (a := 9) (by decide); have ec15_10 := lv_neT c15_10 (a := 10) (by decide); have ec15_11 := lv_neT c15_11 (a := 11) (by decide); omega) (by decide) ?_
    refine lv_bipush (v := -2) hx hb dX2_syllable_137 xi_bm2 ?_
    exact xr_iret C hS hr hf dX2_syllable_139
  · replace hf := xb_pos c5 hf
    refine lv_iconst (v := -1) hx hb dX2_syllable_8 xi_cm1 ?_
    exact xr_iret C hS hr hf dX2_syllable_9
theorem ct_X2_syllable (l : Launch) (D : xh_D) {rv : Int32} {h hF : xh_H} {kc ks : Nat} (N : Nat) {a0 : Option Nat} {a1 : Int32} {a2 : Int32} (hf : f_X2_syllable N a0 a1 a2 h = some (rv, hF, kc, ks)) : xh_Ct l D yX2_syllable (ws_ yX2_syllable cX2_syllable 3 (Option.some Jvm.ClassFile.FieldType.int)) 7 157 [va_rf a0, .int a1, .int a2] h (some (.int rv)) hF kc ks :=
  xh_meth (cc := cX2_syllable) l (by decide) (Nat.le_of_ble_eq_true rfl) (List.forall_mem_cons.mpr ⟨va_rf_cat _, List.forall_mem_cons.mpr ⟨rfl, List.forall_mem_cons.mpr ⟨rfl, fun _ h => absurd h List.not_mem_nil⟩⟩⟩) fun p e s m below meth c ls C hr hnm hl hS => w_X2_syllable C hr ⟨Nat.le_refl _, Nat.le_refl _⟩ N a0 a1 a2 h _ _ _ _ _ _ _ hf hS hl
def K_X2_syllableAt_5 (p : Program) (l : Launch) (e : Env) (s : State) (m : MethodId) (args : Array Value) (below : List Frame) (meth : Method) (c : Code) (D : xh_D) (g : Nat → Nat) (R : Room) (rv : Int32) (hF : xh_H) (k : Option Nat → Int32 → Int32 → Int32 → xh_H → xh_R Int32) : Prop := ∀ (a0 : Option Nat) (a1 : Int32) (a2 : Int32) (a3 : Int32) (h : xh_H) (H : Heap) (locs : List Loc) (cells slots kc ks : Nat) (ls : Array Slot), k a0 a1 a2 a3 h = some (rv, hF, kc, ks) → xh_T D g s R h H locs cells slots kc ks → xh_L ls 4 [(0, va_rf a0), (1, .int a1), (2, .int a2), (3, .int a3)] → W p l e R s m args below meth c H locs cells slots (MQ below (xh_Q D g (some (.int rv)) hF) args s R.cells R.slots (xh_A g)) (F0 m 5 ls [])
theorem w_X2_syllableAt_b47 (C : xh_C cX2_syllableAt 4 "SungSlidesModel" D g p s m args meth c) (hr : meth.sig.returnType = (Option.some Jvm.ClassFile.FieldType.int)) (hR : 2 ≤ R.frames ∧ 43 ≤ R.locals) {rv : Int32} {hF : xh_H} (N : Nat) : ∀ (a2 : Int32) (h : xh_H) (H : Heap) (locs : List Loc) (cells slots kc ks : Nat) (ls : Array Slot), f_X2_syllableAt_b47 N a2 h = some (rv, hF, kc, ks) → xh_T D g s R h H locs cells slots kc ks → xh_L ls 4 [(2, .int a2)] → W p l e R s m args below meth c H locs cells slots (MQ below (xh_Q D g (some (.int rv)) hF) args s R.cells R.slots (xh_A g)) (F0 m 47 ls []) := by
  intro a2 h H locs cells slots kc ks ls hf hS hl
  have hx := C.1
  have hb := C.2.1
  unfold f_X2_syllableAt_b47 at hf
  refine lv_iload_n hx hb dX2_syllableAt_47 rfl (hl.at 0 rfl) ?_
  exact xr_iret C hS hr hf dX2_syllableAt_48
theorem w_X2_syllableAt_b40 (C : xh_C cX2_syllableAt 4 "SungSlidesModel" D g p s m args meth c) (hr : meth.sig.returnType = (Option.some Jvm.ClassFile.FieldType.int)) (hR : 2 ≤ R.frames ∧ 43 ≤ R.locals) {rv : Int32} {hF : xh_H} (N : Nat) {k5 : Option Nat → Int32 → Int32 → Int32 → xh_H → xh_R Int32} (hk5 : K_X2_syllableAt_5 p l e s m args below meth c D g R rv hF k5) : ∀ (a0 : Option Nat) (a1 : Int32) (a3 : Int32) (t0 : Int32) (h : xh_H) (H : Heap) (locs : List Loc) (cells slots kc ks : Nat) (ls : Array Slot), f_X2_syllableAt_b40 N k5 a0 a1 a3 t0 h = some (rv, hF, kc, ks) → xh_T D g s R h H locs cells slots kc ks → xh_L ls 4 [(0, va_rf a0), (1, .int a1), (3, .int a3)] → W p l e R s m args below meth c H locs cells slots (MQ below (xh_Q D g (some (.int rv)) hF) args s R.cells R.slots (xh_A g)) (F0 m 40 ls [.int t0]) := by
  intro a0 a1 a3 t0 h H locs cells slots kc ks ls hf hS hl
  have hx := C.1
  have hb := C.2.1
  unfold f_X2_syllableAt_b40 at hf
  refine xr_istore_n C dX2_syllableAt_40 rfl hl (Nat.le_of_ble_eq_true rfl) (lv' := [(2, .int t0), (0, va_rf a0), (1, .int a1), (3, .int a3)]) rfl (fun ls hl => ?_)
  refine xr_iinc C dX2_syllableAt_41 hl (k := 3) rfl (xi_inc xi_c1) (Nat.le_of_ble_eq_true rfl) (lv' := [(3, .int (a3 + (1 : Int32))), (2, .int t0), (0, va_rf a0), (1, .int a1)]) rfl (fun ls hl => ?_)
  refine lv_goto (tgt := 5) hx hb dX2_syllableAt_44 (by decide) ?_
  exact hk5 a0 a1 t0 (a3 + (1 : Int32))  h H locs cells slots kc ks ls hf hS (hl.sub [2, 3, 1, 0] rfl)
theorem w_X2_syllableAt_b5 (C : xh_C cX2_syllableAt 4 "SungSlidesModel" D g p s m args meth c) (hr : meth.sig.returnType = (Option.some Jvm.ClassFile.FieldType.int)) (hR : 2 ≤ R.frames ∧ 43 ≤ R.locals) {rv : Int32} {hF : xh_H} (N : Nat) {k5 : Option Nat → Int32 → Int32 → Int32 → xh_H → xh_R Int32} (hk5 : K_X2_syllableAt_5 p l e s m args below meth c D g R rv hF k5) : ∀ (a0 : Option Nat) (a1 : Int32) (a2 : Int32) (a3 : Int32) (h : xh_H) (H : Heap) (locs : List Loc) (cells slots kc ks : Nat) (ls : Array Slot), f_X2_syllableAt_b5 N k5 a0 a1 a2 a3 h = some (rv, hF, kc, ks) → xh_T D g s R h H locs cells slots kc ks → xh_L ls 4 [(0, va_rf a0), (1, .int a1), (2, .int a2), (3, .int a3)] → W p l e R s m args below meth c H locs cells slots (MQ below (xh_Q D g (some (.int rv)) hF) args s R.cells R.slots (xh_A g)) (F0 m 5 ls []) := by
  intro a0 a1 a2 a3 h H locs cells slots kc ks ls hf hS hl
  have hx := C.1
  have hb := C.2.1
  unfold f_X2_syllableAt_b5 at hf
  refine lv_iload_n hx hb dX2_syllableAt_5 rfl (hl.at 3 rfl) ?_
  refine xr_aload_n C dX2_syllableAt_6 rfl (hl.at 0 rfl) ?_
  refine xr_getR C hS xf_X2 0 (by decide) q817 (fun _ h => h) hf dX2_syllableAt_7 (fun x7 hf => ?_)
  refine lv_iconst (v := 5) hx hb dX2_syllableAt_10 xi_c5 ?_
  refine xr_iald C hS hf dX2_syllableAt_11 (fun x11 hf => ?_)
  refine lv_icmp_ge (tgt := 47) hx hb dX2_syllableAt_12 (by decide) (fun c12 => ?_) (fun c12 => ?_)
  · replace hf := xb_pos c12 hf
    exact w_X2_syllableAt_b47 C hr hR N a2  h H locs cells slots kc ks ls hf hS (hl.sub [2] rfl)
  · replace hf := xb_neg c12 hf
    refine lv_iload_n hx hb dX2_syllableAt_15 rfl (hl.at 1 rfl) ?_
    refine xr_aload_n C dX2_syllableAt_16 rfl (hl.at 0 rfl) ?_
    refine lv_iload_n hx hb dX2_syllableAt_17 rfl (hl.at 3 rfl) ?_
    refine lv_iconst (v := 0) hx hb dX2_syllableAt_18 xi_c0 ?_
    refine xr_V (V := fun v => some (.int v)) (n := 2) (fr := 0) (lo := 0) (As := [.int a3, .int (0 : Int32)]) C hS xf_X2 (lw_V q888 q890 qs23 q60 q891) hdv_X2_of ⟨Nat.le_trans (Nat.le_of_ble_eq_true rfl) hR.1, Nat.le_trans (Nat.le_of_ble_eq_true rfl) hR.2⟩ rfl hl.1.1 rfl (xm_rc rfl xm_r0) hf (fun v h1 k1 n1 e1 => ct_X2_of l D N e1) dX2_syllableAt_19 (fun x19 h H locs cells slots kc ks hS hf => ?_)
    refine W.eq (g2 := F0 m 22 ls [.int x19, .int a1]) rfl ?_
    refine xr_aload_n C dX2_syllableAt_22 rfl (hl.at 0 rfl) ?_
    refine lv_iload_n hx hb dX2_syllableAt_23 rfl (hl.at 3 rfl) ?_
    refine xr_V (V := fun v => some (.int v)) (n := 1) (fr := 1) (lo := 22) (As := [.int a3]) C hS xf_X2 (lw_V q884 q886 qs22 q60 q887) hdv_X2_behind ⟨Nat.le_trans (Nat.le_of_ble_eq_true rfl) hR.1, Nat.le_trans (Nat.le_of_ble_eq_true rfl) hR.2⟩ rfl hl.1.1 rfl (xm_rc rfl (xm_rc rfl xm_r0)) hf (fun v h1 k1 n1 e1 => ct_X2_behind l D N e1) dX2_syllableAt_24 (fun x24 h H locs cells slots kc ks hS hf => ?_)
    refine W.eq (g2 := F0 m 27 ls [.int x24, .int x19, .int a1]) rfl ?_
    refine lv_iconst (v := 1) hx hb dX2_syllableAt_27 xi_c1 ?_
    refine lv_isub hx hb dX2_syllableAt_28 ?_
    refine xr_S (V := fun v => some (.int v)) (n := 3) (fr := 0) (lo := 0) (As := [.int a1, .int x19, .int (x24 - (1 : Int32))]) C hS (lw_S q873 q874 q60 q875) hd_X2_in ⟨Nat.le_trans (Nat.le_of_ble_eq_true rfl) hR.1, Nat.le_trans (Nat.le_of_ble_eq_true rfl) hR.2⟩ rfl hl.1.1 rfl xm_r0 hf (fun v h1 k1 n1 e1 => ct_X2_in l D N e1) dX2_syllableAt_29 (fun x29 h H locs cells slots kc ks hS hf => ?_)
    refine W.eq (g2 := F0 m 32 ls [.int x29]) rfl ?_
    refine lv_if_eq (tgt := 39) hx hb dX2_syllableAt_32 (by decide) (fun c32 => ?_) (fun c32 => ?_)
    · replace hf := xb_pos c32 hf
      refine lv_iload_n hx hb dX2_syllableAt_39 rfl (hl.at 2 rfl) ?_
      exact w_X2_syllableAt_b40 C hr hR N hk5 a0 a1 a3 a2 h H locs cells slots kc ks ls hf hS (hl.sub [0, 1, 3] rfl)
    · replace hf := xb_neg c32 hf
      refine lv_iload_n hx hb dX2_syllableAt_35 rfl (hl.at 3 rfl) ?_
      refine lv_goto (tgt := 40) hx hb dX2_syllableAt_36 (by decide) ?_
      exact w_X2_syllableAt_b40 C hr hR N hk5 a0 a1 a3 a3 h H locs cells slots kc ks ls hf hS (hl.sub [0, 1, 3] rfl)
theorem w_X2_syllableAt_l5 (C : xh_C cX2_syllableAt 4 "SungSlidesModel" D g p s m args meth c) (hr : meth.sig.returnType = (Option.some Jvm.ClassFile.FieldType.int)) (hR : 2 ≤ R.frames ∧ 43 ≤ R.locals) {rv : Int32} {hF : xh_H} (N : Nat) : ∀ n : Nat, K_X2_syllableAt_5 p l e s m args below meth c D g R rv hF (f_X2_syllableAt_l5 N n) := by
  intro n
  induction n with
  | zero => exact fun a0 a1 a2 a3 h H locs cells slots kc ks ls hf => absurd (show (none : xh_R Int32) = some _ from hf) (by intro q; cases q)
  | succ n ih => exact fun a0 a1 a2 a3 h H locs cells slots kc ks ls hf => w_X2_syllableAt_b5 C hr hR N ih a0 a1 a2 a3 h H locs cells slots kc ks ls hf
/-- SungSlidesModel.syllableAt(I)I -/
theorem w_X2_syllableAt (C : xh_C cX2_syllableAt 4 "SungSlidesModel" D g p s m args meth c) (hr : meth.sig.returnType = (Option.some Jvm.ClassFile.FieldType.int)) (hR : 2 ≤ R.frames ∧ 43 ≤ R.locals) {rv : Int32} {hF : xh_H} (N : Nat) (a0 : Option Nat) (a1 : Int32)  (h : xh_H) (H : Heap) (locs : List Loc) (cells slots kc ks : Nat) (ls : Array Slot) (hf : f_X2_syllableAt N a0 a1 h = some (rv, hF, kc, ks)) (hS : xh_T D g s R h H locs cells slots kc ks) (hl : xh_L ls 4 [(0, va_rf a0), (1, .int a1)]) : W p l e R s m args below meth c H locs cells slots (MQ below (xh_Q D g (some (.int rv)) hF) args s R.cells R.slots (xh_A g)) (F0 m 0 ls []) := by
  have hx := C.1
  have hb := C.2.1
  unfold f_X2_syllableAt at hf
  refine lv_bipush (v := -5) hx hb dX2_syllableAt_0 xi_bm5 ?_
  refine xr_istore_n C dX2_syllableAt_2 rfl hl (Nat.le_of_ble_eq_true rfl) (lv' := [(2, .int (-5 : Int32)), (0, va_rf a0), (1, .int a1)]) rfl (fun ls hl => ?_)
  refine lv_iconst (v := 0) hx hb dX2_syllableAt_3 xi_c0 ?_
  refine xr_istore_n C dX2_syllableAt_4 rfl hl (Nat.le_of_ble_eq_true rfl) (lv' := [(3, .int (0 : Int32)), (2, .int (-5 : Int32)), (0, va_rf a0), (1, .int a1)]) rfl (fun ls hl => ?_)
  exact w_X2_syllableAt_l5 C hr hR N N a0 a1 (-5 : Int32) (0 : Int32)  h H locs cells slots kc ks ls hf hS (hl.sub [2, 3, 1, 0] rfl)
theorem ct_X2_syllableAt (l : Launch) (D : xh_D) {rv : Int32} {h hF : xh_H} {kc ks : Nat} (N : Nat) {a0 : Option Nat} {a1 : Int32} (hf : f_X2_syllableAt N a0 a1 h = some (rv, hF, kc, ks)) : xh_Ct l D yX2_syllableAt (ws_ yX2_syllableAt cX2_syllableAt 4 (Option.some Jvm.ClassFile.FieldType.int)) 2 43 [va_rf a0, .int a1] h (some (.int rv)) hF kc ks :=
  xh_meth (cc := cX2_syllableAt) l (by decide) (Nat.le_of_ble_eq_true rfl) (List.forall_mem_cons.mpr ⟨va_rf_cat _, List.forall_mem_cons.mpr ⟨rfl, fun _ h => absurd h List.not_mem_nil⟩⟩) fun p e s m below meth c ls C hr hnm hl hS => w_X2_syllableAt C hr ⟨Nat.le_refl _, Nat.le_refl _⟩ N a0 a1 h _ _ _ _ _ _ _ hf hS hl
/-- SungSlidesModel.wanted(I)I -/
theorem w_X2_wanted (C : xh_C cX2_wanted 3 "SungSlidesModel" D g p s m args meth c) (hr : meth.sig.returnType = (Option.some Jvm.ClassFile.FieldType.int)) (hR : 3 ≤ R.frames ∧ 66 ≤ R.locals) {rv : Int32} {hF : xh_H} (N : Nat) (a0 : Option Nat) (a1 : Int32)  (h : xh_H) (H : Heap) (locs : List Loc) (cells slots kc ks : Nat) (ls : Array Slot) (hf : f_X2_wanted N a0 a1 h = some (rv, hF, kc, ks)) (hS : xh_T D g s R h H locs cells slots kc ks) (hl : xh_L ls 3 [(0, va_rf a0), (1, .int a1)]) : W p l e R s m args below meth c H locs cells slots (MQ below (xh_Q D g (some (.int rv)) hF) args s R.cells R.slots (xh_A g)) (F0 m 0 ls []) := by
  have hx := C.1
  have hb := C.2.1
  unfold f_X2_wanted at hf
  refine lv_iload_n hx hb dX2_wanted_0 rfl (hl.at 1 rfl) ?_
  refine xr_S (V := fun v => some (.int v)) (n := 1) (fr := 1) (lo := 22) (As := [.int a1]) C hS (lw_S q922 q923 q60 q924) hd_X2_isTick ⟨Nat.le_trans (Nat.le_of_ble_eq_true rfl) hR.1, Nat.le_trans (Nat.le_of_ble_eq_true rfl) hR.2⟩ rfl hl.1.1 rfl xm_r0 hf (fun v h1 k1 n1 e1 => ct_X2_isTick l D N e1) dX2_wanted_1 (fun x1 h H locs cells slots kc ks hS hf => ?_)
  refine W.eq (g2 := F0 m 4 ls [.int x1]) rfl ?_
  refine lv_if_ne (tgt := 10) hx hb dX2_wanted_4 (by decide) (fun c4 => ?_) (fun c4 => ?_)
  · replace hf := xb_neg c4 hf
    refine xr_aload_n C dX2_wanted_10 rfl (hl.at 0 rfl) ?_
    refine lv_iload_n hx hb dX2_wanted_11 rfl (hl.at 1 rfl) ?_
    refine xr_V (V := fun v => some (.int v)) (n := 1) (fr := 2) (lo := 43) (As := [.int a1]) C hS xf_X2 (lw_V q1044 q1046 qs46 q60 q1047) hdv_X2_syllableAt ⟨Nat.le_trans (Nat.le_of_ble_eq_true rfl) hR.1, Nat.le_trans (Nat.le_of_ble_eq_true rfl) hR.2⟩ rfl hl.1.1 rfl xm_r0 hf (fun v h1 k1 n1 e1 => ct_X2_syllableAt l D N e1) dX2_wanted_12 (fun x12 h H locs cells slots kc ks hS hf => ?_)
    refine W.eq (g2 := F0 m 15 ls [.int x12]) rfl ?_
    refine xr_istore_n C dX2_wanted_15 rfl hl (Nat.le_of_ble_eq_true rfl) (lv' := [(2, .int x12), (0, va_rf a0), (1, .int a1)]) rfl (fun ls hl => ?_)
    refine lv_iload_n hx hb dX2_wanted_16 rfl (hl.at 0 rfl) ?_
    refine lv_bipush (v := -5) hx hb dX2_wanted_17 xi_bm5 ?_
    refine lv_icmp_ne (tgt := 27) hx hb dX2_wanted_19 (by decide) (fun c19 => ?_) (fun c19 => ?_)
    · replace hf := xb_neg c19 hf
      refine xr_aload_n C dX2_wanted_27 rfl (hl.at 1 rfl) ?_
      refine lv_iload_n hx hb dX2_wanted_28 rfl (hl.at 0 rfl) ?_
      refine lv_iload_n hx hb dX2_wanted_29 rfl (hl.at 2 rfl) ?_
      refine xr_aload_n C dX2_wanted_30 rfl (hl.at 1 rfl) ?_
      refine lv_iload_n hx hb dX2_wanted_31 rfl (hl.at 0 rfl) ?_
      refine lv_iconst (v := 0) hx hb dX2_wanted_32 xi_c0 ?_
      refine xr_V (V := fun v => some (.int v)) (n := 2) (fr := 0) (lo := 0) (As := [.int x12, .int (0 : Int32)]) C hS xf_X2 (lw_V q888 q890 qs23 q60 q891) hdv_X2_of ⟨Nat.le_trans (Nat.le_of_ble_eq_true rfl) hR.1, Nat.le_trans (Nat.le_of_ble_eq_true rfl) hR.2⟩ rfl hl.1.1 rfl (xm_rc rfl (xm_rc rfl (xm_rc (va_rf_cat _) xm_r0))) hf (fun v h1 k1 n1 e1 => ct_X2_of l D N e1) dX2_wanted_33 (fun x33 h H locs cells slots kc ks hS hf => ?_)
      refine W.eq (g2 := F0 m 36 ls [.int x33, .int a1, .int x12, va_rf a0]) rfl ?_
      refine lv_isub hx hb dX2_wanted_36 ?_
      refine xr_V (V := fun v => some (.int v)) (n := 2) (fr := 1) (lo := 22) (As := [.int x12, .int (a1 - x33)]) C hS xf_X2 (lw_V q941 q943 qs31 q60 q944) hdv_X2_wantedIn ⟨Nat.le_trans (Nat.le_of_ble_eq_true rfl) hR.1, Nat.le_trans (Nat.le_of_ble_eq_true rfl) hR.2⟩ rfl hl.1.1 rfl xm_r0 hf (fun v h1 k1 n1 e1 => ct_X2_wantedIn l D N e1) dX2_wanted_37 (fun x37 h H locs cells slots kc ks hS hf => ?_)
      refine W.eq (g2 := F0 m 40 ls [.int x37]) rfl ?_
      exact xr_iret C hS hr hf dX2_wanted_40
    · replace hf := xb_pos c19 hf
      refine lv_bipush (v := -5) hx hb dX2_wanted_22 xi_bm5 ?_
      refine lv_goto (tgt := 40) hx hb dX2_wanted_24 (by decide) ?_
      exact xr_iret C hS hr hf dX2_wanted_40
  · replace hf := xb_pos c4 hf
    refine lv_bipush (v := -2) hx hb dX2_wanted_7 xi_bm2 ?_
    exact xr_iret C hS hr hf dX2_wanted_9
theorem ct_X2_wanted (l : Launch) (D : xh_D) {rv : Int32} {h hF : xh_H} {kc ks : Nat} (N : Nat) {a0 : Option Nat} {a1 : Int32} (hf : f_X2_wanted N a0 a1 h = some (rv, hF, kc, ks)) : xh_Ct l D yX2_wanted (ws_ yX2_wanted cX2_wanted 3 (Option.some Jvm.ClassFile.FieldType.int)) 3 66 [va_rf a0, .int a1] h (some (.int rv)) hF kc ks :=
  xh_meth (cc := cX2_wanted) l (by decide) (Nat.le_of_ble_eq_true rfl) (List.forall_mem_cons.mpr ⟨va_rf_cat _, List.forall_mem_cons.mpr ⟨rfl, fun _ h => absurd h List.not_mem_nil⟩⟩) fun p e s m below meth c ls C hr hnm hl hS => w_X2_wanted C hr ⟨Nat.le_refl _, Nat.le_refl _⟩ N a0 a1 h _ _ _ _ _ _ _ hf hS hl
/-- SungSlidesModel.sung(I)I -/
theorem w_X2_sung (C : xh_C cX2_sung 2 "SungSlidesModel" D g p s m args meth c) (hr : meth.sig.returnType = (Option.some Jvm.ClassFile.FieldType.int)) (hR : 2 ≤ R.frames ∧ 42 ≤ R.locals) {rv : Int32} {hF : xh_H} (N : Nat) (a0 : Option Nat) (a1 : Int32)  (h : xh_H) (H : Heap) (locs : List Loc) (cells slots kc ks : Nat) (ls : Array Slot) (hf : f_X2_sung N a0 a1 h = some (rv, hF, kc, ks)) (hS : xh_T D g s R h H locs cells slots kc ks) (hl : xh_L ls 2 [(0, va_rf a0), (1, .int a1)]) : W p l e R s m args below meth c H locs cells slots (MQ below (xh_Q D g (some (.int rv)) hF) args s R.cells R.slots (xh_A g)) (F0 m 0 ls []) := by
  have hx := C.1
  have hb := C.2.1
  unfold f_X2_sung at hf
  refine lv_iload_n hx hb dX2_sung_0 rfl (hl.at 1 rfl) ?_
  refine xr_S (V := fun v => some (.int v)) (n := 1) (fr := 1) (lo := 22) (As := [.int a1]) C hS (lw_S q922 q923 q60 q924) hd_X2_isTick ⟨Nat.le_trans (Nat.le_of_ble_eq_true rfl) hR.1, Nat.le_trans (Nat.le_of_ble_eq_true rfl) hR.2⟩ rfl hl.1.1 rfl xm_r0 hf (fun v h1 k1 n1 e1 => ct_X2_isTick l D N e1) dX2_sung_1 (fun x1 h H locs cells slots kc ks hS hf => ?_)
  refine W.eq (g2 := F0 m 4 ls [.int x1]) rfl ?_
  refine lv_if_ne (tgt := 10) hx hb dX2_sung_4 (by decide) (fun c4 => ?_) (fun c4 => ?_)
  · replace hf := xb_neg c4 hf
    refine xr_aload_n C dX2_sung_10 rfl (hl.at 0 rfl) ?_
    refine xr_getR C hS xf_X2 0 (by decide) q817 (fun _ h => h) hf dX2_sung_11 (fun x11 hf => ?_)
    refine lv_sipush (v := 206) hx hb dX2_sung_14 xi_s206 ?_
    refine lv_iload_n hx hb dX2_sung_17 rfl (hl.at 1 rfl) ?_
    refine lv_iadd hx hb dX2_sung_18 ?_
    refine xr_iald C hS hf dX2_sung_19 (fun x19 hf => ?_)
    refine lv_if_ne (tgt := 28) hx hb dX2_sung_20 (by decide) (fun c20 => ?_) (fun c20 => ?_)
    · replace hf := xb_neg c20 hf
      refine xr_aload_n C dX2_sung_28 rfl (hl.at 0 rfl) ?_
      refine xr_getR C hS xf_X2 0 (by decide) q817 (fun _ h => h) hf dX2_sung_29 (fun x29 hf => ?_)
      refine lv_sipush (v := 206) hx hb dX2_sung_32 xi_s206 ?_
      refine lv_iload_n hx hb dX2_sung_35 rfl (hl.at 1 rfl) ?_
      refine lv_iadd hx hb dX2_sung_36 ?_
      refine xr_iald C hS hf dX2_sung_37 (fun x37 hf => ?_)
      refine lv_iconst (v := 1) hx hb dX2_sung_38 xi_c1 ?_
      refine lv_isub hx hb dX2_sung_39 ?_
      exact xr_iret C hS hr hf dX2_sung_40
    · replace hf := xb_pos c20 hf
      refine lv_bipush (v := -5) hx hb dX2_sung_23 xi_bm5 ?_
      refine lv_goto (tgt := 40) hx hb dX2_sung_25 (by decide) ?_
      exact xr_iret C hS hr hf dX2_sung_40
  · replace hf := xb_pos c4 hf
    refine lv_bipush (v := -2) hx hb dX2_sung_7 xi_bm2 ?_
    exact xr_iret C hS hr hf dX2_sung_9
theorem ct_X2_sung (l : Launch) (D : xh_D) {rv : Int32} {h hF : xh_H} {kc ks : Nat} (N : Nat) {a0 : Option Nat} {a1 : Int32} (hf : f_X2_sung N a0 a1 h = some (rv, hF, kc, ks)) : xh_Ct l D yX2_sung (ws_ yX2_sung cX2_sung 2 (Option.some Jvm.ClassFile.FieldType.int)) 2 42 [va_rf a0, .int a1] h (some (.int rv)) hF kc ks :=
  xh_meth (cc := cX2_sung) l (by decide) (Nat.le_of_ble_eq_true rfl) (List.forall_mem_cons.mpr ⟨va_rf_cat _, List.forall_mem_cons.mpr ⟨rfl, fun _ h => absurd h List.not_mem_nil⟩⟩) fun p e s m below meth c ls C hr hnm hl hS => w_X2_sung C hr ⟨Nat.le_refl _, Nat.le_refl _⟩ N a0 a1 h _ _ _ _ _ _ _ hf hS hl
end WALK
