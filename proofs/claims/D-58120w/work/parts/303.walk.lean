/-! WALKS, printed by gen/walk.py -/
set_option maxRecDepth 100000
section WALK
variable {p : Program} {l : Launch} {e : Env} {s : State} {m : MethodId} {args : Array Value} {below : List Frame} {meth : Method} {c : Code} {D : xh_D} {g : Nat → Nat} {R : Room}
/-- SungSlides$Plan.<init>(IIIIZ)V -/
theorem w_X3_init (C : xh_C cX3_init 6 "SungSlides$Plan" D g p s m args meth c) (hr : meth.sig.returnType = (Option.none : Option Jvm.ClassFile.FieldType)) (hnm : meth.name = "<init>") (hR : 1 ≤ R.frames ∧ 20 ≤ R.locals) {rv : Unit} {hF : xh_H} (N : Nat) (a0 : Option Nat) (a1 : Int32) (a2 : Int32) (a3 : Int32) (a4 : Int32) (a5 : Int32)  (h : xh_H) (H : Heap) (locs : List Loc) (cells slots kc ks : Nat) (ls : Array Slot) (hf : f_X3_init N a0 a1 a2 a3 a4 a5 h = some (rv, hF, kc, ks)) (hS : xh_T D g s R h H locs cells slots kc ks) (hl : xh_L ls 6 [(0, va_rf a0), (1, .int a1), (2, .int a2), (3, .int a3), (4, .int a4), (5, .int a5)]) : W p l e R s m args below meth c H locs cells slots (MQ below (xh_Q D g none hF) args s R.cells R.slots (xh_A g)) (F0 m 0 ls []) := by
  have hx := C.1
  have hb := C.2.1
  unfold f_X3_init at hf
  refine xr_aload_n C dX3_init_0 rfl (hl.at 0 rfl) ?_
  refine xr_oi C hS q168 q81 q82 hl.1.1 ⟨Nat.le_trans (Nat.le_of_ble_eq_true rfl) hR.1, Nat.le_trans (Nat.le_of_ble_eq_true rfl) hR.2⟩ xm_r0 hf dX3_init_1 (fun hf => ?_)
  refine xr_aload_n C dX3_init_4 rfl (hl.at 0 rfl) ?_
  refine lv_iload_n hx hb dX3_init_5 rfl (hl.at 1 rfl) ?_
  refine xr_putF C hS hnm xf_X3 0 (by decide) q169 rfl rfl rfl xv_int hf dX3_init_6 (fun h H locs hS hf => ?_)
  refine xr_aload_n C dX3_init_9 rfl (hl.at 0 rfl) ?_
  refine lv_iload_n hx hb dX3_init_10 rfl (hl.at 2 rfl) ?_
  refine xr_putF C hS hnm xf_X3 1 (by decide) q171 rfl rfl rfl xv_int hf dX3_init_11 (fun h H locs hS hf => ?_)
  refine xr_aload_n C dX3_init_14 rfl (hl.at 0 rfl) ?_
  refine lv_iload_n hx hb dX3_init_15 rfl (hl.at 3 rfl) ?_
  refine xr_putF C hS hnm xf_X3 2 (by decide) q173 rfl rfl rfl xv_int hf dX3_init_16 (fun h H locs hS hf => ?_)
  refine xr_aload_n C dX3_init_19 rfl (hl.at 0 rfl) ?_
  refine lv_iload hx hb dX3_init_20 (hl.at 4 rfl) ?_
  refine xr_putF C hS hnm xf_X3 3 (by decide) q175 rfl rfl rfl xv_int hf dX3_init_22 (fun h H locs hS hf => ?_)
  refine xr_aload_n C dX3_init_25 rfl (hl.at 0 rfl) ?_
  refine lv_iload hx hb dX3_init_26 (hl.at 5 rfl) ?_
  obtain ⟨hz, hf⟩ := xb_pZ hf
  refine xr_putF C hS hnm xf_X3 4 (by decide) q177 rfl rfl rfl (xv_bool hz) hf dX3_init_28 (fun h H locs hS hf => ?_)
  exact xr_vret C hS hr hf dX3_init_31
theorem ct_X3_init (l : Launch) (D : xh_D) {rv : Unit} {h hF : xh_H} {kc ks : Nat} (N : Nat) {a0 : Option Nat} {a1 : Int32} {a2 : Int32} {a3 : Int32} {a4 : Int32} {a5 : Int32} (hf : f_X3_init N a0 a1 a2 a3 a4 a5 h = some (rv, hF, kc, ks)) : xh_Ct l D yX3_init (ws_ yX3_init cX3_init 6 (Option.none : Option Jvm.ClassFile.FieldType)) 1 20 [va_rf a0, .int a1, .int a2, .int a3, .int a4, .int a5] h none hF kc ks :=
  xh_meth (cc := cX3_init) l (by decide) (Nat.le_of_ble_eq_true rfl) (List.forall_mem_cons.mpr ⟨va_rf_cat _, List.forall_mem_cons.mpr ⟨rfl, List.forall_mem_cons.mpr ⟨rfl, List.forall_mem_cons.mpr ⟨rfl, List.forall_mem_cons.mpr ⟨rfl, List.forall_mem_cons.mpr ⟨rfl, fun _ h => absurd h List.not_mem_nil⟩⟩⟩⟩⟩⟩) fun p e s m below meth c ls C hr hnm hl hS => w_X3_init C hr hnm ⟨Nat.le_refl _, Nat.le_refl _⟩ N a0 a1 a2 a3 a4 a5 h _ _ _ _ _ _ _ hf hS hl
theorem w_X0_isBetween_b14 (C : xh_C cX0_isBetween 3 "SungSlides" D g p s m args meth c) (hr : meth.sig.returnType = (Option.some Jvm.ClassFile.FieldType.boolean)) (hR : 0 ≤ R.frames ∧ 0 ≤ R.locals) {rv : Int32} {hF : xh_H} (N : Nat) : ∀ (h : xh_H) (H : Heap) (locs : List Loc) (cells slots kc ks : Nat) (ls : Array Slot), f_X0_isBetween_b14 N  h = some (rv, hF, kc, ks) → xh_T D g s R h H locs cells slots kc ks → xh_L ls 3 [] → W p l e R s m args below meth c H locs cells slots (MQ below (xh_Q D g (some (.int rv)) hF) args s R.cells R.slots (xh_A g)) (F0 m 14 ls []) := by
  intro  h H locs cells slots kc ks ls hf hS hl
  have hx := C.1
  have hb := C.2.1
  unfold f_X0_isBetween_b14 at hf
  refine lv_iconst (v := 0) hx hb dX0_isBetween_14 xi_c0 ?_
  exact xr_zret1 C hS hr (by decide) hf dX0_isBetween_15
/-- SungSlides.isBetween(III)Z -/
theorem w_X0_isBetween (C : xh_C cX0_isBetween 3 "SungSlides" D g p s m args meth c) (hr : meth.sig.returnType = (Option.some Jvm.ClassFile.FieldType.boolean)) (hR : 0 ≤ R.frames ∧ 0 ≤ R.locals) {rv : Int32} {hF : xh_H} (N : Nat) (a0 : Int32) (a1 : Int32) (a2 : Int32)  (h : xh_H) (H : Heap) (locs : List Loc) (cells slots kc ks : Nat) (ls : Array Slot) (hf : f_X0_isBetween N a0 a1 a2 h = some (rv, hF, kc, ks)) (hS : xh_T D g s R h H locs cells slots kc ks) (hl : xh_L ls 3 [(0, .int a0), (1, .int a1), (2, .int a2)]) : W p l e R s m args below meth c H locs cells slots (MQ below (xh_Q D g (some (.int rv)) hF) args s R.cells R.slots (xh_A g)) (F0 m 0 ls []) := by
  have hx := C.1
  have hb := C.2.1
  unfold f_X0_isBetween at hf
  refine lv_iload_n hx hb dX0_isBetween_0 rfl (hl.at 1 rfl) ?_
  refine lv_iload_n hx hb dX0_isBetween_1 rfl (hl.at 0 rfl) ?_
  refine lv_icmp_gt (tgt := 14) hx hb dX0_isBetween_2 (by decide) (fun c2 => ?_) (fun c2 => ?_)
  · replace hf := xb_pos c2 hf
    exact w_X0_isBetween_b14 C hr hR N  h H locs cells slots kc ks ls hf hS (hl.sub [] rfl)
  · replace hf := xb_neg c2 hf
    refine lv_iload_n hx hb dX0_isBetween_5 rfl (hl.at 0 rfl) ?_
    refine lv_iload_n hx hb dX0_isBetween_6 rfl (hl.at 2 rfl) ?_
    refine lv_icmp_gt (tgt := 14) hx hb dX0_isBetween_7 (by decide) (fun c7 => ?_) (fun c7 => ?_)
    · replace hf := xb_pos c7 hf
      exact w_X0_isBetween_b14 C hr hR N  h H locs cells slots kc ks ls hf hS (hl.sub [] rfl)
    · replace hf := xb_neg c7 hf
      refine lv_iconst (v := 1) hx hb dX0_isBetween_10 xi_c1 ?_
      refine lv_goto (tgt := 15) hx hb dX0_isBetween_11 (by decide) ?_
      exact xr_zret1 C hS hr (by decide) hf dX0_isBetween_15
theorem ct_X0_isBetween (l : Launch) (D : xh_D) {rv : Int32} {h hF : xh_H} {kc ks : Nat} (N : Nat) {a0 : Int32} {a1 : Int32} {a2 : Int32} (hf : f_X0_isBetween N a0 a1 a2 h = some (rv, hF, kc, ks)) : xh_Ct l D yX0_isBetween (ws_ yX0_isBetween cX0_isBetween 3 (Option.some Jvm.ClassFile.FieldType.boolean)) 0 0 [.int a0, .int a1, .int a2] h (some (.int rv)) hF kc ks :=
  xh_meth (cc := cX0_isBetween) l (by decide) (Nat.le_of_ble_eq_true rfl) (List.forall_mem_cons.mpr ⟨rfl, List.forall_mem_cons.mpr ⟨rfl, List.forall_mem_cons.mpr ⟨rfl, fun _ h => absurd h List.not_mem_nil⟩⟩⟩) fun p e s m below meth c ls C hr hnm hl hS => w_X0_isBetween C hr ⟨Nat.le_refl _, Nat.le_refl _⟩ N a0 a1 a2 h _ _ _ _ _ _ _ hf hS hl
/-- SungSlides.isPitch(I)Z -/
theorem w_X0_isPitch (C : xh_C cX0_isPitch 1 "SungSlides" D g p s m args meth c) (hr : meth.sig.returnType = (Option.some Jvm.ClassFile.FieldType.boolean)) (hR : 1 ≤ R.frames ∧ 22 ≤ R.locals) {rv : Int32} {hF : xh_H} (N : Nat) (a0 : Int32)  (h : xh_H) (H : Heap) (locs : List Loc) (cells slots kc ks : Nat) (ls : Array Slot) (hf : f_X0_isPitch N a0 h = some (rv, hF, kc, ks)) (hS : xh_T D g s R h H locs cells slots kc ks) (hl : xh_L ls 1 [(0, .int a0)]) : W p l e R s m args below meth c H locs cells slots (MQ below (xh_Q D g (some (.int rv)) hF) args s R.cells R.slots (xh_A g)) (F0 m 0 ls []) := by
  have hx := C.1
  have hb := C.2.1
  unfold f_X0_isPitch at hf
  refine lv_iload_n hx hb dX0_isPitch_0 rfl (hl.at 0 rfl) ?_
  refine lv_iconst (v := 0) hx hb dX0_isPitch_1 xi_c0 ?_
  refine lv_bipush (v := 60) hx hb dX0_isPitch_2 xi_b60 ?_
  refine xr_S (V := fun v => some (.int v)) (n := 3) (fr := 0) (lo := 0) (As := [.int a0, .int (0 : Int32), .int (60 : Int32)]) C hS (lw_S q200 q195 q55 q196) hd_X0_isBetween ⟨Nat.le_trans (Nat.le_of_ble_eq_true rfl) hR.1, Nat.le_trans (Nat.le_of_ble_eq_true rfl) hR.2⟩ rfl hl.1.1 rfl xm_r0 hf (fun v h1 k1 n1 e1 => ct_X0_isBetween l D N e1) dX0_isPitch_4 (fun x4 h H locs cells slots kc ks hS hf => ?_)
  refine W.eq (g2 := F0 m 7 ls [.int x4]) rfl ?_
  exact xr_zret C hS hr hf dX0_isPitch_7
theorem ct_X0_isPitch (l : Launch) (D : xh_D) {rv : Int32} {h hF : xh_H} {kc ks : Nat} (N : Nat) {a0 : Int32} (hf : f_X0_isPitch N a0 h = some (rv, hF, kc, ks)) : xh_Ct l D yX0_isPitch (ws_ yX0_isPitch cX0_isPitch 1 (Option.some Jvm.ClassFile.FieldType.boolean)) 1 22 [.int a0] h (some (.int rv)) hF kc ks :=
  xh_meth (cc := cX0_isPitch) l (by decide) (Nat.le_of_ble_eq_true rfl) (List.forall_mem_cons.mpr ⟨rfl, fun _ h => absurd h List.not_mem_nil⟩) fun p e s m below meth c ls C hr hnm hl hS => w_X0_isPitch C hr ⟨Nat.le_refl _, Nat.le_refl _⟩ N a0 h _ _ _ _ _ _ _ hf hS hl
theorem w_X3_isRight_b50 (C : xh_C cX3_isRight 1 "SungSlides$Plan" D g p s m args meth c) (hr : meth.sig.returnType = (Option.some Jvm.ClassFile.FieldType.boolean)) (hR : 2 ≤ R.frames ∧ 42 ≤ R.locals) {rv : Int32} {hF : xh_H} (N : Nat) : ∀ (h : xh_H) (H : Heap) (locs : List Loc) (cells slots kc ks : Nat) (ls : Array Slot), f_X3_isRight_b50 N  h = some (rv, hF, kc, ks) → xh_T D g s R h H locs cells slots kc ks → xh_L ls 1 [] → W p l e R s m args below meth c H locs cells slots (MQ below (xh_Q D g (some (.int rv)) hF) args s R.cells R.slots (xh_A g)) (F0 m 50 ls []) := by
  intro  h H locs cells slots kc ks ls hf hS hl
  have hx := C.1
  have hb := C.2.1
  unfold f_X3_isRight_b50 at hf
  refine lv_iconst (v := 0) hx hb dX3_isRight_50 xi_c0 ?_
  exact xr_zret1 C hS hr (by decide) hf dX3_isRight_51
/-- SungSlides$Plan.isRight()Z -/
theorem w_X3_isRight (C : xh_C cX3_isRight 1 "SungSlides$Plan" D g p s m args meth c) (hr : meth.sig.returnType = (Option.some Jvm.ClassFile.FieldType.boolean)) (hR : 2 ≤ R.frames ∧ 42 ≤ R.locals) {rv : Int32} {hF : xh_H} (N : Nat) (a0 : Option Nat)  (h : xh_H) (H : Heap) (locs : List Loc) (cells slots kc ks : Nat) (ls : Array Slot) (hf : f_X3_isRight N a0 h = some (rv, hF, kc, ks)) (hS : xh_T D g s R h H locs cells slots kc ks) (hl : xh_L ls 1 [(0, va_rf a0)]) : W p l e R s m args below meth c H locs cells slots (MQ below (xh_Q D g (some (.int rv)) hF) args s R.cells R.slots (xh_A g)) (F0 m 0 ls []) := by
  have hx := C.1
  have hb := C.2.1
  unfold f_X3_isRight at hf
  refine xr_aload_n C dX3_isRight_0 rfl (hl.at 0 rfl) ?_
  refine xr_getI C hS xf_X3 0 (by decide) q169 (fun _ h => h) hf dX3_isRight_1 (fun x1 hf => ?_)
  refine lv_iconst (v := 0) hx hb dX3_isRight_4 xi_c0 ?_
  refine lv_bipush (v := 32) hx hb dX3_isRight_5 xi_b32 ?_
  refine xr_SN (V := fun v => some (.int v)) (n := 3) (fr := 0) (lo := 0) (As := [.int x1, .int (0 : Int32), .int (32 : Int32)]) C hS xn_q194 q195 q55 q196 hd_X0_isBetween ⟨Nat.le_trans (Nat.le_of_ble_eq_true rfl) hR.1, Nat.le_trans (Nat.le_of_ble_eq_true rfl) hR.2⟩ rfl hl.1.1 rfl xm_r0 hf (fun v h1 k1 n1 e1 => ct_X0_isBetween l D N e1) dX3_isRight_7 (fun x7 h H locs cells slots kc ks hS hf => ?_)
  refine W.eq (g2 := F0 m 10 ls [.int x7]) rfl ?_
  refine lv_if_eq (tgt := 50) hx hb dX3_isRight_10 (by decide) (fun c10 => ?_) (fun c10 => ?_)
  · replace hf := xb_pos c10 hf
    exact w_X3_isRight_b50 C hr hR N  h H locs cells slots kc ks ls hf hS (hl.sub [] rfl)
  · replace hf := xb_neg c10 hf
    refine xr_aload_n C dX3_isRight_13 rfl (hl.at 0 rfl) ?_
    refine xr_getI C hS xf_X3 1 (by decide) q171 (fun _ h => h) hf dX3_isRight_14 (fun x14 hf => ?_)
    refine xr_SN (V := fun v => some (.int v)) (n := 1) (fr := 1) (lo := 22) (As := [.int x14]) C hS xn_q197 q198 q55 q199 hd_X0_isPitch ⟨Nat.le_trans (Nat.le_of_ble_eq_true rfl) hR.1, Nat.le_trans (Nat.le_of_ble_eq_true rfl) hR.2⟩ rfl hl.1.1 rfl xm_r0 hf (fun v h1 k1 n1 e1 => ct_X0_isPitch l D N e1) dX3_isRight_17 (fun x17 h H locs cells slots kc ks hS hf => ?_)
    refine W.eq (g2 := F0 m 20 ls [.int x17]) rfl ?_
    refine lv_if_eq (tgt := 50) hx hb dX3_isRight_20 (by decide) (fun c20 => ?_) (fun c20 => ?_)
    · replace hf := xb_pos c20 hf
      exact w_X3_isRight_b50 C hr hR N  h H locs cells slots kc ks ls hf hS (hl.sub [] rfl)
    · replace hf := xb_neg c20 hf
      refine xr_aload_n C dX3_isRight_23 rfl (hl.at 0 rfl) ?_
      refine xr_getI C hS xf_X3 2 (by decide) q173 (fun _ h => h) hf dX3_isRight_24 (fun x24 hf => ?_)
      refine xr_SN (V := fun v => some (.int v)) (n := 1) (fr := 1) (lo := 22) (As := [.int x24]) C hS xn_q197 q198 q55 q199 hd_X0_isPitch ⟨Nat.le_trans (Nat.le_of_ble_eq_true rfl) hR.1, Nat.le_trans (Nat.le_of_ble_eq_true rfl) hR.2⟩ rfl hl.1.1 rfl xm_r0 hf (fun v h1 k1 n1 e1 => ct_X0_isPitch l D N e1) dX3_isRight_27 (fun x27 h H locs cells slots kc ks hS hf => ?_)
      refine W.eq (g2 := F0 m 30 ls [.int x27]) rfl ?_
      refine lv_if_eq (tgt := 50) hx hb dX3_isRight_30 (by decide) (fun c30 => ?_) (fun c30 => ?_)
      · replace hf := xb_pos c30 hf
        exact w_X3_isRight_b50 C hr hR N  h H locs cells slots kc ks ls hf hS (hl.sub [] rfl)
      · replace hf := xb_neg c30 hf
        refine xr_aload_n C dX3_isRight_33 rfl (hl.at 0 rfl) ?_
        refine xr_getI C hS xf_X3 3 (by decide) q175 (fun _ h => h) hf dX3_isRight_34 (fun x34 hf => ?_)
        refine lv_iconst (v := 1) hx hb dX3_isRight_37 xi_c1 ?_
        refine lv_bipush (v := 32) hx hb dX3_isRight_38 xi_b32 ?_
        refine xr_SN (V := fun v => some (.int v)) (n := 3) (fr := 0) (lo := 0) (As := [.int x34, .int (1 : Int32), .int (32 : Int32)]) C hS xn_q194 q195 q55 q196 hd_X0_isBetween ⟨Nat.le_trans (Nat.le_of_ble_eq_true rfl) hR.1, Nat.le_trans (Nat.le_of_ble_eq_true rfl) hR.2⟩ rfl hl.1.1 rfl xm_r0 hf (fun v h1 k1 n1 e1 => ct_X0_isBetween l D N e1) dX3_isRight_40 (fun x40 h H locs cells slots kc ks hS hf => ?_)
        refine W.eq (g2 := F0 m 43 ls [.int x40]) rfl ?_
        refine lv_if_eq (tgt := 50) hx hb dX3_isRight_43 (by decide) (fun c43 => ?_) (fun c43 => ?_)
        · replace hf := xb_pos c43 hf
          exact w_X3_isRight_b50 C hr hR N  h H locs cells slots kc ks ls hf hS (hl.sub [] rfl)
        · replace hf := xb_neg c43 hf
          refine lv_iconst (v := 1) hx hb dX3_isRight_46 xi_c1 ?_
          refine lv_goto (tgt := 51) hx hb dX3_isRight_47 (by decide) ?_
          exact xr_zret1 C hS hr (by decide) hf dX3_isRight_51
theorem ct_X3_isRight (l : Launch) (D : xh_D) {rv : Int32} {h hF : xh_H} {kc ks : Nat} (N : Nat) {a0 : Option Nat} (hf : f_X3_isRight N a0 h = some (rv, hF, kc, ks)) : xh_Ct l D yX3_isRight (ws_ yX3_isRight cX3_isRight 1 (Option.some Jvm.ClassFile.FieldType.boolean)) 2 42 [va_rf a0] h (some (.int rv)) hF kc ks :=
  xh_meth (cc := cX3_isRight) l (by decide) (Nat.le_of_ble_eq_true rfl) (List.forall_mem_cons.mpr ⟨va_rf_cat _, fun _ h => absurd h List.not_mem_nil⟩) fun p e s m below meth c ls C hr hnm hl hS => w_X3_isRight C hr ⟨Nat.le_refl _, Nat.le_refl _⟩ N a0 h _ _ _ _ _ _ _ hf hS hl
/-- SungSlides.add(IIIIZ)I -/
theorem w_X0_add (C : xh_C cX0_add 9 "SungSlides" D g p s m args meth c) (hr : meth.sig.returnType = (Option.some Jvm.ClassFile.FieldType.int)) (hR : 8 ≤ R.frames ∧ 214 ≤ R.locals) {rv : Int32} {hF : xh_H} (N : Nat) (a0 : Option Nat) (a1 : Int32) (a2 : Int32) (a3 : Int32) (a4 : Int32) (a5 : Int32)  (h : xh_H) (H : Heap) (locs : List Loc) (cells slots kc ks : Nat) (ls : Array Slot) (hf : f_X0_add N a0 a1 a2 a3 a4 a5 h = some (rv, hF, kc, ks)) (hS : xh_T D g s R h H locs cells slots kc ks) (hl : xh_L ls 9 [(0, va_rf a0), (1, .int a1), (2, .int a2), (3, .int a3), (4, .int a4), (5, .int a5)]) : W p l e R s m args below meth c H locs cells slots (MQ below (xh_Q D g (some (.int rv)) hF) args s R.cells R.slots (xh_A g)) (F0 m 0 ls []) := by
  have hx := C.1
  have hb := C.2.1
  unfold f_X0_add at hf
  refine xr_new C hS xf_X3 q163 q164 q61 (fs := [.int 0, .int 0, .int 0, .int 0, .int 0]) rfl xd_X3 hf dX0_add_0 (fun x0 h H cells slots kc ks hS hf => ?_)
  refine lv_dup hx hb dX0_add_3 (va_rf_cat _) ?_
  refine lv_iload_n hx hb dX0_add_4 rfl (hl.at 1 rfl) ?_
  refine lv_iload_n hx hb dX0_add_5 rfl (hl.at 2 rfl) ?_
  refine lv_iload_n hx hb dX0_add_6 rfl (hl.at 3 rfl) ?_
  refine lv_iload hx hb dX0_add_7 (hl.at 4 rfl) ?_
  refine lv_iload hx hb dX0_add_9 (hl.at 5 rfl) ?_
  refine xr_I (n := 5) (fr := 1) (lo := 20) (As := [.int a1, .int a2, .int a3, .int a4, .int a5]) C hS q165 q166 q61 q167 rfl hd_X3_init ⟨Nat.le_trans (Nat.le_of_ble_eq_true rfl) hR.1, Nat.le_trans (Nat.le_of_ble_eq_true rfl) hR.2⟩ rfl hl.1.1 rfl (xm_rc (va_rf_cat _) xm_r0) (ci := 3) hf (fun v h1 k1 n1 e1 => ct_X3_init l D N e1) dX0_add_11 (fun _ h H locs cells slots kc ks hS hf => ?_)
  refine W.eq (g2 := F0 m 14 ls [va_rf x0]) rfl ?_
  refine xr_astore C dX0_add_14 hl (Nat.le_of_ble_eq_true rfl) (lv' := [(6, va_rf x0), (0, va_rf a0), (1, .int a1), (2, .int a2), (3, .int a3), (4, .int a4), (5, .int a5)]) rfl (fun ls hl => ?_)
  refine xr_aload C dX0_add_16 (hl.at 0 rfl) ?_
  refine xr_V (V := fun v => some (.int v)) (n := 0) (fr := 2) (lo := 42) (As := []) C hS xf_X3 (lw_V q190 q191 q192 q61 q193) hdv_X3_isRight ⟨Nat.le_trans (Nat.le_of_ble_eq_true rfl) hR.1, Nat.le_trans (Nat.le_of_ble_eq_true rfl) hR.2⟩ rfl hl.1.1 rfl xm_r0 hf (fun v h1 k1 n1 e1 => ct_X3_isRight l D N e1) dX0_add_18 (fun x18 h H locs cells slots kc ks hS hf => ?_)
  refine W.eq (g2 := F0 m 21 ls [.int x18]) rfl ?_
  refine lv_if_ne (tgt := 27) hx hb dX0_add_21 (by decide) (fun c21 => ?_) (fun c21 => ?_)
  · replace hf := xb_neg c21 hf
    refine xr_aload_n C dX0_add_27 rfl (hl.at 1 rfl) ?_
    refine xr_getR C hS xf_X0 0 (by decide) q139 (fun _ h => h) hf dX0_add_28 (fun x28 hf => ?_)
    refine xr_V (V := fun v => some (va_rf v)) (n := 0) (fr := 7) (lo := 191) (As := []) C hS xf_X1 (lw_V q201 q202 q203 q56 q204) hdv_X1_copy ⟨Nat.le_trans (Nat.le_of_ble_eq_true rfl) hR.1, Nat.le_trans (Nat.le_of_ble_eq_true rfl) hR.2⟩ rfl hl.1.1 rfl xm_r0 hf (fun v h1 k1 n1 e1 => ct_X1_copy l D N e1) dX0_add_31 (fun x31 h H locs cells slots kc ks hS hf => ?_)
    refine W.eq (g2 := F0 m 34 ls [va_rf x31]) rfl ?_
    refine xr_astore C dX0_add_34 hl (Nat.le_of_ble_eq_true rfl) (lv' := [(7, va_rf x31), (6, va_rf x0), (0, va_rf a0), (1, .int a1), (2, .int a2), (3, .int a3), (4, .int a4), (5, .int a5)]) rfl (fun ls hl => ?_)
    refine xr_aload_n C dX0_add_36 rfl (hl.at 2 rfl) ?_
    refine xr_getR C hS xf_X0 0 (by decide) q139 (fun _ h => h) hf dX0_add_37 (fun x37 hf => ?_)
    refine xr_aload C dX0_add_40 (hl.at 1 rfl) ?_
    refine xr_V (V := fun _ => none) (n := 1) (fr := 7) (lo := 191) (As := [va_rf x0]) C hS xf_X1 (lw_V q328 q329 q330 q56 q331) hdv_X1_add ⟨Nat.le_trans (Nat.le_of_ble_eq_true rfl) hR.1, Nat.le_trans (Nat.le_of_ble_eq_true rfl) hR.2⟩ rfl hl.1.1 rfl xm_r0 hf (fun v h1 k1 n1 e1 => ct_X1_add l D N e1) dX0_add_42 (fun _ h H locs cells slots kc ks hS hf => ?_)
    refine W.eq (g2 := F0 m 45 ls []) rfl ?_
    refine xr_aload_n C dX0_add_45 rfl (hl.at 2 rfl) ?_
    refine xr_aload C dX0_add_46 (hl.at 0 rfl) ?_
    refine xr_aload_n C dX0_add_48 rfl (hl.at 2 rfl) ?_
    refine xr_getR C hS xf_X0 0 (by decide) q139 (fun _ h => h) hf dX0_add_49 (fun x49 hf => ?_)
    refine xr_getNR C hS xf_X1 0 (by decide) xn_q124 rfl hf dX0_add_52 (fun x52 hf => ?_)
    refine xr_aload_n C dX0_add_55 rfl (hl.at 2 rfl) ?_
    refine xr_getR C hS xf_X0 0 (by decide) q139 (fun _ h => h) hf dX0_add_56 (fun x56 hf => ?_)
    refine xr_V (V := fun v => some (.int v)) (n := 0) (fr := 1) (lo := 20) (As := []) C hS xf_X1 (lw_V q472 q346 q347 q56 q348) hdv_X1_many ⟨Nat.le_trans (Nat.le_of_ble_eq_true rfl) hR.1, Nat.le_trans (Nat.le_of_ble_eq_true rfl) hR.2⟩ rfl hl.1.1 rfl (xm_rc (va_rf_cat _) (xm_rc (va_rf_cat _) (xm_rc (va_rf_cat _) xm_r0))) hf (fun v h1 k1 n1 e1 => ct_X1_many l D N e1) dX0_add_59 (fun x59 h H locs cells slots kc ks hS hf => ?_)
    refine W.eq (g2 := F0 m 62 ls [.int x59, va_rf x52, va_rf x31, va_rf a0]) rfl ?_
    refine lv_iconst (v := 1) hx hb dX0_add_62 xi_c1 ?_
    refine lv_isub hx hb dX0_add_63 ?_
    refine xr_F (V := fun v => some (va_rf v)) (n := 1) (fr := 2) (lo := 43) (As := [.int (x59 - (1 : Int32))]) C hS xf_J2 q474 q362 q364 q59 q366 xn_i6 hdi_J2_get ⟨Nat.le_trans (Nat.le_of_ble_eq_true rfl) hR.1, Nat.le_trans (Nat.le_of_ble_eq_true rfl) hR.2⟩ rfl hl.1.1 rfl (xm_rc (va_rf_cat _) (xm_rc (va_rf_cat _) xm_r0)) hf (fun v h1 k1 n1 e1 => ct_J2_get l D N e1) dX0_add_64 (fun x64 h H locs cells slots kc ks hS hf => ?_)
    refine W.eq (g2 := F0 m 69 ls [va_rf x64, va_rf x31, va_rf a0]) rfl ?_
    refine xr_ccS C hS xf_X5 q475 hf dX0_add_69 (fun hf => ?_)
    refine xr_getNI C hS xf_X5 0 (by decide) xn_q448 rfl hf dX0_add_72 (fun x72 hf => ?_)
    refine xr_V (V := fun v => some (.int v)) (n := 2) (fr := 7) (lo := 191) (As := [va_rf x31, .int x72]) C hS xf_X0 (lw_V q476 q478 qs4 q55 q479) hdv_X0_changed ⟨Nat.le_trans (Nat.le_of_ble_eq_true rfl) hR.1, Nat.le_trans (Nat.le_of_ble_eq_true rfl) hR.2⟩ rfl hl.1.1 rfl xm_r0 hf (fun v h1 k1 n1 e1 => ct_X0_changed l D N e1) dX0_add_75 (fun x75 h H locs cells slots kc ks hS hf => ?_)
    refine W.eq (g2 := F0 m 78 ls [.int x75]) rfl ?_
    exact xr_iret C hS hr hf dX0_add_78
  · replace hf := xb_pos c21 hf
    refine lv_bipush (v := -2) hx hb dX0_add_24 xi_bm2 ?_
    exact xr_iret C hS hr hf dX0_add_26
theorem ct_X0_add (l : Launch) (D : xh_D) {rv : Int32} {h hF : xh_H} {kc ks : Nat} (N : Nat) {a0 : Option Nat} {a1 : Int32} {a2 : Int32} {a3 : Int32} {a4 : Int32} {a5 : Int32} (hf : f_X0_add N a0 a1 a2 a3 a4 a5 h = some (rv, hF, kc, ks)) : xh_Ct l D yX0_add (ws_ yX0_add cX0_add 9 (Option.some Jvm.ClassFile.FieldType.int)) 8 214 [va_rf a0, .int a1, .int a2, .int a3, .int a4, .int a5] h (some (.int rv)) hF kc ks :=
  xh_meth (cc := cX0_add) l (by decide) (Nat.le_of_ble_eq_true rfl) (List.forall_mem_cons.mpr ⟨va_rf_cat _, List.forall_mem_cons.mpr ⟨rfl, List.forall_mem_cons.mpr ⟨rfl, List.forall_mem_cons.mpr ⟨rfl, List.forall_mem_cons.mpr ⟨rfl, List.forall_mem_cons.mpr ⟨rfl, fun _ h => absurd h List.not_mem_nil⟩⟩⟩⟩⟩⟩) fun p e s m below meth c ls C hr hnm hl hS => w_X0_add C hr ⟨Nat.le_refl _, Nat.le_refl _⟩ N a0 a1 a2 a3 a4 a5 h _ _ _ _ _ _ _ hf hS hl
/-- SungSlides.drop()I -/
theorem w_X0_drop (C : xh_C cX0_drop 2 "SungSlides" D g p s m args meth c) (hr : meth.sig.returnType = (Option.some Jvm.ClassFile.FieldType.int)) (hR : 8 ≤ R.frames ∧ 214 ≤ R.locals) {rv : Int32} {hF : xh_H} (N : Nat) (a0 : Option Nat)  (h : xh_H) (H : Heap) (locs : List Loc) (cells slots kc ks : Nat) (ls : Array Slot) (hf : f_X0_drop N a0 h = some (rv, hF, kc, ks)) (hS : xh_T D g s R h H locs cells slots kc ks) (hl : xh_L ls 2 [(0, va_rf a0)]) : W p l e R s m args below meth c H locs cells slots (MQ below (xh_Q D g (some (.int rv)) hF) args s R.cells R.slots (xh_A g)) (F0 m 0 ls []) := by
  have hx := C.1
  have hb := C.2.1
  unfold f_X0_drop at hf
  refine xr_aload_n C dX0_drop_0 rfl (hl.at 0 rfl) ?_
  refine xr_getR C hS xf_X0 0 (by decide) q139 (fun _ h => h) hf dX0_drop_1 (fun x1 hf => ?_)
  refine xr_getNR C hS xf_X1 0 (by decide) xn_q124 rfl hf dX0_drop_4 (fun x4 hf => ?_)
  refine xr_F (V := fun v => some (.int v)) (n := 0) (fr := 0) (lo := 0) (As := []) C hS xf_J2 q503 q340 q342 q59 q344 xn_i4 hdi_J2_isEmpty ⟨Nat.le_trans (Nat.le_of_ble_eq_true rfl) hR.1, Nat.le_trans (Nat.le_of_ble_eq_true rfl) hR.2⟩ rfl hl.1.1 rfl xm_r0 hf (fun v h1 k1 n1 e1 => ct_J2_isEmpty l D N e1) dX0_drop_7 (fun x7 h H locs cells slots kc ks hS hf => ?_)
  refine W.eq (g2 := F0 m 12 ls [.int x7]) rfl ?_
  refine lv_if_eq (tgt := 18) hx hb dX0_drop_12 (by decide) (fun c12 => ?_) (fun c12 => ?_)
  · replace hf := xb_pos c12 hf
    refine xr_aload_n C dX0_drop_18 rfl (hl.at 0 rfl) ?_
    refine xr_getR C hS xf_X0 0 (by decide) q139 (fun _ h => h) hf dX0_drop_19 (fun x19 hf => ?_)
    refine xr_V (V := fun v => some (va_rf v)) (n := 0) (fr := 7) (lo := 191) (As := []) C hS xf_X1 (lw_V q201 q202 q203 q56 q204) hdv_X1_copy ⟨Nat.le_trans (Nat.le_of_ble_eq_true rfl) hR.1, Nat.le_trans (Nat.le_of_ble_eq_true rfl) hR.2⟩ rfl hl.1.1 rfl xm_r0 hf (fun v h1 k1 n1 e1 => ct_X1_copy l D N e1) dX0_drop_22 (fun x22 h H locs cells slots kc ks hS hf => ?_)
    refine W.eq (g2 := F0 m 25 ls [va_rf x22]) rfl ?_
    refine xr_astore_n C dX0_drop_25 rfl hl (Nat.le_of_ble_eq_true rfl) (lv' := [(1, va_rf x22), (0, va_rf a0)]) rfl (fun ls hl => ?_)
    refine xr_aload_n C dX0_drop_26 rfl (hl.at 1 rfl) ?_
    refine xr_getR C hS xf_X0 0 (by decide) q139 (fun _ h => h) hf dX0_drop_27 (fun x27 hf => ?_)
    refine xr_getNR C hS xf_X1 0 (by decide) xn_q124 rfl hf dX0_drop_30 (fun x30 hf => ?_)
    refine xr_aload_n C dX0_drop_33 rfl (hl.at 1 rfl) ?_
    refine xr_getR C hS xf_X0 0 (by decide) q139 (fun _ h => h) hf dX0_drop_34 (fun x34 hf => ?_)
    refine xr_V (V := fun v => some (.int v)) (n := 0) (fr := 1) (lo := 20) (As := []) C hS xf_X1 (lw_V q472 q346 q347 q56 q348) hdv_X1_many ⟨Nat.le_trans (Nat.le_of_ble_eq_true rfl) hR.1, Nat.le_trans (Nat.le_of_ble_eq_true rfl) hR.2⟩ rfl hl.1.1 rfl (xm_rc (va_rf_cat _) xm_r0) hf (fun v h1 k1 n1 e1 => ct_X1_many l D N e1) dX0_drop_37 (fun x37 h H locs cells slots kc ks hS hf => ?_)
    refine W.eq (g2 := F0 m 40 ls [.int x37, va_rf x30]) rfl ?_
    refine lv_iconst (v := 1) hx hb dX0_drop_40 xi_c1 ?_
    refine lv_isub hx hb dX0_drop_41 ?_
    refine xr_F (V := fun v => some (va_rf v)) (n := 1) (fr := 2) (lo := 83) (As := [.int (x37 - (1 : Int32))]) C hS xf_J2 q483 q486 q488 q59 q490 xn_i7 hdi_J2_remove ⟨Nat.le_trans (Nat.le_of_ble_eq_true rfl) hR.1, Nat.le_trans (Nat.le_of_ble_eq_true rfl) hR.2⟩ rfl hl.1.1 rfl xm_r0 hf (fun v h1 k1 n1 e1 => ct_J2_remove l D N e1) dX0_drop_42 (fun x42 h H locs cells slots kc ks hS hf => ?_)
    refine W.eq (g2 := F0 m 47 ls [va_rf x42]) rfl ?_
    refine lv_pop hx hb dX0_drop_47 (va_rf_cat _) ?_
    refine xr_aload_n C dX0_drop_48 rfl (hl.at 1 rfl) ?_
    refine xr_aload_n C dX0_drop_49 rfl (hl.at 0 rfl) ?_
    refine xr_aload_n C dX0_drop_50 rfl (hl.at 1 rfl) ?_
    refine xr_getR C hS xf_X0 0 (by decide) q139 (fun _ h => h) hf dX0_drop_51 (fun x51 hf => ?_)
    refine xr_V (V := fun v => some (.int v)) (n := 0) (fr := 1) (lo := 20) (As := []) C hS xf_X1 (lw_V q472 q346 q347 q56 q348) hdv_X1_many ⟨Nat.le_trans (Nat.le_of_ble_eq_true rfl) hR.1, Nat.le_trans (Nat.le_of_ble_eq_true rfl) hR.2⟩ rfl hl.1.1 rfl (xm_rc (va_rf_cat _) (xm_rc (va_rf_cat _) xm_r0)) hf (fun v h1 k1 n1 e1 => ct_X1_many l D N e1) dX0_drop_54 (fun x54 h H locs cells slots kc ks hS hf => ?_)
    refine W.eq (g2 := F0 m 57 ls [.int x54, va_rf x22, va_rf a0]) rfl ?_
    refine xr_V (V := fun v => some (.int v)) (n := 2) (fr := 7) (lo := 191) (As := [va_rf x22, .int x54]) C hS xf_X0 (lw_V q476 q478 qs4 q55 q479) hdv_X0_changed ⟨Nat.le_trans (Nat.le_of_ble_eq_true rfl) hR.1, Nat.le_trans (Nat.le_of_ble_eq_true rfl) hR.2⟩ rfl hl.1.1 rfl xm_r0 hf (fun v h1 k1 n1 e1 => ct_X0_changed l D N e1) dX0_drop_57 (fun x57 h H locs cells slots kc ks hS hf => ?_)
    refine W.eq (g2 := F0 m 60 ls [.int x57]) rfl ?_
    exact xr_iret C hS hr hf dX0_drop_60
  · replace hf := xb_neg c12 hf
    refine lv_bipush (v := -5) hx hb dX0_drop_15 xi_bm5 ?_
    exact xr_iret C hS hr hf dX0_drop_17
theorem ct_X0_drop (l : Launch) (D : xh_D) {rv : Int32} {h hF : xh_H} {kc ks : Nat} (N : Nat) {a0 : Option Nat} (hf : f_X0_drop N a0 h = some (rv, hF, kc, ks)) : xh_Ct l D yX0_drop (ws_ yX0_drop cX0_drop 2 (Option.some Jvm.ClassFile.FieldType.int)) 8 214 [va_rf a0] h (some (.int rv)) hF kc ks :=
  xh_meth (cc := cX0_drop) l (by decide) (Nat.le_of_ble_eq_true rfl) (List.forall_mem_cons.mpr ⟨va_rf_cat _, fun _ h => absurd h List.not_mem_nil⟩) fun p e s m below meth c ls C hr hnm hl hS => w_X0_drop C hr ⟨Nat.le_refl _, Nat.le_refl _⟩ N a0 h _ _ _ _ _ _ _ hf hS hl
/-- SungSlides$Reader.<init>(LSungSlides;)V -/
theorem w_X6_init (C : xh_C cX6_init 2 "SungSlides$Reader" D g p s m args meth c) (hr : meth.sig.returnType = (Option.none : Option Jvm.ClassFile.FieldType)) (hnm : meth.name = "<init>") (hR : 4 ≤ R.frames ∧ 80 ≤ R.locals) {rv : Unit} {hF : xh_H} (N : Nat) (a0 : Option Nat) (a1 : Option Nat)  (h : xh_H) (H : Heap) (locs : List Loc) (cells slots kc ks : Nat) (ls : Array Slot) (hf : f_X6_init N a0 a1 h = some (rv, hF, kc, ks)) (hS : xh_T D g s R h H locs cells slots kc ks) (hl : xh_L ls 2 [(0, va_rf a0), (1, va_rf a1)]) : W p l e R s m args below meth c H locs cells slots (MQ below (xh_Q D g none hF) args s R.cells R.slots (xh_A g)) (F0 m 0 ls []) := by
  have hx := C.1
  have hb := C.2.1
  unfold f_X6_init at hf
  refine xr_aload_n C dX6_init_0 rfl (hl.at 0 rfl) ?_
  refine xr_aload_n C dX6_init_1 rfl (hl.at 1 rfl) ?_
  refine xr_putF C hS hnm xf_X6 2 (by decide) q519 rfl rfl rfl xv_obj hf dX6_init_2 (fun h H locs hS hf => ?_)
  refine xr_aload_n C dX6_init_5 rfl (hl.at 0 rfl) ?_
  refine xr_oi C hS q513 q81 q82 hl.1.1 ⟨Nat.le_trans (Nat.le_of_ble_eq_true rfl) hR.1, Nat.le_trans (Nat.le_of_ble_eq_true rfl) hR.2⟩ xm_r0 hf dX6_init_6 (fun hf => ?_)
  refine xr_aload_n C dX6_init_9 rfl (hl.at 0 rfl) ?_
  refine xr_new C hS xf_J2 q514 q93 q59 (fs := [.int 0, .null, .int 0]) rfl xd_J2 hf dX6_init_10 (fun x10 h H cells slots kc ks hS hf => ?_)
  refine lv_dup hx hb dX6_init_13 (va_rf_cat _) ?_
  refine xr_I (n := 0) (fr := 3) (lo := 60) (As := []) C hS q515 q95 q59 q96 rfl hd_J2_init ⟨Nat.le_trans (Nat.le_of_ble_eq_true rfl) hR.1, Nat.le_trans (Nat.le_of_ble_eq_true rfl) hR.2⟩ rfl hl.1.1 rfl (xm_rc (va_rf_cat _) (xm_rc (va_rf_cat _) xm_r0)) (ci := 8) hf (fun v h1 k1 n1 e1 => ct_J2_init l D N e1) dX6_init_14 (fun _ h H locs cells slots kc ks hS hf => ?_)
  refine W.eq (g2 := F0 m 17 ls [va_rf x10, va_rf a0]) rfl ?_
  refine xr_putF C hS hnm xf_X6 0 (by decide) q516 rfl rfl rfl xv_obj hf dX6_init_17 (fun h H locs hS hf => ?_)
  exact xr_vret C hS hr hf dX6_init_20
theorem ct_X6_init (l : Launch) (D : xh_D) {rv : Unit} {h hF : xh_H} {kc ks : Nat} (N : Nat) {a0 : Option Nat} {a1 : Option Nat} (hf : f_X6_init N a0 a1 h = some (rv, hF, kc, ks)) : xh_Ct l D yX6_init (ws_ yX6_init cX6_init 2 (Option.none : Option Jvm.ClassFile.FieldType)) 4 80 [va_rf a0, va_rf a1] h none hF kc ks :=
  xh_meth (cc := cX6_init) l (by decide) (Nat.le_of_ble_eq_true rfl) (List.forall_mem_cons.mpr ⟨va_rf_cat _, List.forall_mem_cons.mpr ⟨va_rf_cat _, fun _ h => absurd h List.not_mem_nil⟩⟩) fun p e s m below meth c ls C hr hnm hl hS => w_X6_init C hr hnm ⟨Nat.le_refl _, Nat.le_refl _⟩ N a0 a1 h _ _ _ _ _ _ _ hf hS hl
theorem w_X6_isDigit_b51 (C : xh_C cX6_isDigit 2 "SungSlides$Reader" D g p s m args meth c) (hr : meth.sig.returnType = (Option.some Jvm.ClassFile.FieldType.boolean)) (hR : 0 ≤ R.frames ∧ 0 ≤ R.locals) {rv : Int32} {hF : xh_H} (N : Nat) : ∀ (h : xh_H) (H : Heap) (locs : List Loc) (cells slots kc ks : Nat) (ls : Array Slot), f_X6_isDigit_b51 N  h = some (rv, hF, kc, ks) → xh_T D g s R h H locs cells slots kc ks → xh_L ls 2 [] → W p l e R s m args below meth c H locs cells slots (MQ below (xh_Q D g (some (.int rv)) hF) args s R.cells R.slots (xh_A g)) (F0 m 51 ls []) := by
  intro  h H locs cells slots kc ks ls hf hS hl
  have hx := C.1
  have hb := C.2.1
  unfold f_X6_isDigit_b51 at hf
  refine lv_iconst (v := 0) hx hb dX6_isDigit_51 xi_c0 ?_
  exact xr_zret1 C hS hr (by decide) hf dX6_isDigit_52
/-- SungSlides$Reader.isDigit(C)Z -/
theorem w_X6_isDigit (C : xh_C cX6_isDigit 2 "SungSlides$Reader" D g p s m args meth c) (hr : meth.sig.returnType = (Option.some Jvm.ClassFile.FieldType.boolean)) (hR : 0 ≤ R.frames ∧ 0 ≤ R.locals) {rv : Int32} {hF : xh_H} (N : Nat) (a0 : Option Nat) (a1 : Int32)  (h : xh_H) (H : Heap) (locs : List Loc) (cells slots kc ks : Nat) (ls : Array Slot) (hf : f_X6_isDigit N a0 a1 h = some (rv, hF, kc, ks)) (hS : xh_T D g s R h H locs cells slots kc ks) (hl : xh_L ls 2 [(0, va_rf a0), (1, .int a1)]) : W p l e R s m args below meth c H locs cells slots (MQ below (xh_Q D g (some (.int rv)) hF) args s R.cells R.slots (xh_A g)) (F0 m 0 ls []) := by
  have hx := C.1
  have hb := C.2.1
  unfold f_X6_isDigit at hf
  refine xr_aload_n C dX6_isDigit_0 rfl (hl.at 0 rfl) ?_
  refine xr_getI C hS xf_X6 1 (by decide) q518 (fun _ h => h) hf dX6_isDigit_1 (fun x1 hf => ?_)
  refine xr_aload_n C dX6_isDigit_4 rfl (hl.at 0 rfl) ?_
  refine xr_getR C hS xf_X6 2 (by decide) q519 (fun _ h => h) hf dX6_isDigit_5 (fun x5 hf => ?_)
  refine xr_getNI C hS xf_X0 4 (by decide) xn_q144 rfl hf dX6_isDigit_8 (fun x8 hf => ?_)
  refine lv_icmp_ge (tgt := 51) hx hb dX6_isDigit_11 (by decide) (fun c11 => ?_) (fun c11 => ?_)
  · replace hf := xb_pos c11 hf
    exact w_X6_isDigit_b51 C hr hR N  h H locs cells slots kc ks ls hf hS (hl.sub [] rfl)
  · replace hf := xb_neg c11 hf
    refine xr_aload_n C dX6_isDigit_14 rfl (hl.at 0 rfl) ?_
    refine xr_getR C hS xf_X6 2 (by decide) q519 (fun _ h => h) hf dX6_isDigit_15 (fun x15 hf => ?_)
    refine xr_getNR C hS xf_X0 3 (by decide) xn_q142 rfl hf dX6_isDigit_18 (fun x18 hf => ?_)
    refine xr_aload_n C dX6_isDigit_21 rfl (hl.at 0 rfl) ?_
    refine xr_getI C hS xf_X6 1 (by decide) q518 (fun _ h => h) hf dX6_isDigit_22 (fun x22 hf => ?_)
    refine xr_cald C hS hf dX6_isDigit_25 (fun x25 hf => ?_)
    refine lv_iload_n hx hb dX6_isDigit_26 rfl (hl.at 1 rfl) ?_
    refine lv_icmp_lt (tgt := 51) hx hb dX6_isDigit_27 (by decide) (fun c27 => ?_) (fun c27 => ?_)
    · replace hf := xb_pos c27 hf
      exact w_X6_isDigit_b51 C hr hR N  h H locs cells slots kc ks ls hf hS (hl.sub [] rfl)
    · replace hf := xb_neg c27 hf
      refine xr_aload_n C dX6_isDigit_30 rfl (hl.at 0 rfl) ?_
      refine xr_getR C hS xf_X6 2 (by decide) q519 (fun _ h => h) hf dX6_isDigit_31 (fun x31 hf => ?_)
      refine xr_getNR C hS xf_X0 3 (by decide) xn_q142 rfl hf dX6_isDigit_34 (fun x34 hf => ?_)
      refine xr_aload_n C dX6_isDigit_37 rfl (hl.at 0 rfl) ?_
      refine xr_getI C hS xf_X6 1 (by decide) q518 (fun _ h => h) hf dX6_isDigit_38 (fun x38 hf => ?_)
      refine xr_cald C hS hf dX6_isDigit_41 (fun x41 hf => ?_)
      refine lv_bipush (v := 57) hx hb dX6_isDigit_42 xi_b57 ?_
      refine lv_icmp_gt (tgt := 51) hx hb dX6_isDigit_44 (by decide) (fun c44 => ?_) (fun c44 => ?_)
      · replace hf := xb_pos c44 hf
        exact w_X6_isDigit_b51 C hr hR N  h H locs cells slots kc ks ls hf hS (hl.sub [] rfl)
      · replace hf := xb_neg c44 hf
        refine lv_iconst (v := 1) hx hb dX6_isDigit_47 xi_c1 ?_
        refine lv_goto (tgt := 52) hx hb dX6_isDigit_48 (by decide) ?_
        exact xr_zret1 C hS hr (by decide) hf dX6_isDigit_52
theorem ct_X6_isDigit (l : Launch) (D : xh_D) {rv : Int32} {h hF : xh_H} {kc ks : Nat} (N : Nat) {a0 : Option Nat} {a1 : Int32} (hf : f_X6_isDigit N a0 a1 h = some (rv, hF, kc, ks)) : xh_Ct l D yX6_isDigit (ws_ yX6_isDigit cX6_isDigit 2 (Option.some Jvm.ClassFile.FieldType.boolean)) 0 0 [va_rf a0, .int a1] h (some (.int rv)) hF kc ks :=
  xh_meth (cc := cX6_isDigit) l (by decide) (Nat.le_of_ble_eq_true rfl) (List.forall_mem_cons.mpr ⟨va_rf_cat _, List.forall_mem_cons.mpr ⟨rfl, fun _ h => absurd h List.not_mem_nil⟩⟩) fun p e s m below meth c ls C hr hnm hl hS => w_X6_isDigit C hr ⟨Nat.le_refl _, Nat.le_refl _⟩ N a0 a1 h _ _ _ _ _ _ _ hf hS hl
theorem w_X6_number_b105 (C : xh_C cX6_number 4 "SungSlides$Reader" D g p s m args meth c) (hr : meth.sig.returnType = (Option.some Jvm.ClassFile.FieldType.int)) (hR : 1 ≤ R.frames ∧ 21 ≤ R.locals) {rv : Int32} {hF : xh_H} (N : Nat) : ∀ (a3 : Int32) (h : xh_H) (H : Heap) (locs : List Loc) (cells slots kc ks : Nat) (ls : Array Slot), f_X6_number_b105 N a3 h = some (rv, hF, kc, ks) → xh_T D g s R h H locs cells slots kc ks → xh_L ls 4 [(3, .int a3)] → W p l e R s m args below meth c H locs cells slots (MQ below (xh_Q D g (some (.int rv)) hF) args s R.cells R.slots (xh_A g)) (F0 m 105 ls []) := by
  intro a3 h H locs cells slots kc ks ls hf hS hl
  have hx := C.1
  have hb := C.2.1
  unfold f_X6_number_b105 at hf
  refine lv_iload_n hx hb dX6_number_105 rfl (hl.at 0 rfl) ?_
  exact xr_iret C hS hr hf dX6_number_106
/-- SungSlides$Reader.number(CI)I -/
theorem w_X6_number (C : xh_C cX6_number 4 "SungSlides$Reader" D g p s m args meth c) (hr : meth.sig.returnType = (Option.some Jvm.ClassFile.FieldType.int)) (hR : 1 ≤ R.frames ∧ 21 ≤ R.locals) {rv : Int32} {hF : xh_H} (N : Nat) (a0 : Option Nat) (a1 : Int32) (a2 : Int32)  (h : xh_H) (H : Heap) (locs : List Loc) (cells slots kc ks : Nat) (ls : Array Slot) (hf : f_X6_number N a0 a1 a2 h = some (rv, hF, kc, ks)) (hS : xh_T D g s R h H locs cells slots kc ks) (hl : xh_L ls 4 [(0, va_rf a0), (1, .int a1), (2, .int a2)]) : W p l e R s m args below meth c H locs cells slots (MQ below (xh_Q D g (some (.int rv)) hF) args s R.cells R.slots (xh_A g)) (F0 m 0 ls []) := by
  have hx := C.1
  have hb := C.2.1
  unfold f_X6_number at hf
  refine xr_aload_n C dX6_number_0 rfl (hl.at 0 rfl) ?_
  refine lv_iload_n hx hb dX6_number_1 rfl (hl.at 1 rfl) ?_
  refine xr_V (V := fun v => some (.int v)) (n := 1) (fr := 0) (lo := 0) (As := [.int a1]) C hS xf_X6 (lw_V q543 q545 qs9 q73 q546) hdv_X6_isDigit ⟨Nat.le_trans (Nat.le_of_ble_eq_true rfl) hR.1, Nat.le_trans (Nat.le_of_ble_eq_true rfl) hR.2⟩ rfl hl.1.1 rfl xm_r0 hf (fun v h1 k1 n1 e1 => ct_X6_isDigit l D N e1) dX6_number_2 (fun x2 h H locs cells slots kc ks hS hf => ?_)
  refine W.eq (g2 := F0 m 5 ls [.int x2]) rfl ?_
  refine lv_if_ne (tgt := 11) hx hb dX6_number_5 (by decide) (fun c5 => ?_) (fun c5 => ?_)
  · replace hf := xb_neg c5 hf
    refine xr_aload_n C dX6_number_11 rfl (hl.at 0 rfl) ?_
    refine xr_getR C hS xf_X6 2 (by decide) q519 (fun _ h => h) hf dX6_number_12 (fun x12 hf => ?_)
    refine xr_getNR C hS xf_X0 3 (by decide) xn_q142 rfl hf dX6_number_15 (fun x15 hf => ?_)
    refine xr_aload_n C dX6_number_18 rfl (hl.at 0 rfl) ?_
    refine xr_getI C hS xf_X6 1 (by decide) q518 (fun _ h => h) hf dX6_number_19 (fun x19 hf => ?_)
    refine xr_cald C hS hf dX6_number_22 (fun x22 hf => ?_)
    refine lv_bipush (v := 48) hx hb dX6_number_23 xi_b48 ?_
    refine lv_isub hx hb dX6_number_25 ?_
    refine xr_istore_n C dX6_number_26 rfl hl (Nat.le_of_ble_eq_true rfl) (lv' := [(3, .int (x22 - (48 : Int32))), (0, va_rf a0), (1, .int a1), (2, .int a2)]) rfl (fun ls hl => ?_)
    refine xr_aload_n C dX6_number_27 rfl (hl.at 1 rfl) ?_
    refine lv_dup hx hb dX6_number_28 (va_rf_cat _) ?_
    refine xr_getI C hS xf_X6 1 (by decide) q518 (fun _ h => h) hf dX6_number_29 (fun x29 hf => ?_)
    refine lv_iconst (v := 1) hx hb dX6_number_32 xi_c1 ?_
    refine lv_iadd hx hb dX6_number_33 ?_
    refine xr_put C hS xf_X6 1 (by decide) q518 (fun _ h => h) rfl xv_int hf dX6_number_34 (fun h H locs hS hf => ?_)
    refine lv_iload_n hx hb dX6_number_37 rfl (hl.at 0 rfl) ?_
    refine lv_if_le (tgt := 105) hx hb dX6_number_38 (by decide) (fun c38 => ?_) (fun c38 => ?_)
    · replace hf := xb_pos c38 hf
      exact w_X6_number_b105 C hr hR N (x22 - (48 : Int32))  h H locs cells slots kc ks ls hf hS (hl.sub [0] rfl)
    · replace hf := xb_neg c38 hf
      refine xr_aload_n C dX6_number_41 rfl (hl.at 1 rfl) ?_
      refine lv_bipush (v := 48) hx hb dX6_number_42 xi_b48 ?_
      refine xr_V (V := fun v => some (.int v)) (n := 1) (fr := 0) (lo := 0) (As := [.int (48 : Int32)]) C hS xf_X6 (lw_V q543 q545 qs9 q73 q546) hdv_X6_isDigit ⟨Nat.le_trans (Nat.le_of_ble_eq_true rfl) hR.1, Nat.le_trans (Nat.le_of_ble_eq_true rfl) hR.2⟩ rfl hl.1.1 rfl xm_r0 hf (fun v h1 k1 n1 e1 => ct_X6_isDigit l D N e1) dX6_number_44 (fun x44 h H locs cells slots kc ks hS hf => ?_)
      refine W.eq (g2 := F0 m 47 ls [.int x44]) rfl ?_
      refine lv_if_eq (tgt := 105) hx hb dX6_number_47 (by decide) (fun c47 => ?_) (fun c47 => ?_)
      · replace hf := xb_pos c47 hf
        exact w_X6_number_b105 C hr hR N (x22 - (48 : Int32))  h H locs cells slots kc ks ls hf hS (hl.sub [0] rfl)
      · replace hf := xb_neg c47 hf
        refine lv_bipush (v := 10) hx hb dX6_number_50 xi_b10 ?_
        refine lv_iload_n hx hb dX6_number_52 rfl (hl.at 0 rfl) ?_
        refine lv_imul hx hb dX6_number_53 ?_
        refine xr_aload_n C dX6_number_54 rfl (hl.at 1 rfl) ?_
        refine xr_getR C hS xf_X6 2 (by decide) q519 (fun _ h => h) hf dX6_number_55 (fun x55 hf => ?_)
        refine xr_getNR C hS xf_X0 3 (by decide) xn_q142 rfl hf dX6_number_58 (fun x58 hf => ?_)
        refine xr_aload_n C dX6_number_61 rfl (hl.at 1 rfl) ?_
        refine xr_getI C hS xf_X6 1 (by decide) q518 (fun _ h => h) hf dX6_number_62 (fun x62 hf => ?_)
        refine xr_cald C hS hf dX6_number_65 (fun x65 hf => ?_)
        refine lv_iadd hx hb dX6_number_66 ?_
        refine lv_bipush (v := 48) hx hb dX6_number_67 xi_b48 ?_
        refine lv_isub hx hb dX6_number_69 ?_
        refine lv_iload_n hx hb dX6_number_70 rfl (hl.at 3 rfl) ?_
        refine lv_icmp_gt (tgt := 105) hx hb dX6_number_71 (by decide) (fun c71 => ?_) (fun c71 => ?_)
        · replace hf := xb_pos c71 hf
          exact w_X6_number_b105 C hr hR N (x22 - (48 : Int32))  h H locs cells slots kc ks ls hf hS (hl.sub [0] rfl)
        · replace hf := xb_neg c71 hf
          refine lv_bipush (v := 10) hx hb dX6_number_74 xi_b10 ?_
          refine lv_iload_n hx hb dX6_number_76 rfl (hl.at 0 rfl) ?_
          refine lv_imul hx hb dX6_number_77 ?_
          refine xr_aload_n C dX6_number_78 rfl (hl.at 1 rfl) ?_
          refine xr_getR C hS xf_X6 2 (by decide) q519 (fun _ h => h) hf dX6_number_79 (fun x79 hf => ?_)
          refine xr_getNR C hS xf_X0 3 (by decide) xn_q142 rfl hf dX6_number_82 (fun x82 hf => ?_)
          refine xr_aload_n C dX6_number_85 rfl (hl.at 1 rfl) ?_
          refine xr_getI C hS xf_X6 1 (by decide) q518 (fun _ h => h) hf dX6_number_86 (fun x86 hf => ?_)
          refine xr_cald C hS hf dX6_number_89 (fun x89 hf => ?_)
          refine lv_iadd hx hb dX6_number_90 ?_
          refine lv_bipush (v := 48) hx hb dX6_number_91 xi_b48 ?_
          refine lv_isub hx hb dX6_number_93 ?_
          refine xr_istore_n C dX6_number_94 rfl hl (Nat.le_of_ble_eq_true rfl) (lv' := [(3, .int ((((10 : Int32) * (x22 - (48 : Int32))) + x89) - (48 : Int32))), (0, va_rf a0), (1, .int a1), (2, .int a2)]) rfl (fun ls hl => ?_)
          refine xr_aload_n C dX6_number_95 rfl (hl.at 1 rfl) ?_
          refine lv_dup hx hb dX6_number_96 (va_rf_cat _) ?_
          refine xr_getI C hS xf_X6 1 (by decide) q518 (fun _ h => h) hf dX6_number_97 (fun x97 hf => ?_)
          refine lv_iconst (v := 1) hx hb dX6_number_100 xi_c1 ?_
          refine lv_iadd hx hb dX6_number_101 ?_
          refine xr_put C hS xf_X6 1 (by decide) q518 (fun _ h => h) rfl xv_int hf dX6_number_102 (fun h H locs hS hf => ?_)
          exact w_X6_number_b105 C hr hR N ((((10 : Int32) * (x22 - (48 : Int32))) + x89) - (48 : Int32))  h H locs cells slots kc ks ls hf hS (hl.sub [0] rfl)
  · replace hf := xb_pos c5 hf
    refine lv_bipush (v := -5) hx hb dX6_number_8 xi_bm5 ?_
    exact xr_iret C hS hr hf dX6_number_10
theorem ct_X6_number (l : Launch) (D : xh_D) {rv : Int32} {h hF : xh_H} {kc ks : Nat} (N : Nat) {a0 : Option Nat} {a1 : Int32} {a2 : Int32} (hf : f_X6_number N a0 a1 a2 h = some (rv, hF, kc, ks)) : xh_Ct l D yX6_number (ws_ yX6_number cX6_number 4 (Option.some Jvm.ClassFile.FieldType.int)) 1 21 [va_rf a0, .int a1, .int a2] h (some (.int rv)) hF kc ks :=
  xh_meth (cc := cX6_number) l (by decide) (Nat.le_of_ble_eq_true rfl) (List.forall_mem_cons.mpr ⟨va_rf_cat _, List.forall_mem_cons.mpr ⟨rfl, List.forall_mem_cons.mpr ⟨rfl, fun _ h => absurd h List.not_mem_nil⟩⟩⟩) fun p e s m below meth c ls C hr hnm hl hS => w_X6_number C hr ⟨Nat.le_refl _, Nat.le_refl _⟩ N a0 a1 a2 h _ _ _ _ _ _ _ hf hS hl
theorem w_X6_takes_b50 (C : xh_C cX6_takes 3 "SungSlides$Reader" D g p s m args meth c) (hr : meth.sig.returnType = (Option.some Jvm.ClassFile.FieldType.boolean)) (hR : 0 ≤ R.frames ∧ 0 ≤ R.locals) {rv : Int32} {hF : xh_H} (N : Nat) : ∀ (a2 : Int32) (h : xh_H) (H : Heap) (locs : List Loc) (cells slots kc ks : Nat) (ls : Array Slot), f_X6_takes_b50 N a2 h = some (rv, hF, kc, ks) → xh_T D g s R h H locs cells slots kc ks → xh_L ls 3 [(2, .int a2)] → W p l e R s m args below meth c H locs cells slots (MQ below (xh_Q D g (some (.int rv)) hF) args s R.cells R.slots (xh_A g)) (F0 m 50 ls []) := by
  intro a2 h H locs cells slots kc ks ls hf hS hl
  have hx := C.1
  have hb := C.2.1
  unfold f_X6_takes_b50 at hf
  refine lv_iload_n hx hb dX6_takes_50 rfl (hl.at 0 rfl) ?_
  exact xr_zret C hS hr hf dX6_takes_51
theorem w_X6_takes_b35 (C : xh_C cX6_takes 3 "SungSlides$Reader" D g p s m args meth c) (hr : meth.sig.returnType = (Option.some Jvm.ClassFile.FieldType.boolean)) (hR : 0 ≤ R.frames ∧ 0 ≤ R.locals) {rv : Int32} {hF : xh_H} (N : Nat) : ∀ (a0 : Option Nat) (t0 : Int32) (h : xh_H) (H : Heap) (locs : List Loc) (cells slots kc ks : Nat) (ls : Array Slot), f_X6_takes_b35 N a0 t0 h = some (rv, hF, kc, ks) → xh_T D g s R h H locs cells slots kc ks → xh_L ls 3 [(0, va_rf a0)] → W p l e R s m args below meth c H locs cells slots (MQ below (xh_Q D g (some (.int rv)) hF) args s R.cells R.slots (xh_A g)) (F0 m 35 ls [.int t0]) := by
  intro a0 t0 h H locs cells slots kc ks ls hf hS hl
  have hx := C.1
  have hb := C.2.1
  unfold f_X6_takes_b35 at hf
  refine xr_istore_n C dX6_takes_35 rfl hl (Nat.le_of_ble_eq_true rfl) (lv' := [(2, .int t0), (0, va_rf a0)]) rfl (fun ls hl => ?_)
  refine lv_iload_n hx hb dX6_takes_36 rfl (hl.at 0 rfl) ?_
  refine lv_if_eq (tgt := 50) hx hb dX6_takes_37 (by decide) (fun c37 => ?_) (fun c37 => ?_)
  · replace hf := xb_pos c37 hf
    exact w_X6_takes_b50 C hr hR N t0  h H locs cells slots kc ks ls hf hS (hl.sub [0] rfl)
  · replace hf := xb_neg c37 hf
    refine xr_aload_n C dX6_takes_40 rfl (hl.at 1 rfl) ?_
    refine lv_dup hx hb dX6_takes_41 (va_rf_cat _) ?_
    refine xr_getI C hS xf_X6 1 (by decide) q518 (fun _ h => h) hf dX6_takes_42 (fun x42 hf => ?_)
    refine lv_iconst (v := 1) hx hb dX6_takes_45 xi_c1 ?_
    refine lv_iadd hx hb dX6_takes_46 ?_
    refine xr_put C hS xf_X6 1 (by decide) q518 (fun _ h => h) rfl xv_int hf dX6_takes_47 (fun h H locs hS hf => ?_)
    exact w_X6_takes_b50 C hr hR N t0  h H locs cells slots kc ks ls hf hS (hl.sub [0] rfl)
theorem w_X6_takes_b34 (C : xh_C cX6_takes 3 "SungSlides$Reader" D g p s m args meth c) (hr : meth.sig.returnType = (Option.some Jvm.ClassFile.FieldType.boolean)) (hR : 0 ≤ R.frames ∧ 0 ≤ R.locals) {rv : Int32} {hF : xh_H} (N : Nat) : ∀ (a0 : Option Nat) (h : xh_H) (H : Heap) (locs : List Loc) (cells slots kc ks : Nat) (ls : Array Slot), f_X6_takes_b34 N a0 h = some (rv, hF, kc, ks) → xh_T D g s R h H locs cells slots kc ks → xh_L ls 3 [(0, va_rf a0)] → W p l e R s m args below meth c H locs cells slots (MQ below (xh_Q D g (some (.int rv)) hF) args s R.cells R.slots (xh_A g)) (F0 m 34 ls []) := by
  intro a0 h H locs cells slots kc ks ls hf hS hl
  have hx := C.1
  have hb := C.2.1
  unfold f_X6_takes_b34 at hf
  refine lv_iconst (v := 0) hx hb dX6_takes_34 xi_c0 ?_
  exact w_X6_takes_b35 C hr hR N a0 (0 : Int32) h H locs cells slots kc ks ls hf hS (hl.sub [0] rfl)
/-- SungSlides$Reader.takes(C)Z -/
theorem w_X6_takes (C : xh_C cX6_takes 3 "SungSlides$Reader" D g p s m args meth c) (hr : meth.sig.returnType = (Option.some Jvm.ClassFile.FieldType.boolean)) (hR : 0 ≤ R.frames ∧ 0 ≤ R.locals) {rv : Int32} {hF : xh_H} (N : Nat) (a0 : Option Nat) (a1 : Int32)  (h : xh_H) (H : Heap) (locs : List Loc) (cells slots kc ks : Nat) (ls : Array Slot) (hf : f_X6_takes N a0 a1 h = some (rv, hF, kc, ks)) (hS : xh_T D g s R h H locs cells slots kc ks) (hl : xh_L ls 3 [(0, va_rf a0), (1, .int a1)]) : W p l e R s m args below meth c H locs cells slots (MQ below (xh_Q D g (some (.int rv)) hF) args s R.cells R.slots (xh_A g)) (F0 m 0 ls []) := by
  have hx := C.1
  have hb := C.2.1
  unfold f_X6_takes at hf
  refine xr_aload_n C dX6_takes_0 rfl (hl.at 0 rfl) ?_
  refine xr_getI C hS xf_X6 1 (by decide) q518 (fun _ h => h) hf dX6_takes_1 (fun x1 hf => ?_)
  refine xr_aload_n C dX6_takes_4 rfl (hl.at 0 rfl) ?_
  refine xr_getR C hS xf_X6 2 (by decide) q519 (fun _ h => h) hf dX6_takes_5 (fun x5 hf => ?_)
  refine xr_getNI C hS xf_X0 4 (by decide) xn_q144 rfl hf dX6_takes_8 (fun x8 hf => ?_)
  refine lv_icmp_ge (tgt := 34) hx hb dX6_takes_11 (by decide) (fun c11 => ?_) (fun c11 => ?_)
  · replace hf := xb_pos c11 hf
    exact w_X6_takes_b34 C hr hR N a0  h H locs cells slots kc ks ls hf hS (hl.sub [0] rfl)
  · replace hf := xb_neg c11 hf
    refine xr_aload_n C dX6_takes_14 rfl (hl.at 0 rfl) ?_
    refine xr_getR C hS xf_X6 2 (by decide) q519 (fun _ h => h) hf dX6_takes_15 (fun x15 hf => ?_)
    refine xr_getNR C hS xf_X0 3 (by decide) xn_q142 rfl hf dX6_takes_18 (fun x18 hf => ?_)
    refine xr_aload_n C dX6_takes_21 rfl (hl.at 0 rfl) ?_
    refine xr_getI C hS xf_X6 1 (by decide) q518 (fun _ h => h) hf dX6_takes_22 (fun x22 hf => ?_)
    refine xr_cald C hS hf dX6_takes_25 (fun x25 hf => ?_)
    refine lv_iload_n hx hb dX6_takes_26 rfl (hl.at 1 rfl) ?_
    refine lv_icmp_ne (tgt := 34) hx hb dX6_takes_27 (by decide) (fun c27 => ?_) (fun c27 => ?_)
    · replace hf := xb_neg c27 hf
      exact w_X6_takes_b34 C hr hR N a0  h H locs cells slots kc ks ls hf hS (hl.sub [0] rfl)
    · replace hf := xb_pos c27 hf
      refine lv_iconst (v := 1) hx hb dX6_takes_30 xi_c1 ?_
      refine lv_goto (tgt := 35) hx hb dX6_takes_31 (by decide) ?_
      exact w_X6_takes_b35 C hr hR N a0 (1 : Int32) h H locs cells slots kc ks ls hf hS (hl.sub [0] rfl)
theorem ct_X6_takes (l : Launch) (D : xh_D) {rv : Int32} {h hF : xh_H} {kc ks : Nat} (N : Nat) {a0 : Option Nat} {a1 : Int32} (hf : f_X6_takes N a0 a1 h = some (rv, hF, kc, ks)) : xh_Ct l D yX6_takes (ws_ yX6_takes cX6_takes 3 (Option.some Jvm.ClassFile.FieldType.boolean)) 0 0 [va_rf a0, .int a1] h (some (.int rv)) hF kc ks :=
  xh_meth (cc := cX6_takes) l (by decide) (Nat.le_of_ble_eq_true rfl) (List.forall_mem_cons.mpr ⟨va_rf_cat _, List.forall_mem_cons.mpr ⟨rfl, fun _ h => absurd h List.not_mem_nil⟩⟩) fun p e s m below meth c ls C hr hnm hl hS => w_X6_takes C hr ⟨Nat.le_refl _, Nat.le_refl _⟩ N a0 a1 h _ _ _ _ _ _ _ hf hS hl
theorem w_X6_syllable_b84 (C : xh_C cX6_syllable 6 "SungSlides$Reader" D g p s m args meth c) (hr : meth.sig.returnType = (Option.some Jvm.ClassFile.FieldType.boolean)) (hR : 7 ≤ R.frames ∧ 191 ≤ R.locals) {rv : Int32} {hF : xh_H} (N : Nat) : ∀ (h : xh_H) (H : Heap) (locs : List Loc) (cells slots kc ks : Nat) (ls : Array Slot), f_X6_syllable_b84 N  h = some (rv, hF, kc, ks) → xh_T D g s R h H locs cells slots kc ks → xh_L ls 6 [] → W p l e R s m args below meth c H locs cells slots (MQ below (xh_Q D g (some (.int rv)) hF) args s R.cells R.slots (xh_A g)) (F0 m 84 ls []) := by
  intro  h H locs cells slots kc ks ls hf hS hl
  have hx := C.1
  have hb := C.2.1
  unfold f_X6_syllable_b84 at hf
  refine lv_iconst (v := 0) hx hb dX6_syllable_84 xi_c0 ?_
  exact xr_zret1 C hS hr (by decide) hf dX6_syllable_85
theorem w_X6_syllable_b66 (C : xh_C cX6_syllable 6 "SungSlides$Reader" D g p s m args meth c) (hr : meth.sig.returnType = (Option.some Jvm.ClassFile.FieldType.boolean)) (hR : 7 ≤ R.frames ∧ 191 ≤ R.locals) {rv : Int32} {hF : xh_H} (N : Nat) : ∀ (a0 : Option Nat) (a1 : Int32) (a2 : Int32) (a3 : Int32) (t0 : Int32) (h : xh_H) (H : Heap) (locs : List Loc) (cells slots kc ks : Nat) (ls : Array Slot), f_X6_syllable_b66 N a0 a1 a2 a3 t0 h = some (rv, hF, kc, ks) → xh_T D g s R h H locs cells slots kc ks → xh_L ls 6 [(0, va_rf a0), (1, .int a1), (2, .int a2), (3, .int a3)] → W p l e R s m args below meth c H locs cells slots (MQ below (xh_Q D g (some (.int rv)) hF) args s R.cells R.slots (xh_A g)) (F0 m 66 ls [.int t0]) := by
  intro a0 a1 a2 a3 t0 h H locs cells slots kc ks ls hf hS hl
  have hx := C.1
  have hb := C.2.1
  unfold f_X6_syllable_b66 at hf
  refine xr_istore C dX6_syllable_66 hl (Nat.le_of_ble_eq_true rfl) (lv' := [(4, .int t0), (0, va_rf a0), (1, .int a1), (2, .int a2), (3, .int a3)]) rfl (fun ls hl => ?_)
  refine lv_iload hx hb dX6_syllable_68 (hl.at 0 rfl) ?_
  refine lv_bipush (v := -5) hx hb dX6_syllable_70 xi_bm5 ?_
  refine lv_icmp_eq (tgt := 84) hx hb dX6_syllable_72 (by decide) (fun c72 => ?_) (fun c72 => ?_)
  · replace hf := xb_pos c72 hf
    exact w_X6_syllable_b84 C hr hR N  h H locs cells slots kc ks ls hf hS (hl.sub [] rfl)
  · replace hf := xb_neg c72 hf
    refine xr_aload_n C dX6_syllable_75 rfl (hl.at 1 rfl) ?_
    refine lv_bipush (v := 58) hx hb dX6_syllable_76 xi_b58 ?_
    refine xr_V (V := fun v => some (.int v)) (n := 1) (fr := 0) (lo := 0) (As := [.int (58 : Int32)]) C hS xf_X6 (lw_V q535 q537 qs7 q73 q538) hdv_X6_takes ⟨Nat.le_trans (Nat.le_of_ble_eq_true rfl) hR.1, Nat.le_trans (Nat.le_of_ble_eq_true rfl) hR.2⟩ rfl hl.1.1 rfl xm_r0 hf (fun v h1 k1 n1 e1 => ct_X6_takes l D N e1) dX6_syllable_78 (fun x78 h H locs cells slots kc ks hS hf => ?_)
    refine W.eq (g2 := F0 m 81 ls [.int x78]) rfl ?_
    refine lv_if_ne (tgt := 86) hx hb dX6_syllable_81 (by decide) (fun c81 => ?_) (fun c81 => ?_)
    · replace hf := xb_neg c81 hf
      refine xr_aload_n C dX6_syllable_86 rfl (hl.at 1 rfl) ?_
      refine lv_bipush (v := 49) hx hb dX6_syllable_87 xi_b49 ?_
      refine lv_bipush (v := 32) hx hb dX6_syllable_89 xi_b32 ?_
      refine xr_V (V := fun v => some (.int v)) (n := 2) (fr := 1) (lo := 21) (As := [.int (49 : Int32), .int (32 : Int32)]) C hS xf_X6 (lw_V q539 q541 qs8 q73 q542) hdv_X6_number ⟨Nat.le_trans (Nat.le_of_ble_eq_true rfl) hR.1, Nat.le_trans (Nat.le_of_ble_eq_true rfl) hR.2⟩ rfl hl.1.1 rfl xm_r0 hf (fun v h1 k1 n1 e1 => ct_X6_number l D N e1) dX6_syllable_91 (fun x91 h H locs cells slots kc ks hS hf => ?_)
      refine W.eq (g2 := F0 m 94 ls [.int x91]) rfl ?_
      refine xr_istore C dX6_syllable_94 hl (Nat.le_of_ble_eq_true rfl) (lv' := [(5, .int x91), (4, .int t0), (0, va_rf a0), (1, .int a1), (2, .int a2), (3, .int a3)]) rfl (fun ls hl => ?_)
      refine xr_aload_n C dX6_syllable_96 rfl (hl.at 2 rfl) ?_
      refine xr_getR C hS xf_X6 0 (by decide) q516 (fun _ h => h) hf dX6_syllable_97 (fun x97 hf => ?_)
      refine xr_new C hS xf_X3 q547 q164 q61 (fs := [.int 0, .int 0, .int 0, .int 0, .int 0]) rfl xd_X3 hf dX6_syllable_100 (fun x100 h H cells slots kc ks hS hf => ?_)
      refine lv_dup hx hb dX6_syllable_103 (va_rf_cat _) ?_
      refine lv_iload_n hx hb dX6_syllable_104 rfl (hl.at 4 rfl) ?_
      refine lv_iload_n hx hb dX6_syllable_105 rfl (hl.at 5 rfl) ?_
      refine lv_iload hx hb dX6_syllable_106 (hl.at 1 rfl) ?_
      refine lv_iload hx hb dX6_syllable_108 (hl.at 0 rfl) ?_
      refine lv_iload_n hx hb dX6_syllable_110 rfl (hl.at 3 rfl) ?_
      refine xr_I (n := 5) (fr := 1) (lo := 20) (As := [.int a2, .int a3, .int t0, .int x91, .int a1]) C hS q548 q166 q61 q167 rfl hd_X3_init ⟨Nat.le_trans (Nat.le_of_ble_eq_true rfl) hR.1, Nat.le_trans (Nat.le_of_ble_eq_true rfl) hR.2⟩ rfl hl.1.1 rfl (xm_rc (va_rf_cat _) (xm_rc (va_rf_cat _) xm_r0)) (ci := 3) hf (fun v h1 k1 n1 e1 => ct_X3_init l D N e1) dX6_syllable_111 (fun _ h H locs cells slots kc ks hS hf => ?_)
      refine W.eq (g2 := F0 m 114 ls [va_rf x100, va_rf x97]) rfl ?_
      refine xr_F (V := fun v => some (.int v)) (n := 1) (fr := 6) (lo := 170) (As := [va_rf x100]) C hS xf_J2 q550 q270 q272 q59 q274 xn_i3 hdi_J2_add ⟨Nat.le_trans (Nat.le_of_ble_eq_true rfl) hR.1, Nat.le_trans (Nat.le_of_ble_eq_true rfl) hR.2⟩ rfl hl.1.1 rfl xm_r0 hf (fun v h1 k1 n1 e1 => ct_J2_add l D N e1) dX6_syllable_114 (fun x114 h H locs cells slots kc ks hS hf => ?_)
      refine W.eq (g2 := F0 m 119 ls [.int x114]) rfl ?_
      refine lv_pop hx hb dX6_syllable_119 rfl ?_
      refine lv_iload hx hb dX6_syllable_120 (hl.at 0 rfl) ?_
      refine lv_bipush (v := -5) hx hb dX6_syllable_122 xi_bm5 ?_
      refine lv_icmp_eq (tgt := 131) hx hb dX6_syllable_124 (by decide) (fun c124 => ?_) (fun c124 => ?_)
      · replace hf := xb_pos c124 hf
        refine lv_iconst (v := 0) hx hb dX6_syllable_131 xi_c0 ?_
        exact xr_zret1 C hS hr (by decide) hf dX6_syllable_132
      · replace hf := xb_neg c124 hf
        refine lv_iconst (v := 1) hx hb dX6_syllable_127 xi_c1 ?_
        refine lv_goto (tgt := 132) hx hb dX6_syllable_128 (by decide) ?_
        exact xr_zret1 C hS hr (by decide) hf dX6_syllable_132
    · replace hf := xb_pos c81 hf
      exact w_X6_syllable_b84 C hr hR N  h H locs cells slots kc ks ls hf hS (hl.sub [] rfl)
theorem w_X6_syllable_b54 (C : xh_C cX6_syllable 6 "SungSlides$Reader" D g p s m args meth c) (hr : meth.sig.returnType = (Option.some Jvm.ClassFile.FieldType.boolean)) (hR : 7 ≤ R.frames ∧ 191 ≤ R.locals) {rv : Int32} {hF : xh_H} (N : Nat) : ∀ (a0 : Option Nat) (a1 : Int32) (a2 : Int32) (a3 : Int32) (h : xh_H) (H : Heap) (locs : List Loc) (cells slots kc ks : Nat) (ls : Array Slot), f_X6_syllable_b54 N a0 a1 a2 a3 h = some (rv, hF, kc, ks) → xh_T D g s R h H locs cells slots kc ks → xh_L ls 6 [(0, va_rf a0), (1, .int a1), (2, .int a2), (3, .int a3)] → W p l e R s m args below meth c H locs cells slots (MQ below (xh_Q D g (some (.int rv)) hF) args s R.cells R.slots (xh_A g)) (F0 m 54 ls []) := by
  intro a0 a1 a2 a3 h H locs cells slots kc ks ls hf hS hl
  have hx := C.1
  have hb := C.2.1
  unfold f_X6_syllable_b54 at hf
  refine lv_iload_n hx hb dX6_syllable_54 rfl (hl.at 3 rfl) ?_
  refine lv_goto (tgt := 66) hx hb dX6_syllable_55 (by decide) ?_
  exact w_X6_syllable_b66 C hr hR N a0 a1 a2 a3 a3 h H locs cells slots kc ks ls hf hS (hl.sub [0, 1, 2, 3] rfl)
theorem w_X6_syllable_b21 (C : xh_C cX6_syllable 6 "SungSlides$Reader" D g p s m args meth c) (hr : meth.sig.returnType = (Option.some Jvm.ClassFile.FieldType.boolean)) (hR : 7 ≤ R.frames ∧ 191 ≤ R.locals) {rv : Int32} {hF : xh_H} (N : Nat) : ∀ (a0 : Option Nat) (a1 : Int32) (t0 : Int32) (h : xh_H) (H : Heap) (locs : List Loc) (cells slots kc ks : Nat) (ls : Array Slot), f_X6_syllable_b21 N a0 a1 t0 h = some (rv, hF, kc, ks) → xh_T D g s R h H locs cells slots kc ks → xh_L ls 6 [(0, va_rf a0), (1, .int a1)] → W p l e R s m args below meth c H locs cells slots (MQ below (xh_Q D g (some (.int rv)) hF) args s R.cells R.slots (xh_A g)) (F0 m 21 ls [.int t0]) := by
  intro a0 a1 t0 h H locs cells slots kc ks ls hf hS hl
  have hx := C.1
  have hb := C.2.1
  unfold f_X6_syllable_b21 at hf
  refine xr_istore_n C dX6_syllable_21 rfl hl (Nat.le_of_ble_eq_true rfl) (lv' := [(2, .int t0), (0, va_rf a0), (1, .int a1)]) rfl (fun ls hl => ?_)
  refine lv_iload_n hx hb dX6_syllable_22 rfl (hl.at 0 rfl) ?_
  refine lv_bipush (v := -5) hx hb dX6_syllable_23 xi_bm5 ?_
  refine lv_icmp_ne (tgt := 30) hx hb dX6_syllable_25 (by decide) (fun c25 => ?_) (fun c25 => ?_)
  · replace hf := xb_neg c25 hf
    refine xr_aload_n C dX6_syllable_30 rfl (hl.at 1 rfl) ?_
    refine lv_bipush (v := 48) hx hb dX6_syllable_31 xi_b48 ?_
    refine lv_bipush (v := 60) hx hb dX6_syllable_33 xi_b60 ?_
    refine xr_V (V := fun v => some (.int v)) (n := 2) (fr := 1) (lo := 21) (As := [.int (48 : Int32), .int (60 : Int32)]) C hS xf_X6 (lw_V q539 q541 qs8 q73 q542) hdv_X6_number ⟨Nat.le_trans (Nat.le_of_ble_eq_true rfl) hR.1, Nat.le_trans (Nat.le_of_ble_eq_true rfl) hR.2⟩ rfl hl.1.1 rfl xm_r0 hf (fun v h1 k1 n1 e1 => ct_X6_number l D N e1) dX6_syllable_35 (fun x35 h H locs cells slots kc ks hS hf => ?_)
    refine W.eq (g2 := F0 m 38 ls [.int x35]) rfl ?_
    refine xr_istore_n C dX6_syllable_38 rfl hl (Nat.le_of_ble_eq_true rfl) (lv' := [(3, .int x35), (2, .int t0), (0, va_rf a0), (1, .int a1)]) rfl (fun ls hl => ?_)
    refine lv_iload_n hx hb dX6_syllable_39 rfl (hl.at 0 rfl) ?_
    refine lv_bipush (v := -5) hx hb dX6_syllable_40 xi_bm5 ?_
    refine lv_icmp_eq (tgt := 54) hx hb dX6_syllable_42 (by decide) (fun c42 => ?_) (fun c42 => ?_)
    · replace hf := xb_pos c42 hf
      exact w_X6_syllable_b54 C hr hR N a0 a1 t0 x35  h H locs cells slots kc ks ls hf hS (hl.sub [2, 3, 1, 0] rfl)
    · replace hf := xb_neg c42 hf
      refine xr_aload_n C dX6_syllable_45 rfl (hl.at 2 rfl) ?_
      refine lv_bipush (v := 45) hx hb dX6_syllable_46 xi_b45 ?_
      refine xr_V (V := fun v => some (.int v)) (n := 1) (fr := 0) (lo := 0) (As := [.int (45 : Int32)]) C hS xf_X6 (lw_V q535 q537 qs7 q73 q538) hdv_X6_takes ⟨Nat.le_trans (Nat.le_of_ble_eq_true rfl) hR.1, Nat.le_trans (Nat.le_of_ble_eq_true rfl) hR.2⟩ rfl hl.1.1 rfl xm_r0 hf (fun v h1 k1 n1 e1 => ct_X6_takes l D N e1) dX6_syllable_48 (fun x48 h H locs cells slots kc ks hS hf => ?_)
      refine W.eq (g2 := F0 m 51 ls [.int x48]) rfl ?_
      refine lv_if_ne (tgt := 58) hx hb dX6_syllable_51 (by decide) (fun c51 => ?_) (fun c51 => ?_)
      · replace hf := xb_neg c51 hf
        refine xr_aload_n C dX6_syllable_58 rfl (hl.at 2 rfl) ?_
        refine lv_bipush (v := 48) hx hb dX6_syllable_59 xi_b48 ?_
        refine lv_bipush (v := 60) hx hb dX6_syllable_61 xi_b60 ?_
        refine xr_V (V := fun v => some (.int v)) (n := 2) (fr := 1) (lo := 21) (As := [.int (48 : Int32), .int (60 : Int32)]) C hS xf_X6 (lw_V q539 q541 qs8 q73 q542) hdv_X6_number ⟨Nat.le_trans (Nat.le_of_ble_eq_true rfl) hR.1, Nat.le_trans (Nat.le_of_ble_eq_true rfl) hR.2⟩ rfl hl.1.1 rfl xm_r0 hf (fun v h1 k1 n1 e1 => ct_X6_number l D N e1) dX6_syllable_63 (fun x63 h H locs cells slots kc ks hS hf => ?_)
        refine W.eq (g2 := F0 m 66 ls [.int x63]) rfl ?_
        exact w_X6_syllable_b66 C hr hR N a0 a1 t0 x35 x63 h H locs cells slots kc ks ls hf hS (hl.sub [2, 3, 1, 0] rfl)
      · replace hf := xb_pos c51 hf
        exact w_X6_syllable_b54 C hr hR N a0 a1 t0 x35  h H locs cells slots kc ks ls hf hS (hl.sub [2, 3, 1, 0] rfl)
  · replace hf := xb_pos c25 hf
    refine lv_iconst (v := 0) hx hb dX6_syllable_28 xi_c0 ?_
    exact xr_zret1 C hS hr (by decide) hf dX6_syllable_29
/-- SungSlides$Reader.syllable(Z)Z -/
theorem w_X6_syllable (C : xh_C cX6_syllable 6 "SungSlides$Reader" D g p s m args meth c) (hr : meth.sig.returnType = (Option.some Jvm.ClassFile.FieldType.boolean)) (hR : 7 ≤ R.frames ∧ 191 ≤ R.locals) {rv : Int32} {hF : xh_H} (N : Nat) (a0 : Option Nat) (a1 : Int32)  (h : xh_H) (H : Heap) (locs : List Loc) (cells slots kc ks : Nat) (ls : Array Slot) (hf : f_X6_syllable N a0 a1 h = some (rv, hF, kc, ks)) (hS : xh_T D g s R h H locs cells slots kc ks) (hl : xh_L ls 6 [(0, va_rf a0), (1, .int a1)]) : W p l e R s m args below meth c H locs cells slots (MQ below (xh_Q D g (some (.int rv)) hF) args s R.cells R.slots (xh_A g)) (F0 m 0 ls []) := by
  have hx := C.1
  have hb := C.2.1
  unfold f_X6_syllable at hf
  refine xr_aload_n C dX6_syllable_0 rfl (hl.at 0 rfl) ?_
  refine lv_bipush (v := 46) hx hb dX6_syllable_1 xi_b46 ?_
  refine xr_V (V := fun v => some (.int v)) (n := 1) (fr := 0) (lo := 0) (As := [.int (46 : Int32)]) C hS xf_X6 (lw_V q535 q537 qs7 q73 q538) hdv_X6_takes ⟨Nat.le_trans (Nat.le_of_ble_eq_true rfl) hR.1, Nat.le_trans (Nat.le_of_ble_eq_true rfl) hR.2⟩ rfl hl.1.1 rfl xm_r0 hf (fun v h1 k1 n1 e1 => ct_X6_takes l D N e1) dX6_syllable_3 (fun x3 h H locs cells slots kc ks hS hf => ?_)
  refine W.eq (g2 := F0 m 6 ls [.int x3]) rfl ?_
  refine lv_if_eq (tgt := 20) hx hb dX6_syllable_6 (by decide) (fun c6 => ?_) (fun c6 => ?_)
  · replace hf := xb_pos c6 hf
    refine lv_iconst (v := 0) hx hb dX6_syllable_20 xi_c0 ?_
    exact w_X6_syllable_b21 C hr hR N a0 a1 (0 : Int32) h H locs cells slots kc ks ls hf hS (hl.sub [0, 1] rfl)
  · replace hf := xb_neg c6 hf
    refine xr_aload_n C dX6_syllable_9 rfl (hl.at 0 rfl) ?_
    refine lv_bipush (v := 49) hx hb dX6_syllable_10 xi_b49 ?_
    refine lv_bipush (v := 32) hx hb dX6_syllable_12 xi_b32 ?_
    refine xr_V (V := fun v => some (.int v)) (n := 2) (fr := 1) (lo := 21) (As := [.int (49 : Int32), .int (32 : Int32)]) C hS xf_X6 (lw_V q539 q541 qs8 q73 q542) hdv_X6_number ⟨Nat.le_trans (Nat.le_of_ble_eq_true rfl) hR.1, Nat.le_trans (Nat.le_of_ble_eq_true rfl) hR.2⟩ rfl hl.1.1 rfl xm_r0 hf (fun v h1 k1 n1 e1 => ct_X6_number l D N e1) dX6_syllable_14 (fun x14 h H locs cells slots kc ks hS hf => ?_)
    refine W.eq (g2 := F0 m 17 ls [.int x14]) rfl ?_
    refine lv_goto (tgt := 21) hx hb dX6_syllable_17 (by decide) ?_
    exact w_X6_syllable_b21 C hr hR N a0 a1 x14 h H locs cells slots kc ks ls hf hS (hl.sub [0, 1] rfl)
theorem ct_X6_syllable (l : Launch) (D : xh_D) {rv : Int32} {h hF : xh_H} {kc ks : Nat} (N : Nat) {a0 : Option Nat} {a1 : Int32} (hf : f_X6_syllable N a0 a1 h = some (rv, hF, kc, ks)) : xh_Ct l D yX6_syllable (ws_ yX6_syllable cX6_syllable 6 (Option.some Jvm.ClassFile.FieldType.boolean)) 7 191 [va_rf a0, .int a1] h (some (.int rv)) hF kc ks :=
  xh_meth (cc := cX6_syllable) l (by decide) (Nat.le_of_ble_eq_true rfl) (List.forall_mem_cons.mpr ⟨va_rf_cat _, List.forall_mem_cons.mpr ⟨rfl, fun _ h => absurd h List.not_mem_nil⟩⟩) fun p e s m below meth c ls C hr hnm hl hS => w_X6_syllable C hr ⟨Nat.le_refl _, Nat.le_refl _⟩ N a0 a1 h _ _ _ _ _ _ _ hf hS hl
def K_X6_read_4 (p : Program) (l : Launch) (e : Env) (s : State) (m : MethodId) (args : Array Value) (below : List Frame) (meth : Method) (c : Code) (D : xh_D) (g : Nat → Nat) (R : Room) (rv : Int32) (hF : xh_H) (k : Option Nat → Int32 → Int32 → xh_H → xh_R Int32) : Prop := ∀ (a0 : Option Nat) (a1 : Int32) (a2 : Int32) (h : xh_H) (H : Heap) (locs : List Loc) (cells slots kc ks : Nat) (ls : Array Slot), k a0 a1 a2 h = some (rv, hF, kc, ks) → xh_T D g s R h H locs cells slots kc ks → xh_L ls 3 [(0, va_rf a0), (1, .int a1), (2, .int a2)] → W p l e R s m args below meth c H locs cells slots (MQ below (xh_Q D g (some (.int rv)) hF) args s R.cells R.slots (xh_A g)) (F0 m 4 ls [])
theorem w_X6_read_b50 (C : xh_C cX6_read 3 "SungSlides$Reader" D g p s m args meth c) (hr : meth.sig.returnType = (Option.some Jvm.ClassFile.FieldType.int)) (hR : 8 ≤ R.frames ∧ 216 ≤ R.locals) {rv : Int32} {hF : xh_H} (N : Nat) : ∀ (a0 : Option Nat) (h : xh_H) (H : Heap) (locs : List Loc) (cells slots kc ks : Nat) (ls : Array Slot), f_X6_read_b50 N a0 h = some (rv, hF, kc, ks) → xh_T D g s R h H locs cells slots kc ks → xh_L ls 3 [(0, va_rf a0)] → W p l e R s m args below meth c H locs cells slots (MQ below (xh_Q D g (some (.int rv)) hF) args s R.cells R.slots (xh_A g)) (F0 m 50 ls []) := by
  intro a0 h H locs cells slots kc ks ls hf hS hl
  have hx := C.1
  have hb := C.2.1
  unfold f_X6_read_b50 at hf
  refine xr_aload_n C dX6_read_50 rfl (hl.at 0 rfl) ?_
  refine xr_getI C hS xf_X6 1 (by decide) q518 (fun _ h => h) hf dX6_read_51 (fun x51 hf => ?_)
  refine xr_aload_n C dX6_read_54 rfl (hl.at 0 rfl) ?_
  refine xr_getR C hS xf_X6 2 (by decide) q519 (fun _ h => h) hf dX6_read_55 (fun x55 hf => ?_)
  refine xr_getNI C hS xf_X0 4 (by decide) xn_q144 rfl hf dX6_read_58 (fun x58 hf => ?_)
  refine lv_icmp_ne (tgt := 69) hx hb dX6_read_61 (by decide) (fun c61 => ?_) (fun c61 => ?_)
  · replace hf := xb_neg c61 hf
    refine xr_aload_n C dX6_read_69 rfl (hl.at 0 rfl) ?_
    refine xr_getI C hS xf_X6 1 (by decide) q518 (fun _ h => h) hf dX6_read_70 (fun x70 hf => ?_)
    exact xr_iret C hS hr hf dX6_read_73
  · replace hf := xb_pos c61 hf
    refine lv_bipush (v := -5) hx hb dX6_read_64 xi_bm5 ?_
    refine lv_goto (tgt := 73) hx hb dX6_read_66 (by decide) ?_
    exact xr_iret C hS hr hf dX6_read_73
theorem w_X6_read_b46 (C : xh_C cX6_read 3 "SungSlides$Reader" D g p s m args meth c) (hr : meth.sig.returnType = (Option.some Jvm.ClassFile.FieldType.int)) (hR : 8 ≤ R.frames ∧ 216 ≤ R.locals) {rv : Int32} {hF : xh_H} (N : Nat) {k4 : Option Nat → Int32 → Int32 → xh_H → xh_R Int32} (hk4 : K_X6_read_4 p l e s m args below meth c D g R rv hF k4) : ∀ (a0 : Option Nat) (a1 : Int32) (t0 : Int32) (h : xh_H) (H : Heap) (locs : List Loc) (cells slots kc ks : Nat) (ls : Array Slot), f_X6_read_b46 N k4 a0 a1 t0 h = some (rv, hF, kc, ks) → xh_T D g s R h H locs cells slots kc ks → xh_L ls 3 [(0, va_rf a0), (1, .int a1)] → W p l e R s m args below meth c H locs cells slots (MQ below (xh_Q D g (some (.int rv)) hF) args s R.cells R.slots (xh_A g)) (F0 m 46 ls [.int t0]) := by
  intro a0 a1 t0 h H locs cells slots kc ks ls hf hS hl
  have hx := C.1
  have hb := C.2.1
  unfold f_X6_read_b46 at hf
  refine xr_istore_n C dX6_read_46 rfl hl (Nat.le_of_ble_eq_true rfl) (lv' := [(2, .int t0), (0, va_rf a0), (1, .int a1)]) rfl (fun ls hl => ?_)
  refine lv_goto (tgt := 4) hx hb dX6_read_47 (by decide) ?_
  exact hk4 a0 a1 t0  h H locs cells slots kc ks ls hf hS (hl.sub [1, 2, 0] rfl)
theorem w_X6_read_b41 (C : xh_C cX6_read 3 "SungSlides$Reader" D g p s m args meth c) (hr : meth.sig.returnType = (Option.some Jvm.ClassFile.FieldType.int)) (hR : 8 ≤ R.frames ∧ 216 ≤ R.locals) {rv : Int32} {hF : xh_H} (N : Nat) {k4 : Option Nat → Int32 → Int32 → xh_H → xh_R Int32} (hk4 : K_X6_read_4 p l e s m args below meth c D g R rv hF k4) : ∀ (a0 : Option Nat) (a1 : Int32) (h : xh_H) (H : Heap) (locs : List Loc) (cells slots kc ks : Nat) (ls : Array Slot), f_X6_read_b41 N k4 a0 a1 h = some (rv, hF, kc, ks) → xh_T D g s R h H locs cells slots kc ks → xh_L ls 3 [(0, va_rf a0), (1, .int a1)] → W p l e R s m args below meth c H locs cells slots (MQ below (xh_Q D g (some (.int rv)) hF) args s R.cells R.slots (xh_A g)) (F0 m 41 ls []) := by
  intro a0 a1 h H locs cells slots kc ks ls hf hS hl
  have hx := C.1
  have hb := C.2.1
  unfold f_X6_read_b41 at hf
  refine lv_iconst (v := 1) hx hb dX6_read_41 xi_c1 ?_
  refine lv_goto (tgt := 46) hx hb dX6_read_42 (by decide) ?_
  exact w_X6_read_b46 C hr hR N hk4 a0 a1 (1 : Int32) h H locs cells slots kc ks ls hf hS (hl.sub [0, 1] rfl)
theorem w_X6_read_b16 (C : xh_C cX6_read 3 "SungSlides$Reader" D g p s m args meth c) (hr : meth.sig.returnType = (Option.some Jvm.ClassFile.FieldType.int)) (hR : 8 ≤ R.frames ∧ 216 ≤ R.locals) {rv : Int32} {hF : xh_H} (N : Nat) : ∀ (a0 : Option Nat) (h : xh_H) (H : Heap) (locs : List Loc) (cells slots kc ks : Nat) (ls : Array Slot), f_X6_read_b16 N a0 h = some (rv, hF, kc, ks) → xh_T D g s R h H locs cells slots kc ks → xh_L ls 3 [(0, va_rf a0)] → W p l e R s m args below meth c H locs cells slots (MQ below (xh_Q D g (some (.int rv)) hF) args s R.cells R.slots (xh_A g)) (F0 m 16 ls []) := by
  intro a0 h H locs cells slots kc ks ls hf hS hl
  have hx := C.1
  have hb := C.2.1
  unfold f_X6_read_b16 at hf
  refine xr_aload_n C dX6_read_16 rfl (hl.at 0 rfl) ?_
  refine xr_getI C hS xf_X6 1 (by decide) q518 (fun _ h => h) hf dX6_read_17 (fun x17 hf => ?_)
  exact xr_iret C hS hr hf dX6_read_20
theorem w_X6_read_b4 (C : xh_C cX6_read 3 "SungSlides$Reader" D g p s m args meth c) (hr : meth.sig.returnType = (Option.some Jvm.ClassFile.FieldType.int)) (hR : 8 ≤ R.frames ∧ 216 ≤ R.locals) {rv : Int32} {hF : xh_H} (N : Nat) {k4 : Option Nat → Int32 → Int32 → xh_H → xh_R Int32} (hk4 : K_X6_read_4 p l e s m args below meth c D g R rv hF k4) : ∀ (a0 : Option Nat) (a1 : Int32) (a2 : Int32) (h : xh_H) (H : Heap) (locs : List Loc) (cells slots kc ks : Nat) (ls : Array Slot), f_X6_read_b4 N k4 a0 a1 a2 h = some (rv, hF, kc, ks) → xh_T D g s R h H locs cells slots kc ks → xh_L ls 3 [(0, va_rf a0), (1, .int a1), (2, .int a2)] → W p l e R s m args below meth c H locs cells slots (MQ below (xh_Q D g (some (.int rv)) hF) args s R.cells R.slots (xh_A g)) (F0 m 4 ls []) := by
  intro a0 a1 a2 h H locs cells slots kc ks ls hf hS hl
  have hx := C.1
  have hb := C.2.1
  unfold f_X6_read_b4 at hf
  refine lv_iload_n hx hb dX6_read_4 rfl (hl.at 2 rfl) ?_
  refine lv_if_eq (tgt := 50) hx hb dX6_read_5 (by decide) (fun c5 => ?_) (fun c5 => ?_)
  · replace hf := xb_pos c5 hf
    exact w_X6_read_b50 C hr hR N a0  h H locs cells slots kc ks ls hf hS (hl.sub [0] rfl)
  · replace hf := xb_neg c5 hf
    refine xr_aload_n C dX6_read_8 rfl (hl.at 0 rfl) ?_
    refine lv_iload_n hx hb dX6_read_9 rfl (hl.at 1 rfl) ?_
    refine xr_V (V := fun v => some (.int v)) (n := 1) (fr := 7) (lo := 191) (As := [.int a1]) C hS xf_X6 (lw_V q531 q533 qs6 q73 q534) hdv_X6_syllable ⟨Nat.le_trans (Nat.le_of_ble_eq_true rfl) hR.1, Nat.le_trans (Nat.le_of_ble_eq_true rfl) hR.2⟩ rfl hl.1.1 rfl xm_r0 hf (fun v h1 k1 n1 e1 => ct_X6_syllable l D N e1) dX6_read_10 (fun x10 h H locs cells slots kc ks hS hf => ?_)
    refine W.eq (g2 := F0 m 13 ls [.int x10]) rfl ?_
    refine lv_if_ne (tgt := 21) hx hb dX6_read_13 (by decide) (fun c13 => ?_) (fun c13 => ?_)
    · replace hf := xb_neg c13 hf
      refine xr_aload_n C dX6_read_21 rfl (hl.at 0 rfl) ?_
      refine lv_bipush (v := 47) hx hb dX6_read_22 xi_b47 ?_
      refine xr_V (V := fun v => some (.int v)) (n := 1) (fr := 0) (lo := 0) (As := [.int (47 : Int32)]) C hS xf_X6 (lw_V q535 q537 qs7 q73 q538) hdv_X6_takes ⟨Nat.le_trans (Nat.le_of_ble_eq_true rfl) hR.1, Nat.le_trans (Nat.le_of_ble_eq_true rfl) hR.2⟩ rfl hl.1.1 rfl xm_r0 hf (fun v h1 k1 n1 e1 => ct_X6_takes l D N e1) dX6_read_24 (fun x24 h H locs cells slots kc ks hS hf => ?_)
      refine W.eq (g2 := F0 m 27 ls [.int x24]) rfl ?_
      refine xr_istore_n C dX6_read_27 rfl hl (Nat.le_of_ble_eq_true rfl) (lv' := [(1, .int x24), (0, va_rf a0), (2, .int a2)]) rfl (fun ls hl => ?_)
      refine lv_iload_n hx hb dX6_read_28 rfl (hl.at 0 rfl) ?_
      refine lv_if_ne (tgt := 41) hx hb dX6_read_29 (by decide) (fun c29 => ?_) (fun c29 => ?_)
      · replace hf := xb_neg c29 hf
        exact w_X6_read_b41 C hr hR N hk4 a0 x24  h H locs cells slots kc ks ls hf hS (hl.sub [1, 0] rfl)
      · replace hf := xb_pos c29 hf
        refine xr_aload_n C dX6_read_32 rfl (hl.at 1 rfl) ?_
        refine lv_bipush (v := 44) hx hb dX6_read_33 xi_b44 ?_
        refine xr_V (V := fun v => some (.int v)) (n := 1) (fr := 0) (lo := 0) (As := [.int (44 : Int32)]) C hS xf_X6 (lw_V q535 q537 qs7 q73 q538) hdv_X6_takes ⟨Nat.le_trans (Nat.le_of_ble_eq_true rfl) hR.1, Nat.le_trans (Nat.le_of_ble_eq_true rfl) hR.2⟩ rfl hl.1.1 rfl xm_r0 hf (fun v h1 k1 n1 e1 => ct_X6_takes l D N e1) dX6_read_35 (fun x35 h H locs cells slots kc ks hS hf => ?_)
        refine W.eq (g2 := F0 m 38 ls [.int x35]) rfl ?_
        refine lv_if_eq (tgt := 45) hx hb dX6_read_38 (by decide) (fun c38 => ?_) (fun c38 => ?_)
        · replace hf := xb_pos c38 hf
          refine lv_iconst (v := 0) hx hb dX6_read_45 xi_c0 ?_
          exact w_X6_read_b46 C hr hR N hk4 a0 x24 (0 : Int32) h H locs cells slots kc ks ls hf hS (hl.sub [1, 0] rfl)
        · replace hf := xb_neg c38 hf
          exact w_X6_read_b41 C hr hR N hk4 a0 x24  h H locs cells slots kc ks ls hf hS (hl.sub [1, 0] rfl)
    · replace hf := xb_pos c13 hf
      exact w_X6_read_b16 C hr hR N a0  h H locs cells slots kc ks ls hf hS (hl.sub [0] rfl)
theorem w_X6_read_l4 (C : xh_C cX6_read 3 "SungSlides$Reader" D g p s m args meth c) (hr : meth.sig.returnType = (Option.some Jvm.ClassFile.FieldType.int)) (hR : 8 ≤ R.frames ∧ 216 ≤ R.locals) {rv : Int32} {hF : xh_H} (N : Nat) : ∀ n : Nat, K_X6_read_4 p l e s m args below meth c D g R rv hF (f_X6_read_l4 N n) := by
  intro n
  induction n with
  | zero => exact fun a0 a1 a2 h H locs cells slots kc ks ls hf => absurd (show (none : xh_R Int32) = some _ from hf) (by intro q; cases q)
  | succ n ih => exact fun a0 a1 a2 h H locs cells slots kc ks ls hf => w_X6_read_b4 C hr hR N ih a0 a1 a2 h H locs cells slots kc ks ls hf
/-- SungSlides$Reader.read()I -/
theorem w_X6_read (C : xh_C cX6_read 3 "SungSlides$Reader" D g p s m args meth c) (hr : meth.sig.returnType = (Option.some Jvm.ClassFile.FieldType.int)) (hR : 8 ≤ R.frames ∧ 216 ≤ R.locals) {rv : Int32} {hF : xh_H} (N : Nat) (a0 : Option Nat)  (h : xh_H) (H : Heap) (locs : List Loc) (cells slots kc ks : Nat) (ls : Array Slot) (hf : f_X6_read N a0 h = some (rv, hF, kc, ks)) (hS : xh_T D g s R h H locs cells slots kc ks) (hl : xh_L ls 3 [(0, va_rf a0)]) : W p l e R s m args below meth c H locs cells slots (MQ below (xh_Q D g (some (.int rv)) hF) args s R.cells R.slots (xh_A g)) (F0 m 0 ls []) := by
  have hx := C.1
  have hb := C.2.1
  unfold f_X6_read at hf
  refine lv_iconst (v := 1) hx hb dX6_read_0 xi_c1 ?_
  refine xr_istore_n C dX6_read_1 rfl hl (Nat.le_of_ble_eq_true rfl) (lv' := [(1, .int (1 : Int32)), (0, va_rf a0)]) rfl (fun ls hl => ?_)
  refine lv_iconst (v := 1) hx hb dX6_read_2 xi_c1 ?_
  refine xr_istore_n C dX6_read_3 rfl hl (Nat.le_of_ble_eq_true rfl) (lv' := [(2, .int (1 : Int32)), (1, .int (1 : Int32)), (0, va_rf a0)]) rfl (fun ls hl => ?_)
  exact w_X6_read_l4 C hr hR N N a0 (1 : Int32) (1 : Int32)  h H locs cells slots kc ks ls hf hS (hl.sub [2, 1, 0] rfl)
theorem ct_X6_read (l : Launch) (D : xh_D) {rv : Int32} {h hF : xh_H} {kc ks : Nat} (N : Nat) {a0 : Option Nat} (hf : f_X6_read N a0 h = some (rv, hF, kc, ks)) : xh_Ct l D yX6_read (ws_ yX6_read cX6_read 3 (Option.some Jvm.ClassFile.FieldType.int)) 8 216 [va_rf a0] h (some (.int rv)) hF kc ks :=
  xh_meth (cc := cX6_read) l (by decide) (Nat.le_of_ble_eq_true rfl) (List.forall_mem_cons.mpr ⟨va_rf_cat _, fun _ h => absurd h List.not_mem_nil⟩) fun p e s m below meth c ls C hr hnm hl hS => w_X6_read C hr ⟨Nat.le_refl _, Nat.le_refl _⟩ N a0 h _ _ _ _ _ _ _ hf hS hl
end WALK
