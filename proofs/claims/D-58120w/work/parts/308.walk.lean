/-! WALKS, printed by gen/walk.py -/
set_option maxRecDepth 100000
section WALK
variable {p : Program} {l : Launch} {e : Env} {s : State} {m : MethodId} {args : Array Value} {below : List Frame} {meth : Method} {c : Code} {D : xh_D} {g : Nat → Nat} {R : Room}
/-- SungSlidesModel.of(II)I -/
theorem w_X2_of (C : xh_C cX2_of 3 "SungSlidesModel" D g p s m args meth c) (hr : meth.sig.returnType = (Option.some Jvm.ClassFile.FieldType.int)) (hR : 0 ≤ R.frames ∧ 0 ≤ R.locals) {rv : Int32} {hF : xh_H} (N : Nat) (a0 : Option Nat) (a1 : Int32) (a2 : Int32)  (h : xh_H) (H : Heap) (locs : List Loc) (cells slots kc ks : Nat) (ls : Array Slot) (hf : f_X2_of N a0 a1 a2 h = some (rv, hF, kc, ks)) (hS : xh_T D g s R h H locs cells slots kc ks) (hl : xh_L ls 3 [(0, va_rf a0), (1, .int a1), (2, .int a2)]) : W p l e R s m args below meth c H locs cells slots (MQ below (xh_Q D g (some (.int rv)) hF) args s R.cells R.slots (xh_A g)) (F0 m 0 ls []) := by
  have hx := C.1
  have hb := C.2.1
  unfold f_X2_of at hf
  refine xr_aload_n C dX2_of_0 rfl (hl.at 0 rfl) ?_
  refine xr_getR C hS xf_X2 0 (by decide) q817 (fun _ h => h) hf dX2_of_1 (fun x1 hf => ?_)
  refine lv_bipush (v := 6) hx hb dX2_of_4 xi_b6 ?_
  refine lv_iconst (v := 5) hx hb dX2_of_6 xi_c5 ?_
  refine lv_iload_n hx hb dX2_of_7 rfl (hl.at 1 rfl) ?_
  refine lv_imul hx hb dX2_of_8 ?_
  refine lv_iadd hx hb dX2_of_9 ?_
  refine lv_iload_n hx hb dX2_of_10 rfl (hl.at 2 rfl) ?_
  refine lv_iadd hx hb dX2_of_11 ?_
  refine xr_iald C hS hf dX2_of_12 (fun x12 hf => ?_)
  exact xr_iret C hS hr hf dX2_of_13
theorem ct_X2_of (l : Launch) (D : xh_D) {rv : Int32} {h hF : xh_H} {kc ks : Nat} (N : Nat) {a0 : Option Nat} {a1 : Int32} {a2 : Int32} (hf : f_X2_of N a0 a1 a2 h = some (rv, hF, kc, ks)) : xh_Ct l D yX2_of (ws_ yX2_of cX2_of 3 (Option.some Jvm.ClassFile.FieldType.int)) 0 0 [va_rf a0, .int a1, .int a2] h (some (.int rv)) hF kc ks :=
  xh_meth (cc := cX2_of) l (by decide) (Nat.le_of_ble_eq_true rfl) (List.forall_mem_cons.mpr ⟨va_rf_cat _, List.forall_mem_cons.mpr ⟨rfl, List.forall_mem_cons.mpr ⟨rfl, fun _ h => absurd h List.not_mem_nil⟩⟩⟩) fun p e s m below meth c ls C hr hnm hl hS => w_X2_of C hr ⟨Nat.le_refl _, Nat.le_refl _⟩ N a0 a1 a2 h _ _ _ _ _ _ _ hf hS hl
/-- SungSlidesModel.behind(I)I -/
theorem w_X2_behind (C : xh_C cX2_behind 2 "SungSlidesModel" D g p s m args meth c) (hr : meth.sig.returnType = (Option.some Jvm.ClassFile.FieldType.int)) (hR : 1 ≤ R.frames ∧ 22 ≤ R.locals) {rv : Int32} {hF : xh_H} (N : Nat) (a0 : Option Nat) (a1 : Int32)  (h : xh_H) (H : Heap) (locs : List Loc) (cells slots kc ks : Nat) (ls : Array Slot) (hf : f_X2_behind N a0 a1 h = some (rv, hF, kc, ks)) (hS : xh_T D g s R h H locs cells slots kc ks) (hl : xh_L ls 2 [(0, va_rf a0), (1, .int a1)]) : W p l e R s m args below meth c H locs cells slots (MQ below (xh_Q D g (some (.int rv)) hF) args s R.cells R.slots (xh_A g)) (F0 m 0 ls []) := by
  have hx := C.1
  have hb := C.2.1
  unfold f_X2_behind at hf
  refine lv_iload_n hx hb dX2_behind_0 rfl (hl.at 1 rfl) ?_
  refine lv_if_ge (tgt := 8) hx hb dX2_behind_1 (by decide) (fun c1 => ?_) (fun c1 => ?_)
  · replace hf := xb_pos c1 hf
    refine xr_aload_n C dX2_behind_8 rfl (hl.at 0 rfl) ?_
    refine lv_iload_n hx hb dX2_behind_9 rfl (hl.at 1 rfl) ?_
    refine lv_iconst (v := 0) hx hb dX2_behind_10 xi_c0 ?_
    refine xr_V (V := fun v => some (.int v)) (n := 2) (fr := 0) (lo := 0) (As := [.int a1, .int (0 : Int32)]) C hS xf_X2 (lw_V q888 q890 qs23 q60 q891) hdv_X2_of ⟨Nat.le_trans (Nat.le_of_ble_eq_true rfl) hR.1, Nat.le_trans (Nat.le_of_ble_eq_true rfl) hR.2⟩ rfl hl.1.1 rfl xm_r0 hf (fun v h1 k1 n1 e1 => ct_X2_of l D N e1) dX2_behind_11 (fun x11 h H locs cells slots kc ks hS hf => ?_)
    refine W.eq (g2 := F0 m 14 ls [.int x11]) rfl ?_
    refine xr_aload_n C dX2_behind_14 rfl (hl.at 0 rfl) ?_
    refine lv_iload_n hx hb dX2_behind_15 rfl (hl.at 1 rfl) ?_
    refine lv_iconst (v := 1) hx hb dX2_behind_16 xi_c1 ?_
    refine xr_V (V := fun v => some (.int v)) (n := 2) (fr := 0) (lo := 0) (As := [.int a1, .int (1 : Int32)]) C hS xf_X2 (lw_V q888 q890 qs23 q60 q891) hdv_X2_of ⟨Nat.le_trans (Nat.le_of_ble_eq_true rfl) hR.1, Nat.le_trans (Nat.le_of_ble_eq_true rfl) hR.2⟩ rfl hl.1.1 rfl (xm_rc rfl xm_r0) hf (fun v h1 k1 n1 e1 => ct_X2_of l D N e1) dX2_behind_17 (fun x17 h H locs cells slots kc ks hS hf => ?_)
    refine W.eq (g2 := F0 m 20 ls [.int x17, .int x11]) rfl ?_
    refine lv_iadd hx hb dX2_behind_20 ?_
    exact xr_iret C hS hr hf dX2_behind_21
  · replace hf := xb_neg c1 hf
    refine lv_iconst (v := 0) hx hb dX2_behind_4 xi_c0 ?_
    refine lv_goto (tgt := 21) hx hb dX2_behind_5 (by decide) ?_
    exact xr_iret C hS hr hf dX2_behind_21
theorem ct_X2_behind (l : Launch) (D : xh_D) {rv : Int32} {h hF : xh_H} {kc ks : Nat} (N : Nat) {a0 : Option Nat} {a1 : Int32} (hf : f_X2_behind N a0 a1 h = some (rv, hF, kc, ks)) : xh_Ct l D yX2_behind (ws_ yX2_behind cX2_behind 2 (Option.some Jvm.ClassFile.FieldType.int)) 1 22 [va_rf a0, .int a1] h (some (.int rv)) hF kc ks :=
  xh_meth (cc := cX2_behind) l (by decide) (Nat.le_of_ble_eq_true rfl) (List.forall_mem_cons.mpr ⟨va_rf_cat _, List.forall_mem_cons.mpr ⟨rfl, fun _ h => absurd h List.not_mem_nil⟩⟩) fun p e s m below meth c ls C hr hnm hl hS => w_X2_behind C hr ⟨Nat.le_refl _, Nat.le_refl _⟩ N a0 a1 h _ _ _ _ _ _ _ hf hS hl
/-- SungSlidesModel.endOfSong()I -/
theorem w_X2_endOfSong (C : xh_C cX2_endOfSong 1 "SungSlidesModel" D g p s m args meth c) (hr : meth.sig.returnType = (Option.some Jvm.ClassFile.FieldType.int)) (hR : 2 ≤ R.frames ∧ 43 ≤ R.locals) {rv : Int32} {hF : xh_H} (N : Nat) (a0 : Option Nat)  (h : xh_H) (H : Heap) (locs : List Loc) (cells slots kc ks : Nat) (ls : Array Slot) (hf : f_X2_endOfSong N a0 h = some (rv, hF, kc, ks)) (hS : xh_T D g s R h H locs cells slots kc ks) (hl : xh_L ls 1 [(0, va_rf a0)]) : W p l e R s m args below meth c H locs cells slots (MQ below (xh_Q D g (some (.int rv)) hF) args s R.cells R.slots (xh_A g)) (F0 m 0 ls []) := by
  have hx := C.1
  have hb := C.2.1
  unfold f_X2_endOfSong at hf
  refine xr_aload_n C dX2_endOfSong_0 rfl (hl.at 0 rfl) ?_
  refine xr_aload_n C dX2_endOfSong_1 rfl (hl.at 0 rfl) ?_
  refine xr_getR C hS xf_X2 0 (by decide) q817 (fun _ h => h) hf dX2_endOfSong_2 (fun x2 hf => ?_)
  refine lv_iconst (v := 5) hx hb dX2_endOfSong_5 xi_c5 ?_
  refine xr_iald C hS hf dX2_endOfSong_6 (fun x6 hf => ?_)
  refine lv_iconst (v := 1) hx hb dX2_endOfSong_7 xi_c1 ?_
  refine lv_isub hx hb dX2_endOfSong_8 ?_
  refine xr_V (V := fun v => some (.int v)) (n := 1) (fr := 1) (lo := 22) (As := [.int (x6 - (1 : Int32))]) C hS xf_X2 (lw_V q884 q886 qs22 q60 q887) hdv_X2_behind ⟨Nat.le_trans (Nat.le_of_ble_eq_true rfl) hR.1, Nat.le_trans (Nat.le_of_ble_eq_true rfl) hR.2⟩ rfl hl.1.1 rfl xm_r0 hf (fun v h1 k1 n1 e1 => ct_X2_behind l D N e1) dX2_endOfSong_9 (fun x9 h H locs cells slots kc ks hS hf => ?_)
  refine W.eq (g2 := F0 m 12 ls [.int x9]) rfl ?_
  exact xr_iret C hS hr hf dX2_endOfSong_12
theorem ct_X2_endOfSong (l : Launch) (D : xh_D) {rv : Int32} {h hF : xh_H} {kc ks : Nat} (N : Nat) {a0 : Option Nat} (hf : f_X2_endOfSong N a0 h = some (rv, hF, kc, ks)) : xh_Ct l D yX2_endOfSong (ws_ yX2_endOfSong cX2_endOfSong 1 (Option.some Jvm.ClassFile.FieldType.int)) 2 43 [va_rf a0] h (some (.int rv)) hF kc ks :=
  xh_meth (cc := cX2_endOfSong) l (by decide) (Nat.le_of_ble_eq_true rfl) (List.forall_mem_cons.mpr ⟨va_rf_cat _, fun _ h => absurd h List.not_mem_nil⟩) fun p e s m below meth c ls C hr hnm hl hS => w_X2_endOfSong C hr ⟨Nat.le_refl _, Nat.le_refl _⟩ N a0 h _ _ _ _ _ _ _ hf hS hl
theorem w_X2_in_b14 (C : xh_C cX2_in 3 "SungSlidesModel" D g p s m args meth c) (hr : meth.sig.returnType = (Option.some Jvm.ClassFile.FieldType.boolean)) (hR : 0 ≤ R.frames ∧ 0 ≤ R.locals) {rv : Int32} {hF : xh_H} (N : Nat) : ∀ (h : xh_H) (H : Heap) (locs : List Loc) (cells slots kc ks : Nat) (ls : Array Slot), f_X2_in_b14 N  h = some (rv, hF, kc, ks) → xh_T D g s R h H locs cells slots kc ks → xh_L ls 3 [] → W p l e R s m args below meth c H locs cells slots (MQ below (xh_Q D g (some (.int rv)) hF) args s R.cells R.slots (xh_A g)) (F0 m 14 ls []) := by
  intro  h H locs cells slots kc ks ls hf hS hl
  have hx := C.1
  have hb := C.2.1
  unfold f_X2_in_b14 at hf
  refine lv_iconst (v := 0) hx hb dX2_in_14 xi_c0 ?_
  exact xr_zret1 C hS hr (by decide) hf dX2_in_15
/-- SungSlidesModel.in(III)Z -/
theorem w_X2_in (C : xh_C cX2_in 3 "SungSlidesModel" D g p s m args meth c) (hr : meth.sig.returnType = (Option.some Jvm.ClassFile.FieldType.boolean)) (hR : 0 ≤ R.frames ∧ 0 ≤ R.locals) {rv : Int32} {hF : xh_H} (N : Nat) (a0 : Int32) (a1 : Int32) (a2 : Int32)  (h : xh_H) (H : Heap) (locs : List Loc) (cells slots kc ks : Nat) (ls : Array Slot) (hf : f_X2_in N a0 a1 a2 h = some (rv, hF, kc, ks)) (hS : xh_T D g s R h H locs cells slots kc ks) (hl : xh_L ls 3 [(0, .int a0), (1, .int a1), (2, .int a2)]) : W p l e R s m args below meth c H locs cells slots (MQ below (xh_Q D g (some (.int rv)) hF) args s R.cells R.slots (xh_A g)) (F0 m 0 ls []) := by
  have hx := C.1
  have hb := C.2.1
  unfold f_X2_in at hf
  refine lv_iload_n hx hb dX2_in_0 rfl (hl.at 0 rfl) ?_
  refine lv_iload_n hx hb dX2_in_1 rfl (hl.at 1 rfl) ?_
  refine lv_icmp_lt (tgt := 14) hx hb dX2_in_2 (by decide) (fun c2 => ?_) (fun c2 => ?_)
  · replace hf := xb_pos c2 hf
    exact w_X2_in_b14 C hr hR N  h H locs cells slots kc ks ls hf hS (hl.sub [] rfl)
  · replace hf := xb_neg c2 hf
    refine lv_iload_n hx hb dX2_in_5 rfl (hl.at 0 rfl) ?_
    refine lv_iload_n hx hb dX2_in_6 rfl (hl.at 2 rfl) ?_
    refine lv_icmp_gt (tgt := 14) hx hb dX2_in_7 (by decide) (fun c7 => ?_) (fun c7 => ?_)
    · replace hf := xb_pos c7 hf
      exact w_X2_in_b14 C hr hR N  h H locs cells slots kc ks ls hf hS (hl.sub [] rfl)
    · replace hf := xb_neg c7 hf
      refine lv_iconst (v := 1) hx hb dX2_in_10 xi_c1 ?_
      refine lv_goto (tgt := 15) hx hb dX2_in_11 (by decide) ?_
      exact xr_zret1 C hS hr (by decide) hf dX2_in_15
theorem ct_X2_in (l : Launch) (D : xh_D) {rv : Int32} {h hF : xh_H} {kc ks : Nat} (N : Nat) {a0 : Int32} {a1 : Int32} {a2 : Int32} (hf : f_X2_in N a0 a1 a2 h = some (rv, hF, kc, ks)) : xh_Ct l D yX2_in (ws_ yX2_in cX2_in 3 (Option.some Jvm.ClassFile.FieldType.boolean)) 0 0 [.int a0, .int a1, .int a2] h (some (.int rv)) hF kc ks :=
  xh_meth (cc := cX2_in) l (by decide) (Nat.le_of_ble_eq_true rfl) (List.forall_mem_cons.mpr ⟨rfl, List.forall_mem_cons.mpr ⟨rfl, List.forall_mem_cons.mpr ⟨rfl, fun _ h => absurd h List.not_mem_nil⟩⟩⟩) fun p e s m below meth c ls C hr hnm hl hS => w_X2_in C hr ⟨Nat.le_refl _, Nat.le_refl _⟩ N a0 a1 a2 h _ _ _ _ _ _ _ hf hS hl
theorem w_X2_addError_b52 (C : xh_C cX2_addError 4 "SungSlidesModel" D g p s m args meth c) (hr : meth.sig.returnType = (Option.some Jvm.ClassFile.FieldType.int)) (hR : 3 ≤ R.frames ∧ 63 ≤ R.locals) {rv : Int32} {hF : xh_H} (N : Nat) : ∀ (h : xh_H) (H : Heap) (locs : List Loc) (cells slots kc ks : Nat) (ls : Array Slot), f_X2_addError_b52 N  h = some (rv, hF, kc, ks) → xh_T D g s R h H locs cells slots kc ks → xh_L ls 4 [] → W p l e R s m args below meth c H locs cells slots (MQ below (xh_Q D g (some (.int rv)) hF) args s R.cells R.slots (xh_A g)) (F0 m 52 ls []) := by
  intro  h H locs cells slots kc ks ls hf hS hl
  have hx := C.1
  have hb := C.2.1
  unfold f_X2_addError_b52 at hf
  refine lv_bipush (v := -3) hx hb dX2_addError_52 xi_bm3 ?_
  refine lv_goto (tgt := 58) hx hb dX2_addError_54 (by decide) ?_
  exact xr_iret C hS hr hf dX2_addError_58
theorem w_X2_addError_b24 (C : xh_C cX2_addError 4 "SungSlidesModel" D g p s m args meth c) (hr : meth.sig.returnType = (Option.some Jvm.ClassFile.FieldType.int)) (hR : 3 ≤ R.frames ∧ 63 ≤ R.locals) {rv : Int32} {hF : xh_H} (N : Nat) : ∀ (h : xh_H) (H : Heap) (locs : List Loc) (cells slots kc ks : Nat) (ls : Array Slot), f_X2_addError_b24 N  h = some (rv, hF, kc, ks) → xh_T D g s R h H locs cells slots kc ks → xh_L ls 4 [] → W p l e R s m args below meth c H locs cells slots (MQ below (xh_Q D g (some (.int rv)) hF) args s R.cells R.slots (xh_A g)) (F0 m 24 ls []) := by
  intro  h H locs cells slots kc ks ls hf hS hl
  have hx := C.1
  have hb := C.2.1
  unfold f_X2_addError_b24 at hf
  refine lv_bipush (v := -2) hx hb dX2_addError_24 xi_bm2 ?_
  exact xr_iret C hS hr hf dX2_addError_26
/-- SungSlidesModel.addError(III)I -/
theorem w_X2_addError (C : xh_C cX2_addError 4 "SungSlidesModel" D g p s m args meth c) (hr : meth.sig.returnType = (Option.some Jvm.ClassFile.FieldType.int)) (hR : 3 ≤ R.frames ∧ 63 ≤ R.locals) {rv : Int32} {hF : xh_H} (N : Nat) (a0 : Option Nat) (a1 : Int32) (a2 : Int32) (a3 : Int32)  (h : xh_H) (H : Heap) (locs : List Loc) (cells slots kc ks : Nat) (ls : Array Slot) (hf : f_X2_addError N a0 a1 a2 a3 h = some (rv, hF, kc, ks)) (hS : xh_T D g s R h H locs cells slots kc ks) (hl : xh_L ls 4 [(0, va_rf a0), (1, .int a1), (2, .int a2), (3, .int a3)]) : W p l e R s m args below meth c H locs cells slots (MQ below (xh_Q D g (some (.int rv)) hF) args s R.cells R.slots (xh_A g)) (F0 m 0 ls []) := by
  have hx := C.1
  have hb := C.2.1
  unfold f_X2_addError at hf
  refine lv_iload_n hx hb dX2_addError_0 rfl (hl.at 1 rfl) ?_
  refine lv_iconst (v := 0) hx hb dX2_addError_1 xi_c0 ?_
  refine lv_bipush (v := 32) hx hb dX2_addError_2 xi_b32 ?_
  refine xr_S (V := fun v => some (.int v)) (n := 3) (fr := 0) (lo := 0) (As := [.int a1, .int (0 : Int32), .int (32 : Int32)]) C hS (lw_S q873 q874 q60 q875) hd_X2_in ⟨Nat.le_trans (Nat.le_of_ble_eq_true rfl) hR.1, Nat.le_trans (Nat.le_of_ble_eq_true rfl) hR.2⟩ rfl hl.1.1 rfl xm_r0 hf (fun v h1 k1 n1 e1 => ct_X2_in l D N e1) dX2_addError_4 (fun x4 h H locs cells slots kc ks hS hf => ?_)
  refine W.eq (g2 := F0 m 7 ls [.int x4]) rfl ?_
  refine lv_if_eq (tgt := 24) hx hb dX2_addError_7 (by decide) (fun c7 => ?_) (fun c7 => ?_)
  · replace hf := xb_pos c7 hf
    exact w_X2_addError_b24 C hr hR N  h H locs cells slots kc ks ls hf hS (hl.sub [] rfl)
  · replace hf := xb_neg c7 hf
    refine lv_iload_n hx hb dX2_addError_10 rfl (hl.at 2 rfl) ?_
    refine lv_if_lt (tgt := 24) hx hb dX2_addError_11 (by decide) (fun c11 => ?_) (fun c11 => ?_)
    · replace hf := xb_pos c11 hf
      exact w_X2_addError_b24 C hr hR N  h H locs cells slots kc ks ls hf hS (hl.sub [] rfl)
    · replace hf := xb_neg c11 hf
      refine lv_iload_n hx hb dX2_addError_14 rfl (hl.at 3 rfl) ?_
      refine lv_iconst (v := 1) hx hb dX2_addError_15 xi_c1 ?_
      refine lv_bipush (v := 32) hx hb dX2_addError_16 xi_b32 ?_
      refine xr_S (V := fun v => some (.int v)) (n := 3) (fr := 0) (lo := 0) (As := [.int a3, .int (1 : Int32), .int (32 : Int32)]) C hS (lw_S q873 q874 q60 q875) hd_X2_in ⟨Nat.le_trans (Nat.le_of_ble_eq_true rfl) hR.1, Nat.le_trans (Nat.le_of_ble_eq_true rfl) hR.2⟩ rfl hl.1.1 rfl xm_r0 hf (fun v h1 k1 n1 e1 => ct_X2_in l D N e1) dX2_addError_18 (fun x18 h H locs cells slots kc ks hS hf => ?_)
      refine W.eq (g2 := F0 m 21 ls [.int x18]) rfl ?_
      refine lv_if_ne (tgt := 27) hx hb dX2_addError_21 (by decide) (fun c21 => ?_) (fun c21 => ?_)
      · replace hf := xb_neg c21 hf
        refine xr_aload_n C dX2_addError_27 rfl (hl.at 0 rfl) ?_
        refine xr_getR C hS xf_X2 0 (by decide) q817 (fun _ h => h) hf dX2_addError_28 (fun x28 hf => ?_)
        refine lv_iconst (v := 5) hx hb dX2_addError_31 xi_c5 ?_
        refine xr_iald C hS hf dX2_addError_32 (fun x32 hf => ?_)
        refine lv_bipush (v := 40) hx hb dX2_addError_33 xi_b40 ?_
        refine lv_icmp_eq (tgt := 52) hx hb dX2_addError_35 (by decide) (fun c35 => ?_) (fun c35 => ?_)
        · replace hf := xb_pos c35 hf
          exact w_X2_addError_b52 C hr hR N  h H locs cells slots kc ks ls hf hS (hl.sub [] rfl)
        · replace hf := xb_neg c35 hf
          refine xr_aload_n C dX2_addError_38 rfl (hl.at 0 rfl) ?_
          refine xr_V (V := fun v => some (.int v)) (n := 0) (fr := 2) (lo := 43) (As := []) C hS xf_X2 (lw_V q880 q882 qs21 q60 q883) hdv_X2_endOfSong ⟨Nat.le_trans (Nat.le_of_ble_eq_true rfl) hR.1, Nat.le_trans (Nat.le_of_ble_eq_true rfl) hR.2⟩ rfl hl.1.1 rfl xm_r0 hf (fun v h1 k1 n1 e1 => ct_X2_endOfSong l D N e1) dX2_addError_39 (fun x39 h H locs cells slots kc ks hS hf => ?_)
          refine W.eq (g2 := F0 m 42 ls [.int x39]) rfl ?_
          refine lv_iload_n hx hb dX2_addError_42 rfl (hl.at 1 rfl) ?_
          refine lv_iadd hx hb dX2_addError_43 ?_
          refine lv_iload_n hx hb dX2_addError_44 rfl (hl.at 3 rfl) ?_
          refine lv_iadd hx hb dX2_addError_45 ?_
          refine lv_sipush (v := 600) hx hb dX2_addError_46 xi_s600 ?_
          refine lv_icmp_le (tgt := 57) hx hb dX2_addError_49 (by decide) (fun c49 => ?_) (fun c49 => ?_)
          · replace hf := xb_pos c49 hf
            refine lv_iconst (v := 0) hx hb dX2_addError_57 xi_c0 ?_
            exact xr_iret C hS hr hf dX2_addError_58
          · replace hf := xb_neg c49 hf
            exact w_X2_addError_b52 C hr hR N  h H locs cells slots kc ks ls hf hS (hl.sub [] rfl)
      · replace hf := xb_pos c21 hf
        exact w_X2_addError_b24 C hr hR N  h H locs cells slots kc ks ls hf hS (hl.sub [] rfl)
theorem ct_X2_addError (l : Launch) (D : xh_D) {rv : Int32} {h hF : xh_H} {kc ks : Nat} (N : Nat) {a0 : Option Nat} {a1 : Int32} {a2 : Int32} {a3 : Int32} (hf : f_X2_addError N a0 a1 a2 a3 h = some (rv, hF, kc, ks)) : xh_Ct l D yX2_addError (ws_ yX2_addError cX2_addError 4 (Option.some Jvm.ClassFile.FieldType.int)) 3 63 [va_rf a0, .int a1, .int a2, .int a3] h (some (.int rv)) hF kc ks :=
  xh_meth (cc := cX2_addError) l (by decide) (Nat.le_of_ble_eq_true rfl) (List.forall_mem_cons.mpr ⟨va_rf_cat _, List.forall_mem_cons.mpr ⟨rfl, List.forall_mem_cons.mpr ⟨rfl, List.forall_mem_cons.mpr ⟨rfl, fun _ h => absurd h List.not_mem_nil⟩⟩⟩⟩) fun p e s m below meth c ls C hr hnm hl hS => w_X2_addError C hr ⟨Nat.le_refl _, Nat.le_refl _⟩ N a0 a1 a2 a3 h _ _ _ _ _ _ _ hf hS hl
/-- SungSlidesModel.lay(III)V -/
theorem w_X2_lay (C : xh_C cX2_lay 4 "SungSlidesModel" D g p s m args meth c) (hr : meth.sig.returnType = (Option.none : Option Jvm.ClassFile.FieldType)) (hR : 0 ≤ R.frames ∧ 0 ≤ R.locals) {rv : Unit} {hF : xh_H} (N : Nat) (a0 : Option Nat) (a1 : Int32) (a2 : Int32) (a3 : Int32)  (h : xh_H) (H : Heap) (locs : List Loc) (cells slots kc ks : Nat) (ls : Array Slot) (hf : f_X2_lay N a0 a1 a2 a3 h = some (rv, hF, kc, ks)) (hS : xh_T D g s R h H locs cells slots kc ks) (hl : xh_L ls 4 [(0, va_rf a0), (1, .int a1), (2, .int a2), (3, .int a3)]) : W p l e R s m args below meth c H locs cells slots (MQ below (xh_Q D g none hF) args s R.cells R.slots (xh_A g)) (F0 m 0 ls []) := by
  have hx := C.1
  have hb := C.2.1
  unfold f_X2_lay at hf
  refine xr_aload_n C dX2_lay_0 rfl (hl.at 0 rfl) ?_
  refine xr_getR C hS xf_X2 0 (by decide) q817 (fun _ h => h) hf dX2_lay_1 (fun x1 hf => ?_)
  refine lv_bipush (v := 6) hx hb dX2_lay_4 xi_b6 ?_
  refine lv_iconst (v := 5) hx hb dX2_lay_6 xi_c5 ?_
  refine lv_iload_n hx hb dX2_lay_7 rfl (hl.at 1 rfl) ?_
  refine lv_imul hx hb dX2_lay_8 ?_
  refine lv_iadd hx hb dX2_lay_9 ?_
  refine lv_iload_n hx hb dX2_lay_10 rfl (hl.at 2 rfl) ?_
  refine lv_iadd hx hb dX2_lay_11 ?_
  refine lv_iload_n hx hb dX2_lay_12 rfl (hl.at 3 rfl) ?_
  refine xr_iast C hS hf dX2_lay_13 (fun h H locs hS hf => ?_)
  exact xr_vret C hS hr hf dX2_lay_14
theorem ct_X2_lay (l : Launch) (D : xh_D) {rv : Unit} {h hF : xh_H} {kc ks : Nat} (N : Nat) {a0 : Option Nat} {a1 : Int32} {a2 : Int32} {a3 : Int32} (hf : f_X2_lay N a0 a1 a2 a3 h = some (rv, hF, kc, ks)) : xh_Ct l D yX2_lay (ws_ yX2_lay cX2_lay 4 (Option.none : Option Jvm.ClassFile.FieldType)) 0 0 [va_rf a0, .int a1, .int a2, .int a3] h none hF kc ks :=
  xh_meth (cc := cX2_lay) l (by decide) (Nat.le_of_ble_eq_true rfl) (List.forall_mem_cons.mpr ⟨va_rf_cat _, List.forall_mem_cons.mpr ⟨rfl, List.forall_mem_cons.mpr ⟨rfl, List.forall_mem_cons.mpr ⟨rfl, fun _ h => absurd h List.not_mem_nil⟩⟩⟩⟩) fun p e s m below meth c ls C hr hnm hl hS => w_X2_lay C hr ⟨Nat.le_refl _, Nat.le_refl _⟩ N a0 a1 a2 a3 h _ _ _ _ _ _ _ hf hS hl
theorem w_X2_doAdd_b61 (C : xh_C cX2_doAdd 7 "SungSlidesModel" D g p s m args meth c) (hr : meth.sig.returnType = (Option.some Jvm.ClassFile.FieldType.int)) (hR : 3 ≤ R.frames ∧ 63 ≤ R.locals) {rv : Int32} {hF : xh_H} (N : Nat) : ∀ (a0 : Option Nat) (a6 : Int32) (t0 : Option Nat) (t1 : Int32) (t2 : Int32) (t3 : Int32) (h : xh_H) (H : Heap) (locs : List Loc) (cells slots kc ks : Nat) (ls : Array Slot), f_X2_doAdd_b61 N a0 a6 t0 t1 t2 t3 h = some (rv, hF, kc, ks) → xh_T D g s R h H locs cells slots kc ks → xh_L ls 7 [(0, va_rf a0), (6, .int a6)] → W p l e R s m args below meth c H locs cells slots (MQ below (xh_Q D g (some (.int rv)) hF) args s R.cells R.slots (xh_A g)) (F0 m 61 ls [.int t3, .int t2, .int t1, va_rf t0]) := by
  intro a0 a6 t0 t1 t2 t3 h H locs cells slots kc ks ls hf hS hl
  have hx := C.1
  have hb := C.2.1
  unfold f_X2_doAdd_b61 at hf
  refine xr_V (V := fun _ => none) (n := 3) (fr := 0) (lo := 0) (As := [.int t1, .int t2, .int t3]) C hS xf_X2 (lw_V q903 q905 qs26 q60 q906) hdv_X2_lay ⟨Nat.le_trans (Nat.le_of_ble_eq_true rfl) hR.1, Nat.le_trans (Nat.le_of_ble_eq_true rfl) hR.2⟩ rfl hl.1.1 rfl xm_r0 hf (fun v h1 k1 n1 e1 => ct_X2_lay l D N e1) dX2_doAdd_61 (fun _ h H locs cells slots kc ks hS hf => ?_)
  refine W.eq (g2 := F0 m 64 ls []) rfl ?_
  refine xr_aload_n C dX2_doAdd_64 rfl (hl.at 0 rfl) ?_
  refine xr_getR C hS xf_X2 0 (by decide) q817 (fun _ h => h) hf dX2_doAdd_65 (fun x65 hf => ?_)
  refine lv_iconst (v := 5) hx hb dX2_doAdd_68 xi_c5 ?_
  refine lv_dup2_11 hx hb dX2_doAdd_69 rfl (va_rf_cat _) ?_
  refine xr_iald C hS hf dX2_doAdd_70 (fun x70 hf => ?_)
  refine lv_iconst (v := 1) hx hb dX2_doAdd_71 xi_c1 ?_
  refine lv_iadd hx hb dX2_doAdd_72 ?_
  refine xr_iast C hS hf dX2_doAdd_73 (fun h H locs hS hf => ?_)
  refine xr_aload_n C dX2_doAdd_74 rfl (hl.at 0 rfl) ?_
  refine lv_iload hx hb dX2_doAdd_75 (hl.at 1 rfl) ?_
  refine lv_iconst (v := 0) hx hb dX2_doAdd_77 xi_c0 ?_
  refine xr_V (V := fun v => some (.int v)) (n := 2) (fr := 0) (lo := 0) (As := [.int a6, .int (0 : Int32)]) C hS xf_X2 (lw_V q888 q890 qs23 q60 q891) hdv_X2_of ⟨Nat.le_trans (Nat.le_of_ble_eq_true rfl) hR.1, Nat.le_trans (Nat.le_of_ble_eq_true rfl) hR.2⟩ rfl hl.1.1 rfl xm_r0 hf (fun v h1 k1 n1 e1 => ct_X2_of l D N e1) dX2_doAdd_78 (fun x78 h H locs cells slots kc ks hS hf => ?_)
  refine W.eq (g2 := F0 m 81 ls [.int x78]) rfl ?_
  exact xr_iret C hS hr hf dX2_doAdd_81
/-- SungSlidesModel.doAdd(IIIII)I -/
theorem w_X2_doAdd (C : xh_C cX2_doAdd 7 "SungSlidesModel" D g p s m args meth c) (hr : meth.sig.returnType = (Option.some Jvm.ClassFile.FieldType.int)) (hR : 3 ≤ R.frames ∧ 63 ≤ R.locals) {rv : Int32} {hF : xh_H} (N : Nat) (a0 : Option Nat) (a1 : Int32) (a2 : Int32) (a3 : Int32) (a4 : Int32) (a5 : Int32)  (h : xh_H) (H : Heap) (locs : List Loc) (cells slots kc ks : Nat) (ls : Array Slot) (hf : f_X2_doAdd N a0 a1 a2 a3 a4 a5 h = some (rv, hF, kc, ks)) (hS : xh_T D g s R h H locs cells slots kc ks) (hl : xh_L ls 7 [(0, va_rf a0), (1, .int a1), (2, .int a2), (3, .int a3), (4, .int a4), (5, .int a5)]) : W p l e R s m args below meth c H locs cells slots (MQ below (xh_Q D g (some (.int rv)) hF) args s R.cells R.slots (xh_A g)) (F0 m 0 ls []) := by
  have hx := C.1
  have hb := C.2.1
  unfold f_X2_doAdd at hf
  refine xr_aload_n C dX2_doAdd_0 rfl (hl.at 0 rfl) ?_
  refine xr_getR C hS xf_X2 0 (by decide) q817 (fun _ h => h) hf dX2_doAdd_1 (fun x1 hf => ?_)
  refine lv_iconst (v := 5) hx hb dX2_doAdd_4 xi_c5 ?_
  refine xr_iald C hS hf dX2_doAdd_5 (fun x5 hf => ?_)
  refine xr_istore C dX2_doAdd_6 hl (Nat.le_of_ble_eq_true rfl) (lv' := [(6, .int x5), (0, va_rf a0), (1, .int a1), (2, .int a2), (3, .int a3), (4, .int a4), (5, .int a5)]) rfl (fun ls hl => ?_)
  refine xr_aload_n C dX2_doAdd_8 rfl (hl.at 1 rfl) ?_
  refine lv_iload hx hb dX2_doAdd_9 (hl.at 0 rfl) ?_
  refine lv_iconst (v := 0) hx hb dX2_doAdd_11 xi_c0 ?_
  refine xr_aload_n C dX2_doAdd_12 rfl (hl.at 1 rfl) ?_
  refine xr_V (V := fun v => some (.int v)) (n := 0) (fr := 2) (lo := 43) (As := []) C hS xf_X2 (lw_V q880 q882 qs21 q60 q883) hdv_X2_endOfSong ⟨Nat.le_trans (Nat.le_of_ble_eq_true rfl) hR.1, Nat.le_trans (Nat.le_of_ble_eq_true rfl) hR.2⟩ rfl hl.1.1 rfl (xm_rc rfl (xm_rc rfl (xm_rc (va_rf_cat _) xm_r0))) hf (fun v h1 k1 n1 e1 => ct_X2_endOfSong l D N e1) dX2_doAdd_13 (fun x13 h H locs cells slots kc ks hS hf => ?_)
  refine W.eq (g2 := F0 m 16 ls [.int x13, .int (0 : Int32), .int x5, va_rf a0]) rfl ?_
  refine lv_iload_n hx hb dX2_doAdd_16 rfl (hl.at 2 rfl) ?_
  refine lv_iadd hx hb dX2_doAdd_17 ?_
  refine xr_V (V := fun _ => none) (n := 3) (fr := 0) (lo := 0) (As := [.int x5, .int (0 : Int32), .int (x13 + a1)]) C hS xf_X2 (lw_V q903 q905 qs26 q60 q906) hdv_X2_lay ⟨Nat.le_trans (Nat.le_of_ble_eq_true rfl) hR.1, Nat.le_trans (Nat.le_of_ble_eq_true rfl) hR.2⟩ rfl hl.1.1 rfl xm_r0 hf (fun v h1 k1 n1 e1 => ct_X2_lay l D N e1) dX2_doAdd_18 (fun _ h H locs cells slots kc ks hS hf => ?_)
  refine W.eq (g2 := F0 m 21 ls []) rfl ?_
  refine xr_aload_n C dX2_doAdd_21 rfl (hl.at 1 rfl) ?_
  refine lv_iload hx hb dX2_doAdd_22 (hl.at 0 rfl) ?_
  refine lv_iconst (v := 1) hx hb dX2_doAdd_24 xi_c1 ?_
  refine lv_iload hx hb dX2_doAdd_25 (hl.at 5 rfl) ?_
  refine xr_V (V := fun _ => none) (n := 3) (fr := 0) (lo := 0) (As := [.int x5, .int (1 : Int32), .int a4]) C hS xf_X2 (lw_V q903 q905 qs26 q60 q906) hdv_X2_lay ⟨Nat.le_trans (Nat.le_of_ble_eq_true rfl) hR.1, Nat.le_trans (Nat.le_of_ble_eq_true rfl) hR.2⟩ rfl hl.1.1 rfl xm_r0 hf (fun v h1 k1 n1 e1 => ct_X2_lay l D N e1) dX2_doAdd_27 (fun _ h H locs cells slots kc ks hS hf => ?_)
  refine W.eq (g2 := F0 m 30 ls []) rfl ?_
  refine xr_aload_n C dX2_doAdd_30 rfl (hl.at 1 rfl) ?_
  refine lv_iload hx hb dX2_doAdd_31 (hl.at 0 rfl) ?_
  refine lv_iconst (v := 2) hx hb dX2_doAdd_33 xi_c2 ?_
  refine lv_iload_n hx hb dX2_doAdd_34 rfl (hl.at 3 rfl) ?_
  refine xr_V (V := fun _ => none) (n := 3) (fr := 0) (lo := 0) (As := [.int x5, .int (2 : Int32), .int a2]) C hS xf_X2 (lw_V q903 q905 qs26 q60 q906) hdv_X2_lay ⟨Nat.le_trans (Nat.le_of_ble_eq_true rfl) hR.1, Nat.le_trans (Nat.le_of_ble_eq_true rfl) hR.2⟩ rfl hl.1.1 rfl xm_r0 hf (fun v h1 k1 n1 e1 => ct_X2_lay l D N e1) dX2_doAdd_35 (fun _ h H locs cells slots kc ks hS hf => ?_)
  refine W.eq (g2 := F0 m 38 ls []) rfl ?_
  refine xr_aload_n C dX2_doAdd_38 rfl (hl.at 1 rfl) ?_
  refine lv_iload hx hb dX2_doAdd_39 (hl.at 0 rfl) ?_
  refine lv_iconst (v := 3) hx hb dX2_doAdd_41 xi_c3 ?_
  refine lv_iload_n hx hb dX2_doAdd_42 rfl (hl.at 4 rfl) ?_
  refine xr_V (V := fun _ => none) (n := 3) (fr := 0) (lo := 0) (As := [.int x5, .int (3 : Int32), .int a3]) C hS xf_X2 (lw_V q903 q905 qs26 q60 q906) hdv_X2_lay ⟨Nat.le_trans (Nat.le_of_ble_eq_true rfl) hR.1, Nat.le_trans (Nat.le_of_ble_eq_true rfl) hR.2⟩ rfl hl.1.1 rfl xm_r0 hf (fun v h1 k1 n1 e1 => ct_X2_lay l D N e1) dX2_doAdd_43 (fun _ h H locs cells slots kc ks hS hf => ?_)
  refine W.eq (g2 := F0 m 46 ls []) rfl ?_
  refine xr_aload_n C dX2_doAdd_46 rfl (hl.at 1 rfl) ?_
  refine lv_iload hx hb dX2_doAdd_47 (hl.at 0 rfl) ?_
  refine lv_iconst (v := 4) hx hb dX2_doAdd_49 xi_c4 ?_
  refine lv_iload hx hb dX2_doAdd_50 (hl.at 0 rfl) ?_
  refine lv_if_ne (tgt := 59) hx hb dX2_doAdd_52 (by decide) (fun c52 => ?_) (fun c52 => ?_)
  · replace hf := xb_neg c52 hf
    refine lv_iload hx hb dX2_doAdd_59 (hl.at 6 rfl) ?_
    exact w_X2_doAdd_b61 C hr hR N a0 x5 a0 x5 (4 : Int32) a5 h H locs cells slots kc ks ls hf hS (hl.sub [1, 0] rfl)
  · replace hf := xb_pos c52 hf
    refine lv_iconst (v := 1) hx hb dX2_doAdd_55 xi_c1 ?_
    refine lv_goto (tgt := 61) hx hb dX2_doAdd_56 (by decide) ?_
    exact w_X2_doAdd_b61 C hr hR N a0 x5 a0 x5 (4 : Int32) (1 : Int32) h H locs cells slots kc ks ls hf hS (hl.sub [1, 0] rfl)
theorem ct_X2_doAdd (l : Launch) (D : xh_D) {rv : Int32} {h hF : xh_H} {kc ks : Nat} (N : Nat) {a0 : Option Nat} {a1 : Int32} {a2 : Int32} {a3 : Int32} {a4 : Int32} {a5 : Int32} (hf : f_X2_doAdd N a0 a1 a2 a3 a4 a5 h = some (rv, hF, kc, ks)) : xh_Ct l D yX2_doAdd (ws_ yX2_doAdd cX2_doAdd 7 (Option.some Jvm.ClassFile.FieldType.int)) 3 63 [va_rf a0, .int a1, .int a2, .int a3, .int a4, .int a5] h (some (.int rv)) hF kc ks :=
  xh_meth (cc := cX2_doAdd) l (by decide) (Nat.le_of_ble_eq_true rfl) (List.forall_mem_cons.mpr ⟨va_rf_cat _, List.forall_mem_cons.mpr ⟨rfl, List.forall_mem_cons.mpr ⟨rfl, List.forall_mem_cons.mpr ⟨rfl, List.forall_mem_cons.mpr ⟨rfl, List.forall_mem_cons.mpr ⟨rfl, fun _ h => absurd h List.not_mem_nil⟩⟩⟩⟩⟩⟩) fun p e s m below meth c ls C hr hnm hl hS => w_X2_doAdd C hr ⟨Nat.le_refl _, Nat.le_refl _⟩ N a0 a1 a2 a3 a4 a5 h _ _ _ _ _ _ _ hf hS hl
/-- SungSlidesModel.isPitch(I)Z -/
theorem w_X2_isPitch (C : xh_C cX2_isPitch 1 "SungSlidesModel" D g p s m args meth c) (hr : meth.sig.returnType = (Option.some Jvm.ClassFile.FieldType.boolean)) (hR : 1 ≤ R.frames ∧ 22 ≤ R.locals) {rv : Int32} {hF : xh_H} (N : Nat) (a0 : Int32)  (h : xh_H) (H : Heap) (locs : List Loc) (cells slots kc ks : Nat) (ls : Array Slot) (hf : f_X2_isPitch N a0 h = some (rv, hF, kc, ks)) (hS : xh_T D g s R h H locs cells slots kc ks) (hl : xh_L ls 1 [(0, .int a0)]) : W p l e R s m args below meth c H locs cells slots (MQ below (xh_Q D g (some (.int rv)) hF) args s R.cells R.slots (xh_A g)) (F0 m 0 ls []) := by
  have hx := C.1
  have hb := C.2.1
  unfold f_X2_isPitch at hf
  refine lv_iload_n hx hb dX2_isPitch_0 rfl (hl.at 0 rfl) ?_
  refine lv_iconst (v := 0) hx hb dX2_isPitch_1 xi_c0 ?_
  refine lv_bipush (v := 60) hx hb dX2_isPitch_2 xi_b60 ?_
  refine xr_S (V := fun v => some (.int v)) (n := 3) (fr := 0) (lo := 0) (As := [.int a0, .int (0 : Int32), .int (60 : Int32)]) C hS (lw_S q873 q874 q60 q875) hd_X2_in ⟨Nat.le_trans (Nat.le_of_ble_eq_true rfl) hR.1, Nat.le_trans (Nat.le_of_ble_eq_true rfl) hR.2⟩ rfl hl.1.1 rfl xm_r0 hf (fun v h1 k1 n1 e1 => ct_X2_in l D N e1) dX2_isPitch_4 (fun x4 h H locs cells slots kc ks hS hf => ?_)
  refine W.eq (g2 := F0 m 7 ls [.int x4]) rfl ?_
  exact xr_zret C hS hr hf dX2_isPitch_7
theorem ct_X2_isPitch (l : Launch) (D : xh_D) {rv : Int32} {h hF : xh_H} {kc ks : Nat} (N : Nat) {a0 : Int32} (hf : f_X2_isPitch N a0 h = some (rv, hF, kc, ks)) : xh_Ct l D yX2_isPitch (ws_ yX2_isPitch cX2_isPitch 1 (Option.some Jvm.ClassFile.FieldType.boolean)) 1 22 [.int a0] h (some (.int rv)) hF kc ks :=
  xh_meth (cc := cX2_isPitch) l (by decide) (Nat.le_of_ble_eq_true rfl) (List.forall_mem_cons.mpr ⟨rfl, fun _ h => absurd h List.not_mem_nil⟩) fun p e s m below meth c ls C hr hnm hl hS => w_X2_isPitch C hr ⟨Nat.le_refl _, Nat.le_refl _⟩ N a0 h _ _ _ _ _ _ _ hf hS hl
def K_X2_copy_3 (p : Program) (l : Launch) (e : Env) (s : State) (m : MethodId) (args : Array Value) (below : List Frame) (meth : Method) (c : Code) (D : xh_D) (g : Nat → Nat) (R : Room) (rv : Unit) (hF : xh_H) (k : Option Nat → Int32 → Option Nat → Int32 → Int32 → xh_H → xh_R Unit) : Prop := ∀ (a0 : Option Nat) (a1 : Int32) (a2 : Option Nat) (a3 : Int32) (a4 : Int32) (h : xh_H) (H : Heap) (locs : List Loc) (cells slots kc ks : Nat) (ls : Array Slot), k a0 a1 a2 a3 a4 h = some (rv, hF, kc, ks) → xh_T D g s R h H locs cells slots kc ks → xh_L ls 5 [(0, va_rf a0), (1, .int a1), (2, va_rf a2), (3, .int a3), (4, .int a4)] → W p l e R s m args below meth c H locs cells slots (MQ below (xh_Q D g none hF) args s R.cells R.slots (xh_A g)) (F0 m 3 ls [])
theorem w_X2_copy_b3 (C : xh_C cX2_copy 5 "SungSlidesModel" D g p s m args meth c) (hr : meth.sig.returnType = (Option.none : Option Jvm.ClassFile.FieldType)) (hR : 0 ≤ R.frames ∧ 0 ≤ R.locals) {rv : Unit} {hF : xh_H} (N : Nat) {k3 : Option Nat → Int32 → Option Nat → Int32 → Int32 → xh_H → xh_R Unit} (hk3 : K_X2_copy_3 p l e s m args below meth c D g R rv hF k3) : ∀ (a0 : Option Nat) (a1 : Int32) (a2 : Option Nat) (a3 : Int32) (a4 : Int32) (h : xh_H) (H : Heap) (locs : List Loc) (cells slots kc ks : Nat) (ls : Array Slot), f_X2_copy_b3 N k3 a0 a1 a2 a3 a4 h = some (rv, hF, kc, ks) → xh_T D g s R h H locs cells slots kc ks → xh_L ls 5 [(0, va_rf a0), (1, .int a1), (2, va_rf a2), (3, .int a3), (4, .int a4)] → W p l e R s m args below meth c H locs cells slots (MQ below (xh_Q D g none hF) args s R.cells R.slots (xh_A g)) (F0 m 3 ls []) := by
  intro a0 a1 a2 a3 a4 h H locs cells slots kc ks ls hf hS hl
  have hx := C.1
  have hb := C.2.1
  unfold f_X2_copy_b3 at hf
  refine lv_iload hx hb dX2_copy_3 (hl.at 4 rfl) ?_
  refine lv_sipush (v := 806) hx hb dX2_copy_5 xi_s806 ?_
  refine lv_icmp_ge (tgt := 29) hx hb dX2_copy_8 (by decide) (fun c8 => ?_) (fun c8 => ?_)
  · replace hf := xb_pos c8 hf
    exact xr_vret C hS hr hf dX2_copy_29
  · replace hf := xb_neg c8 hf
    refine xr_aload_n C dX2_copy_11 rfl (hl.at 2 rfl) ?_
    refine lv_iload_n hx hb dX2_copy_12 rfl (hl.at 3 rfl) ?_
    refine lv_iload hx hb dX2_copy_13 (hl.at 4 rfl) ?_
    refine lv_iadd hx hb dX2_copy_15 ?_
    refine xr_aload_n C dX2_copy_16 rfl (hl.at 0 rfl) ?_
    refine lv_iload_n hx hb dX2_copy_17 rfl (hl.at 1 rfl) ?_
    refine lv_iload hx hb dX2_copy_18 (hl.at 4 rfl) ?_
    refine lv_iadd hx hb dX2_copy_20 ?_
    refine xr_iald C hS hf dX2_copy_21 (fun x21 hf => ?_)
    refine xr_iast C hS hf dX2_copy_22 (fun h H locs hS hf => ?_)
    refine xr_iinc C dX2_copy_23 hl (k := 4) rfl (xi_inc xi_c1) (Nat.le_of_ble_eq_true rfl) (lv' := [(4, .int (a4 + (1 : Int32))), (0, va_rf a0), (1, .int a1), (2, va_rf a2), (3, .int a3)]) rfl (fun ls hl => ?_)
    refine lv_goto (tgt := 3) hx hb dX2_copy_26 (by decide) ?_
    exact hk3 a0 a1 a2 a3 (a4 + (1 : Int32))  h H locs cells slots kc ks ls hf hS (hl.sub [1, 2, 3, 4, 0] rfl)
theorem w_X2_copy_l3 (C : xh_C cX2_copy 5 "SungSlidesModel" D g p s m args meth c) (hr : meth.sig.returnType = (Option.none : Option Jvm.ClassFile.FieldType)) (hR : 0 ≤ R.frames ∧ 0 ≤ R.locals) {rv : Unit} {hF : xh_H} (N : Nat) : ∀ n : Nat, K_X2_copy_3 p l e s m args below meth c D g R rv hF (f_X2_copy_l3 N n) := by
  intro n
  induction n with
  | zero => exact fun a0 a1 a2 a3 a4 h H locs cells slots kc ks ls hf => absurd (show (none : xh_R Unit) = some _ from hf) (by intro q; cases q)
  | succ n ih => exact fun a0 a1 a2 a3 a4 h H locs cells slots kc ks ls hf => w_X2_copy_b3 C hr hR N ih a0 a1 a2 a3 a4 h H locs cells slots kc ks ls hf
/-- SungSlidesModel.copy([II[II)V -/
theorem w_X2_copy (C : xh_C cX2_copy 5 "SungSlidesModel" D g p s m args meth c) (hr : meth.sig.returnType = (Option.none : Option Jvm.ClassFile.FieldType)) (hR : 0 ≤ R.frames ∧ 0 ≤ R.locals) {rv : Unit} {hF : xh_H} (N : Nat) (a0 : Option Nat) (a1 : Int32) (a2 : Option Nat) (a3 : Int32)  (h : xh_H) (H : Heap) (locs : List Loc) (cells slots kc ks : Nat) (ls : Array Slot) (hf : f_X2_copy N a0 a1 a2 a3 h = some (rv, hF, kc, ks)) (hS : xh_T D g s R h H locs cells slots kc ks) (hl : xh_L ls 5 [(0, va_rf a0), (1, .int a1), (2, va_rf a2), (3, .int a3)]) : W p l e R s m args below meth c H locs cells slots (MQ below (xh_Q D g none hF) args s R.cells R.slots (xh_A g)) (F0 m 0 ls []) := by
  have hx := C.1
  have hb := C.2.1
  unfold f_X2_copy at hf
  refine lv_iconst (v := 0) hx hb dX2_copy_0 xi_c0 ?_
  refine xr_istore C dX2_copy_1 hl (Nat.le_of_ble_eq_true rfl) (lv' := [(4, .int (0 : Int32)), (0, va_rf a0), (1, .int a1), (2, va_rf a2), (3, .int a3)]) rfl (fun ls hl => ?_)
  exact w_X2_copy_l3 C hr hR N N a0 a1 a2 a3 (0 : Int32)  h H locs cells slots kc ks ls hf hS (hl.sub [1, 2, 3, 4, 0] rfl)
theorem ct_X2_copy (l : Launch) (D : xh_D) {rv : Unit} {h hF : xh_H} {kc ks : Nat} (N : Nat) {a0 : Option Nat} {a1 : Int32} {a2 : Option Nat} {a3 : Int32} (hf : f_X2_copy N a0 a1 a2 a3 h = some (rv, hF, kc, ks)) : xh_Ct l D yX2_copy (ws_ yX2_copy cX2_copy 5 (Option.none : Option Jvm.ClassFile.FieldType)) 0 0 [va_rf a0, .int a1, va_rf a2, .int a3] h none hF kc ks :=
  xh_meth (cc := cX2_copy) l (by decide) (Nat.le_of_ble_eq_true rfl) (List.forall_mem_cons.mpr ⟨va_rf_cat _, List.forall_mem_cons.mpr ⟨rfl, List.forall_mem_cons.mpr ⟨va_rf_cat _, List.forall_mem_cons.mpr ⟨rfl, fun _ h => absurd h List.not_mem_nil⟩⟩⟩⟩) fun p e s m below meth c ls C hr hnm hl hS => w_X2_copy C hr ⟨Nat.le_refl _, Nat.le_refl _⟩ N a0 a1 a2 a3 h _ _ _ _ _ _ _ hf hS hl
def K_X2_record_10 (p : Program) (l : Launch) (e : Env) (s : State) (m : MethodId) (args : Array Value) (below : List Frame) (meth : Method) (c : Code) (D : xh_D) (g : Nat → Nat) (R : Room) (rv : Unit) (hF : xh_H) (k : Option Nat → Int32 → xh_H → xh_R Unit) : Prop := ∀ (a0 : Option Nat) (a1 : Int32) (h : xh_H) (H : Heap) (locs : List Loc) (cells slots kc ks : Nat) (ls : Array Slot), k a0 a1 h = some (rv, hF, kc, ks) → xh_T D g s R h H locs cells slots kc ks → xh_L ls 2 [(0, va_rf a0), (1, .int a1)] → W p l e R s m args below meth c H locs cells slots (MQ below (xh_Q D g none hF) args s R.cells R.slots (xh_A g)) (F0 m 10 ls [])
theorem w_X2_record_b49 (C : xh_C cX2_record 2 "SungSlidesModel" D g p s m args meth c) (hr : meth.sig.returnType = (Option.none : Option Jvm.ClassFile.FieldType)) (hR : 1 ≤ R.frames ∧ 24 ≤ R.locals) {rv : Unit} {hF : xh_H} (N : Nat) : ∀ (a0 : Option Nat) (h : xh_H) (H : Heap) (locs : List Loc) (cells slots kc ks : Nat) (ls : Array Slot), f_X2_record_b49 N a0 h = some (rv, hF, kc, ks) → xh_T D g s R h H locs cells slots kc ks → xh_L ls 2 [(0, va_rf a0)] → W p l e R s m args below meth c H locs cells slots (MQ below (xh_Q D g none hF) args s R.cells R.slots (xh_A g)) (F0 m 49 ls []) := by
  intro a0 h H locs cells slots kc ks ls hf hS hl
  have hx := C.1
  have hb := C.2.1
  unfold f_X2_record_b49 at hf
  refine xr_aload_n C dX2_record_49 rfl (hl.at 0 rfl) ?_
  refine xr_getR C hS xf_X2 0 (by decide) q817 (fun _ h => h) hf dX2_record_50 (fun x50 hf => ?_)
  refine lv_iconst (v := 0) hx hb dX2_record_53 xi_c0 ?_
  refine xr_aload_n C dX2_record_54 rfl (hl.at 0 rfl) ?_
  refine xr_getR C hS xf_X2 1 (by decide) q818 (fun _ h => h) hf dX2_record_55 (fun x55 hf => ?_)
  refine lv_sipush (v := 806) hx hb dX2_record_58 xi_s806 ?_
  refine xr_aload_n C dX2_record_61 rfl (hl.at 0 rfl) ?_
  refine xr_getI C hS xf_X2 2 (by decide) q819 (fun _ h => h) hf dX2_record_62 (fun x62 hf => ?_)
  refine lv_imul hx hb dX2_record_65 ?_
  refine xr_S (V := fun _ => none) (n := 4) (fr := 0) (lo := 0) (As := [va_rf x50, .int (0 : Int32), va_rf x55, .int ((806 : Int32) * x62)]) C hS (lw_S q896 q897 q60 q898) hd_X2_copy ⟨Nat.le_trans (Nat.le_of_ble_eq_true rfl) hR.1, Nat.le_trans (Nat.le_of_ble_eq_true rfl) hR.2⟩ rfl hl.1.1 rfl xm_r0 hf (fun v h1 k1 n1 e1 => ct_X2_copy l D N e1) dX2_record_66 (fun _ h H locs cells slots kc ks hS hf => ?_)
  refine W.eq (g2 := F0 m 69 ls []) rfl ?_
  refine xr_aload_n C dX2_record_69 rfl (hl.at 0 rfl) ?_
  refine lv_dup hx hb dX2_record_70 (va_rf_cat _) ?_
  refine xr_getI C hS xf_X2 2 (by decide) q819 (fun _ h => h) hf dX2_record_71 (fun x71 hf => ?_)
  refine lv_iconst (v := 1) hx hb dX2_record_74 xi_c1 ?_
  refine lv_iadd hx hb dX2_record_75 ?_
  refine xr_put C hS xf_X2 2 (by decide) q819 (fun _ h => h) rfl xv_int hf dX2_record_76 (fun h H locs hS hf => ?_)
  exact xr_vret C hS hr hf dX2_record_79
theorem w_X2_record_b39 (C : xh_C cX2_record 2 "SungSlidesModel" D g p s m args meth c) (hr : meth.sig.returnType = (Option.none : Option Jvm.ClassFile.FieldType)) (hR : 1 ≤ R.frames ∧ 24 ≤ R.locals) {rv : Unit} {hF : xh_H} (N : Nat) : ∀ (a0 : Option Nat) (h : xh_H) (H : Heap) (locs : List Loc) (cells slots kc ks : Nat) (ls : Array Slot), f_X2_record_b39 N a0 h = some (rv, hF, kc, ks) → xh_T D g s R h H locs cells slots kc ks → xh_L ls 2 [(0, va_rf a0)] → W p l e R s m args below meth c H locs cells slots (MQ below (xh_Q D g none hF) args s R.cells R.slots (xh_A g)) (F0 m 39 ls []) := by
  intro a0 h H locs cells slots kc ks ls hf hS hl
  have hx := C.1
  have hb := C.2.1
  unfold f_X2_record_b39 at hf
  refine xr_aload_n C dX2_record_39 rfl (hl.at 0 rfl) ?_
  refine lv_dup hx hb dX2_record_40 (va_rf_cat _) ?_
  refine xr_getI C hS xf_X2 2 (by decide) q819 (fun _ h => h) hf dX2_record_41 (fun x41 hf => ?_)
  refine lv_iconst (v := 1) hx hb dX2_record_44 xi_c1 ?_
  refine lv_isub hx hb dX2_record_45 ?_
  refine xr_put C hS xf_X2 2 (by decide) q819 (fun _ h => h) rfl xv_int hf dX2_record_46 (fun h H locs hS hf => ?_)
  exact w_X2_record_b49 C hr hR N a0  h H locs cells slots kc ks ls hf hS (hl.sub [0] rfl)
theorem w_X2_record_b10 (C : xh_C cX2_record 2 "SungSlidesModel" D g p s m args meth c) (hr : meth.sig.returnType = (Option.none : Option Jvm.ClassFile.FieldType)) (hR : 1 ≤ R.frames ∧ 24 ≤ R.locals) {rv : Unit} {hF : xh_H} (N : Nat) {k10 : Option Nat → Int32 → xh_H → xh_R Unit} (hk10 : K_X2_record_10 p l e s m args below meth c D g R rv hF k10) : ∀ (a0 : Option Nat) (a1 : Int32) (h : xh_H) (H : Heap) (locs : List Loc) (cells slots kc ks : Nat) (ls : Array Slot), f_X2_record_b10 N k10 a0 a1 h = some (rv, hF, kc, ks) → xh_T D g s R h H locs cells slots kc ks → xh_L ls 2 [(0, va_rf a0), (1, .int a1)] → W p l e R s m args below meth c H locs cells slots (MQ below (xh_Q D g none hF) args s R.cells R.slots (xh_A g)) (F0 m 10 ls []) := by
  intro a0 a1 h H locs cells slots kc ks ls hf hS hl
  have hx := C.1
  have hb := C.2.1
  unfold f_X2_record_b10 at hf
  refine lv_iload_n hx hb dX2_record_10 rfl (hl.at 1 rfl) ?_
  refine lv_sipush (v := 2418) hx hb dX2_record_11 xi_s2418 ?_
  refine lv_icmp_ge (tgt := 39) hx hb dX2_record_14 (by decide) (fun c14 => ?_) (fun c14 => ?_)
  · replace hf := xb_pos c14 hf
    exact w_X2_record_b39 C hr hR N a0  h H locs cells slots kc ks ls hf hS (hl.sub [0] rfl)
  · replace hf := xb_neg c14 hf
    refine xr_aload_n C dX2_record_17 rfl (hl.at 0 rfl) ?_
    refine xr_getR C hS xf_X2 1 (by decide) q818 (fun _ h => h) hf dX2_record_18 (fun x18 hf => ?_)
    refine lv_iload_n hx hb dX2_record_21 rfl (hl.at 1 rfl) ?_
    refine xr_aload_n C dX2_record_22 rfl (hl.at 0 rfl) ?_
    refine xr_getR C hS xf_X2 1 (by decide) q818 (fun _ h => h) hf dX2_record_23 (fun x23 hf => ?_)
    refine lv_sipush (v := 806) hx hb dX2_record_26 xi_s806 ?_
    refine lv_iload_n hx hb dX2_record_29 rfl (hl.at 1 rfl) ?_
    refine lv_iadd hx hb dX2_record_30 ?_
    refine xr_iald C hS hf dX2_record_31 (fun x31 hf => ?_)
    refine xr_iast C hS hf dX2_record_32 (fun h H locs hS hf => ?_)
    refine xr_iinc C dX2_record_33 hl (k := 1) rfl (xi_inc xi_c1) (Nat.le_of_ble_eq_true rfl) (lv' := [(1, .int (a1 + (1 : Int32))), (0, va_rf a0)]) rfl (fun ls hl => ?_)
    refine lv_goto (tgt := 10) hx hb dX2_record_36 (by decide) ?_
    exact hk10 a0 (a1 + (1 : Int32))  h H locs cells slots kc ks ls hf hS (hl.sub [1, 0] rfl)
theorem w_X2_record_l10 (C : xh_C cX2_record 2 "SungSlidesModel" D g p s m args meth c) (hr : meth.sig.returnType = (Option.none : Option Jvm.ClassFile.FieldType)) (hR : 1 ≤ R.frames ∧ 24 ≤ R.locals) {rv : Unit} {hF : xh_H} (N : Nat) : ∀ n : Nat, K_X2_record_10 p l e s m args below meth c D g R rv hF (f_X2_record_l10 N n) := by
  intro n
  induction n with
  | zero => exact fun a0 a1 h H locs cells slots kc ks ls hf => absurd (show (none : xh_R Unit) = some _ from hf) (by intro q; cases q)
  | succ n ih => exact fun a0 a1 h H locs cells slots kc ks ls hf => w_X2_record_b10 C hr hR N ih a0 a1 h H locs cells slots kc ks ls hf
/-- SungSlidesModel.record()V -/
theorem w_X2_record (C : xh_C cX2_record 2 "SungSlidesModel" D g p s m args meth c) (hr : meth.sig.returnType = (Option.none : Option Jvm.ClassFile.FieldType)) (hR : 1 ≤ R.frames ∧ 24 ≤ R.locals) {rv : Unit} {hF : xh_H} (N : Nat) (a0 : Option Nat)  (h : xh_H) (H : Heap) (locs : List Loc) (cells slots kc ks : Nat) (ls : Array Slot) (hf : f_X2_record N a0 h = some (rv, hF, kc, ks)) (hS : xh_T D g s R h H locs cells slots kc ks) (hl : xh_L ls 2 [(0, va_rf a0)]) : W p l e R s m args below meth c H locs cells slots (MQ below (xh_Q D g none hF) args s R.cells R.slots (xh_A g)) (F0 m 0 ls []) := by
  have hx := C.1
  have hb := C.2.1
  unfold f_X2_record at hf
  refine xr_aload_n C dX2_record_0 rfl (hl.at 0 rfl) ?_
  refine xr_getI C hS xf_X2 2 (by decide) q819 (fun _ h => h) hf dX2_record_1 (fun x1 hf => ?_)
  refine lv_iconst (v := 4) hx hb dX2_record_4 xi_c4 ?_
  refine lv_icmp_ne (tgt := 49) hx hb dX2_record_5 (by decide) (fun c5 => ?_) (fun c5 => ?_)
  · replace hf := xb_neg c5 hf
    exact w_X2_record_b49 C hr hR N a0  h H locs cells slots kc ks ls hf hS (hl.sub [0] rfl)
  · replace hf := xb_pos c5 hf
    refine lv_iconst (v := 0) hx hb dX2_record_8 xi_c0 ?_
    refine xr_istore_n C dX2_record_9 rfl hl (Nat.le_of_ble_eq_true rfl) (lv' := [(1, .int (0 : Int32)), (0, va_rf a0)]) rfl (fun ls hl => ?_)
    exact w_X2_record_l10 C hr hR N N a0 (0 : Int32)  h H locs cells slots kc ks ls hf hS (hl.sub [1, 0] rfl)
theorem ct_X2_record (l : Launch) (D : xh_D) {rv : Unit} {h hF : xh_H} {kc ks : Nat} (N : Nat) {a0 : Option Nat} (hf : f_X2_record N a0 h = some (rv, hF, kc, ks)) : xh_Ct l D yX2_record (ws_ yX2_record cX2_record 2 (Option.none : Option Jvm.ClassFile.FieldType)) 1 24 [va_rf a0] h none hF kc ks :=
  xh_meth (cc := cX2_record) l (by decide) (Nat.le_of_ble_eq_true rfl) (List.forall_mem_cons.mpr ⟨va_rf_cat _, fun _ h => absurd h List.not_mem_nil⟩) fun p e s m below meth c ls C hr hnm hl hS => w_X2_record C hr ⟨Nat.le_refl _, Nat.le_refl _⟩ N a0 h _ _ _ _ _ _ _ hf hS hl
theorem w_X2_add_b56 (C : xh_C cX2_add 7 "SungSlidesModel" D g p s m args meth c) (hr : meth.sig.returnType = (Option.some Jvm.ClassFile.FieldType.int)) (hR : 4 ≤ R.frames ∧ 89 ≤ R.locals) {rv : Int32} {hF : xh_H} (N : Nat) : ∀ (t0 : Option Nat) (t1 : Int32) (t2 : Int32) (t3 : Int32) (t4 : Int32) (t5 : Int32) (h : xh_H) (H : Heap) (locs : List Loc) (cells slots kc ks : Nat) (ls : Array Slot), f_X2_add_b56 N t0 t1 t2 t3 t4 t5 h = some (rv, hF, kc, ks) → xh_T D g s R h H locs cells slots kc ks → xh_L ls 7 [] → W p l e R s m args below meth c H locs cells slots (MQ below (xh_Q D g (some (.int rv)) hF) args s R.cells R.slots (xh_A g)) (F0 m 56 ls [.int t5, .int t4, .int t3, .int t2, .int t1, va_rf t0]) := by
  intro t0 t1 t2 t3 t4 t5 h H locs cells slots kc ks ls hf hS hl
  have hx := C.1
  have hb := C.2.1
  unfold f_X2_add_b56 at hf
  refine xr_V (V := fun v => some (.int v)) (n := 5) (fr := 3) (lo := 63) (As := [.int t1, .int t2, .int t3, .int t4, .int t5]) C hS xf_X2 (lw_V q899 q901 qs25 q60 q902) hdv_X2_doAdd ⟨Nat.le_trans (Nat.le_of_ble_eq_true rfl) hR.1, Nat.le_trans (Nat.le_of_ble_eq_true rfl) hR.2⟩ rfl hl.1.1 rfl xm_r0 hf (fun v h1 k1 n1 e1 => ct_X2_doAdd l D N e1) dX2_add_56 (fun x56 h H locs cells slots kc ks hS hf => ?_)
  refine W.eq (g2 := F0 m 59 ls [.int x56]) rfl ?_
  exact xr_iret C hS hr hf dX2_add_59
theorem w_X2_add_b21 (C : xh_C cX2_add 7 "SungSlidesModel" D g p s m args meth c) (hr : meth.sig.returnType = (Option.some Jvm.ClassFile.FieldType.int)) (hR : 4 ≤ R.frames ∧ 89 ≤ R.locals) {rv : Int32} {hF : xh_H} (N : Nat) : ∀ (a0 : Option Nat) (a1 : Int32) (a2 : Int32) (a3 : Int32) (a4 : Int32) (a5 : Int32) (t0 : Option Nat) (t1 : Int32) (t2 : Int32) (h : xh_H) (H : Heap) (locs : List Loc) (cells slots kc ks : Nat) (ls : Array Slot), f_X2_add_b21 N a0 a1 a2 a3 a4 a5 t0 t1 t2 h = some (rv, hF, kc, ks) → xh_T D g s R h H locs cells slots kc ks → xh_L ls 7 [(0, va_rf a0), (1, .int a1), (2, .int a2), (3, .int a3), (4, .int a4), (5, .int a5)] → W p l e R s m args below meth c H locs cells slots (MQ below (xh_Q D g (some (.int rv)) hF) args s R.cells R.slots (xh_A g)) (F0 m 21 ls [.int t2, .int t1, va_rf t0]) := by
  intro a0 a1 a2 a3 a4 a5 t0 t1 t2 h H locs cells slots kc ks ls hf hS hl
  have hx := C.1
  have hb := C.2.1
  unfold f_X2_add_b21 at hf
  refine lv_iload hx hb dX2_add_21 (hl.at 4 rfl) ?_
  refine xr_V (V := fun v => some (.int v)) (n := 3) (fr := 3) (lo := 63) (As := [.int t1, .int t2, .int a4]) C hS xf_X2 (lw_V q876 q878 qs20 q60 q879) hdv_X2_addError ⟨Nat.le_trans (Nat.le_of_ble_eq_true rfl) hR.1, Nat.le_trans (Nat.le_of_ble_eq_true rfl) hR.2⟩ rfl hl.1.1 rfl xm_r0 hf (fun v h1 k1 n1 e1 => ct_X2_addError l D N e1) dX2_add_23 (fun x23 h H locs cells slots kc ks hS hf => ?_)
  refine W.eq (g2 := F0 m 26 ls [.int x23]) rfl ?_
  refine xr_istore C dX2_add_26 hl (Nat.le_of_ble_eq_true rfl) (lv' := [(6, .int x23), (0, va_rf a0), (1, .int a1), (2, .int a2), (3, .int a3), (4, .int a4), (5, .int a5)]) rfl (fun ls hl => ?_)
  refine lv_iload hx hb dX2_add_28 (hl.at 0 rfl) ?_
  refine lv_if_ge (tgt := 36) hx hb dX2_add_30 (by decide) (fun c30 => ?_) (fun c30 => ?_)
  · replace hf := xb_pos c30 hf
    refine xr_aload_n C dX2_add_36 rfl (hl.at 1 rfl) ?_
    refine xr_V (V := fun _ => none) (n := 0) (fr := 1) (lo := 24) (As := []) C hS xf_X2 (lw_V q892 q894 qs24 q60 q895) hdv_X2_record ⟨Nat.le_trans (Nat.le_of_ble_eq_true rfl) hR.1, Nat.le_trans (Nat.le_of_ble_eq_true rfl) hR.2⟩ rfl hl.1.1 rfl xm_r0 hf (fun v h1 k1 n1 e1 => ct_X2_record l D N e1) dX2_add_37 (fun _ h H locs cells slots kc ks hS hf => ?_)
    refine W.eq (g2 := F0 m 40 ls []) rfl ?_
    refine xr_aload_n C dX2_add_40 rfl (hl.at 1 rfl) ?_
    refine lv_iload_n hx hb dX2_add_41 rfl (hl.at 2 rfl) ?_
    refine lv_iload_n hx hb dX2_add_42 rfl (hl.at 3 rfl) ?_
    refine lv_iload_n hx hb dX2_add_43 rfl (hl.at 4 rfl) ?_
    refine lv_iload hx hb dX2_add_44 (hl.at 5 rfl) ?_
    refine lv_iload hx hb dX2_add_46 (hl.at 6 rfl) ?_
    refine lv_if_eq (tgt := 55) hx hb dX2_add_48 (by decide) (fun c48 => ?_) (fun c48 => ?_)
    · replace hf := xb_pos c48 hf
      refine lv_iconst (v := 0) hx hb dX2_add_55 xi_c0 ?_
      exact w_X2_add_b56 C hr hR N a0 a1 a2 a3 a4 (0 : Int32) h H locs cells slots kc ks ls hf hS (hl.sub [] rfl)
    · replace hf := xb_neg c48 hf
      refine lv_iconst (v := 1) hx hb dX2_add_51 xi_c1 ?_
      refine lv_goto (tgt := 56) hx hb dX2_add_52 (by decide) ?_
      exact w_X2_add_b56 C hr hR N a0 a1 a2 a3 a4 (1 : Int32) h H locs cells slots kc ks ls hf hS (hl.sub [] rfl)
  · replace hf := xb_neg c30 hf
    refine lv_iload hx hb dX2_add_33 (hl.at 0 rfl) ?_
    exact xr_iret C hS hr hf dX2_add_35
theorem w_X2_add_b20 (C : xh_C cX2_add 7 "SungSlidesModel" D g p s m args meth c) (hr : meth.sig.returnType = (Option.some Jvm.ClassFile.FieldType.int)) (hR : 4 ≤ R.frames ∧ 89 ≤ R.locals) {rv : Int32} {hF : xh_H} (N : Nat) : ∀ (a0 : Option Nat) (a1 : Int32) (a2 : Int32) (a3 : Int32) (a4 : Int32) (a5 : Int32) (t0 : Option Nat) (t1 : Int32) (h : xh_H) (H : Heap) (locs : List Loc) (cells slots kc ks : Nat) (ls : Array Slot), f_X2_add_b20 N a0 a1 a2 a3 a4 a5 t0 t1 h = some (rv, hF, kc, ks) → xh_T D g s R h H locs cells slots kc ks → xh_L ls 7 [(0, va_rf a0), (1, .int a1), (2, .int a2), (3, .int a3), (4, .int a4), (5, .int a5)] → W p l e R s m args below meth c H locs cells slots (MQ below (xh_Q D g (some (.int rv)) hF) args s R.cells R.slots (xh_A g)) (F0 m 20 ls [.int t1, va_rf t0]) := by
  intro a0 a1 a2 a3 a4 a5 t0 t1 h H locs cells slots kc ks ls hf hS hl
  have hx := C.1
  have hb := C.2.1
  unfold f_X2_add_b20 at hf
  refine lv_iconst (v := -1) hx hb dX2_add_20 xi_cm1 ?_
  exact w_X2_add_b21 C hr hR N a0 a1 a2 a3 a4 a5 t0 t1 (-1 : Int32) h H locs cells slots kc ks ls hf hS (hl.sub [0, 1, 2, 3, 4, 5] rfl)
/-- SungSlidesModel.add(IIIIZ)I -/
theorem w_X2_add (C : xh_C cX2_add 7 "SungSlidesModel" D g p s m args meth c) (hr : meth.sig.returnType = (Option.some Jvm.ClassFile.FieldType.int)) (hR : 4 ≤ R.frames ∧ 89 ≤ R.locals) {rv : Int32} {hF : xh_H} (N : Nat) (a0 : Option Nat) (a1 : Int32) (a2 : Int32) (a3 : Int32) (a4 : Int32) (a5 : Int32)  (h : xh_H) (H : Heap) (locs : List Loc) (cells slots kc ks : Nat) (ls : Array Slot) (hf : f_X2_add N a0 a1 a2 a3 a4 a5 h = some (rv, hF, kc, ks)) (hS : xh_T D g s R h H locs cells slots kc ks) (hl : xh_L ls 7 [(0, va_rf a0), (1, .int a1), (2, .int a2), (3, .int a3), (4, .int a4), (5, .int a5)]) : W p l e R s m args below meth c H locs cells slots (MQ below (xh_Q D g (some (.int rv)) hF) args s R.cells R.slots (xh_A g)) (F0 m 0 ls []) := by
  have hx := C.1
  have hb := C.2.1
  unfold f_X2_add at hf
  refine xr_aload_n C dX2_add_0 rfl (hl.at 0 rfl) ?_
  refine lv_iload_n hx hb dX2_add_1 rfl (hl.at 1 rfl) ?_
  refine lv_iload_n hx hb dX2_add_2 rfl (hl.at 2 rfl) ?_
  refine xr_S (V := fun v => some (.int v)) (n := 1) (fr := 1) (lo := 22) (As := [.int a2]) C hS (lw_S q870 q871 q60 q872) hd_X2_isPitch ⟨Nat.le_trans (Nat.le_of_ble_eq_true rfl) hR.1, Nat.le_trans (Nat.le_of_ble_eq_true rfl) hR.2⟩ rfl hl.1.1 rfl (xm_rc rfl (xm_rc (va_rf_cat _) xm_r0)) hf (fun v h1 k1 n1 e1 => ct_X2_isPitch l D N e1) dX2_add_3 (fun x3 h H locs cells slots kc ks hS hf => ?_)
  refine W.eq (g2 := F0 m 6 ls [.int x3, .int a1, va_rf a0]) rfl ?_
  refine lv_if_eq (tgt := 20) hx hb dX2_add_6 (by decide) (fun c6 => ?_) (fun c6 => ?_)
  · replace hf := xb_pos c6 hf
    exact w_X2_add_b20 C hr hR N a0 a1 a2 a3 a4 a5 a0 a1 h H locs cells slots kc ks ls hf hS (hl.sub [0, 1, 2, 3, 4, 5] rfl)
  · replace hf := xb_neg c6 hf
    refine lv_iload_n hx hb dX2_add_9 rfl (hl.at 3 rfl) ?_
    refine xr_S (V := fun v => some (.int v)) (n := 1) (fr := 1) (lo := 22) (As := [.int a3]) C hS (lw_S q870 q871 q60 q872) hd_X2_isPitch ⟨Nat.le_trans (Nat.le_of_ble_eq_true rfl) hR.1, Nat.le_trans (Nat.le_of_ble_eq_true rfl) hR.2⟩ rfl hl.1.1 rfl (xm_rc rfl (xm_rc (va_rf_cat _) xm_r0)) hf (fun v h1 k1 n1 e1 => ct_X2_isPitch l D N e1) dX2_add_10 (fun x10 h H locs cells slots kc ks hS hf => ?_)
    refine W.eq (g2 := F0 m 13 ls [.int x10, .int a1, va_rf a0]) rfl ?_
    refine lv_if_eq (tgt := 20) hx hb dX2_add_13 (by decide) (fun c13 => ?_) (fun c13 => ?_)
    · replace hf := xb_pos c13 hf
      exact w_X2_add_b20 C hr hR N a0 a1 a2 a3 a4 a5 a0 a1 h H locs cells slots kc ks ls hf hS (hl.sub [0, 1, 2, 3, 4, 5] rfl)
    · replace hf := xb_neg c13 hf
      refine lv_iconst (v := 0) hx hb dX2_add_16 xi_c0 ?_
      refine lv_goto (tgt := 21) hx hb dX2_add_17 (by decide) ?_
      exact w_X2_add_b21 C hr hR N a0 a1 a2 a3 a4 a5 a0 a1 (0 : Int32) h H locs cells slots kc ks ls hf hS (hl.sub [0, 1, 2, 3, 4, 5] rfl)
theorem ct_X2_add (l : Launch) (D : xh_D) {rv : Int32} {h hF : xh_H} {kc ks : Nat} (N : Nat) {a0 : Option Nat} {a1 : Int32} {a2 : Int32} {a3 : Int32} {a4 : Int32} {a5 : Int32} (hf : f_X2_add N a0 a1 a2 a3 a4 a5 h = some (rv, hF, kc, ks)) : xh_Ct l D yX2_add (ws_ yX2_add cX2_add 7 (Option.some Jvm.ClassFile.FieldType.int)) 4 89 [va_rf a0, .int a1, .int a2, .int a3, .int a4, .int a5] h (some (.int rv)) hF kc ks :=
  xh_meth (cc := cX2_add) l (by decide) (Nat.le_of_ble_eq_true rfl) (List.forall_mem_cons.mpr ⟨va_rf_cat _, List.forall_mem_cons.mpr ⟨rfl, List.forall_mem_cons.mpr ⟨rfl, List.forall_mem_cons.mpr ⟨rfl, List.forall_mem_cons.mpr ⟨rfl, List.forall_mem_cons.mpr ⟨rfl, fun _ h => absurd h List.not_mem_nil⟩⟩⟩⟩⟩⟩) fun p e s m below meth c ls C hr hnm hl hS => w_X2_add C hr ⟨Nat.le_refl _, Nat.le_refl _⟩ N a0 a1 a2 a3 a4 a5 h _ _ _ _ _ _ _ hf hS hl
/-- SungSlidesModel.drop()I -/
theorem w_X2_drop (C : xh_C cX2_drop 1 "SungSlidesModel" D g p s m args meth c) (hr : meth.sig.returnType = (Option.some Jvm.ClassFile.FieldType.int)) (hR : 2 ≤ R.frames ∧ 45 ≤ R.locals) {rv : Int32} {hF : xh_H} (N : Nat) (a0 : Option Nat)  (h : xh_H) (H : Heap) (locs : List Loc) (cells slots kc ks : Nat) (ls : Array Slot) (hf : f_X2_drop N a0 h = some (rv, hF, kc, ks)) (hS : xh_T D g s R h H locs cells slots kc ks) (hl : xh_L ls 1 [(0, va_rf a0)]) : W p l e R s m args below meth c H locs cells slots (MQ below (xh_Q D g (some (.int rv)) hF) args s R.cells R.slots (xh_A g)) (F0 m 0 ls []) := by
  have hx := C.1
  have hb := C.2.1
  unfold f_X2_drop at hf
  refine xr_aload_n C dX2_drop_0 rfl (hl.at 0 rfl) ?_
  refine xr_getR C hS xf_X2 0 (by decide) q817 (fun _ h => h) hf dX2_drop_1 (fun x1 hf => ?_)
  refine lv_iconst (v := 5) hx hb dX2_drop_4 xi_c5 ?_
  refine xr_iald C hS hf dX2_drop_5 (fun x5 hf => ?_)
  refine lv_if_ne (tgt := 12) hx hb dX2_drop_6 (by decide) (fun c6 => ?_) (fun c6 => ?_)
  · replace hf := xb_neg c6 hf
    refine xr_aload_n C dX2_drop_12 rfl (hl.at 0 rfl) ?_
    refine xr_V (V := fun _ => none) (n := 0) (fr := 1) (lo := 24) (As := []) C hS xf_X2 (lw_V q892 q894 qs24 q60 q895) hdv_X2_record ⟨Nat.le_trans (Nat.le_of_ble_eq_true rfl) hR.1, Nat.le_trans (Nat.le_of_ble_eq_true rfl) hR.2⟩ rfl hl.1.1 rfl xm_r0 hf (fun v h1 k1 n1 e1 => ct_X2_record l D N e1) dX2_drop_13 (fun _ h H locs cells slots kc ks hS hf => ?_)
    refine W.eq (g2 := F0 m 16 ls []) rfl ?_
    refine xr_aload_n C dX2_drop_16 rfl (hl.at 0 rfl) ?_
    refine xr_getR C hS xf_X2 0 (by decide) q817 (fun _ h => h) hf dX2_drop_17 (fun x17 hf => ?_)
    refine lv_iconst (v := 5) hx hb dX2_drop_20 xi_c5 ?_
    refine lv_dup2_11 hx hb dX2_drop_21 rfl (va_rf_cat _) ?_
    refine xr_iald C hS hf dX2_drop_22 (fun x22 hf => ?_)
    refine lv_iconst (v := 1) hx hb dX2_drop_23 xi_c1 ?_
    refine lv_isub hx hb dX2_drop_24 ?_
    refine xr_iast C hS hf dX2_drop_25 (fun h H locs hS hf => ?_)
    refine xr_aload_n C dX2_drop_26 rfl (hl.at 0 rfl) ?_
    refine xr_getR C hS xf_X2 0 (by decide) q817 (fun _ h => h) hf dX2_drop_27 (fun x27 hf => ?_)
    refine lv_iconst (v := 5) hx hb dX2_drop_30 xi_c5 ?_
    refine xr_iald C hS hf dX2_drop_31 (fun x31 hf => ?_)
    exact xr_iret C hS hr hf dX2_drop_32
  · replace hf := xb_pos c6 hf
    refine lv_bipush (v := -5) hx hb dX2_drop_9 xi_bm5 ?_
    exact xr_iret C hS hr hf dX2_drop_11
theorem ct_X2_drop (l : Launch) (D : xh_D) {rv : Int32} {h hF : xh_H} {kc ks : Nat} (N : Nat) {a0 : Option Nat} (hf : f_X2_drop N a0 h = some (rv, hF, kc, ks)) : xh_Ct l D yX2_drop (ws_ yX2_drop cX2_drop 1 (Option.some Jvm.ClassFile.FieldType.int)) 2 45 [va_rf a0] h (some (.int rv)) hF kc ks :=
  xh_meth (cc := cX2_drop) l (by decide) (Nat.le_of_ble_eq_true rfl) (List.forall_mem_cons.mpr ⟨va_rf_cat _, fun _ h => absurd h List.not_mem_nil⟩) fun p e s m below meth c ls C hr hnm hl hS => w_X2_drop C hr ⟨Nat.le_refl _, Nat.le_refl _⟩ N a0 h _ _ _ _ _ _ _ hf hS hl
end WALK
