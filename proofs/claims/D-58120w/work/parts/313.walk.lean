/-! WALKS, printed by gen/walk.py -/
set_option maxRecDepth 100000
section WALK
variable {p : Program} {l : Launch} {e : Env} {s : State} {m : MethodId} {args : Array Value} {below : List Frame} {meth : Method} {c : Code} {D : xh_D} {g : Nat → Nat} {R : Room}
/-- SungSlidesModel.ifSet(II)I -/
theorem w_X2_ifSet (C : xh_C cX2_ifSet 6 "SungSlidesModel" D g p s m args meth c) (hr : meth.sig.returnType = (Option.some Jvm.ClassFile.FieldType.int)) (hR : 7 ≤ R.frames ∧ 159 ≤ R.locals) {rv : Int32} {hF : xh_H} (N : Nat) (a0 : Option Nat) (a1 : Int32) (a2 : Int32)  (h : xh_H) (H : Heap) (locs : List Loc) (cells slots kc ks : Nat) (ls : Array Slot) (hf : f_X2_ifSet N a0 a1 a2 h = some (rv, hF, kc, ks)) (hS : xh_T D g s R h H locs cells slots kc ks) (hl : xh_L ls 6 [(0, va_rf a0), (1, .int a1), (2, .int a2)]) : W p l e R s m args below meth c H locs cells slots (MQ below (xh_Q D g (some (.int rv)) hF) args s R.cells R.slots (xh_A g)) (F0 m 0 ls []) := by
  have hx := C.1
  have hb := C.2.1
  unfold f_X2_ifSet at hf
  refine lv_iload_n hx hb dX2_ifSet_0 rfl (hl.at 1 rfl) ?_
  refine lv_iload_n hx hb dX2_ifSet_1 rfl (hl.at 2 rfl) ?_
  refine xr_S (V := fun v => some (.int v)) (n := 2) (fr := 1) (lo := 22) (As := [.int a1, .int a2]) C hS (lw_S q915 q916 q60 q917) hd_X2_settingError ⟨Nat.le_trans (Nat.le_of_ble_eq_true rfl) hR.1, Nat.le_trans (Nat.le_of_ble_eq_true rfl) hR.2⟩ rfl hl.1.1 rfl xm_r0 hf (fun v h1 k1 n1 e1 => ct_X2_settingError l D N e1) dX2_ifSet_2 (fun x2 h H locs cells slots kc ks hS hf => ?_)
  refine W.eq (g2 := F0 m 5 ls [.int x2]) rfl ?_
  refine xr_istore_n C dX2_ifSet_5 rfl hl (Nat.le_of_ble_eq_true rfl) (lv' := [(3, .int x2), (0, va_rf a0), (1, .int a1), (2, .int a2)]) rfl (fun ls hl => ?_)
  refine lv_iload_n hx hb dX2_ifSet_6 rfl (hl.at 0 rfl) ?_
  refine lv_if_ge (tgt := 12) hx hb dX2_ifSet_7 (by decide) (fun c7 => ?_) (fun c7 => ?_)
  · replace hf := xb_pos c7 hf
    refine xr_aload_n C dX2_ifSet_12 rfl (hl.at 1 rfl) ?_
    refine xr_getR C hS xf_X2 0 (by decide) q817 (fun _ h => h) hf dX2_ifSet_13 (fun x13 hf => ?_)
    refine lv_iload_n hx hb dX2_ifSet_16 rfl (hl.at 2 rfl) ?_
    refine xr_iald C hS hf dX2_ifSet_17 (fun x17 hf => ?_)
    refine xr_istore C dX2_ifSet_18 hl (Nat.le_of_ble_eq_true rfl) (lv' := [(4, .int x17), (3, .int x2), (0, va_rf a0), (1, .int a1), (2, .int a2)]) rfl (fun ls hl => ?_)
    refine xr_aload_n C dX2_ifSet_20 rfl (hl.at 2 rfl) ?_
    refine xr_getR C hS xf_X2 0 (by decide) q817 (fun _ h => h) hf dX2_ifSet_21 (fun x21 hf => ?_)
    refine lv_iload_n hx hb dX2_ifSet_24 rfl (hl.at 3 rfl) ?_
    refine lv_iload_n hx hb dX2_ifSet_25 rfl (hl.at 4 rfl) ?_
    refine xr_iast C hS hf dX2_ifSet_26 (fun h H locs hS hf => ?_)
    refine xr_aload_n C dX2_ifSet_27 rfl (hl.at 2 rfl) ?_
    refine lv_iconst (v := 0) hx hb dX2_ifSet_28 xi_c0 ?_
    refine lv_iconst (v := 0) hx hb dX2_ifSet_29 xi_c0 ?_
    refine xr_V (V := fun v => some (.int v)) (n := 2) (fr := 6) (lo := 137) (As := [.int (0 : Int32), .int (0 : Int32)]) C hS xf_X2 (lw_V q1092 q1094 qs53 q60 q1095) hdv_X2_pointsShifted ⟨Nat.le_trans (Nat.le_of_ble_eq_true rfl) hR.1, Nat.le_trans (Nat.le_of_ble_eq_true rfl) hR.2⟩ rfl hl.1.1 rfl xm_r0 hf (fun v h1 k1 n1 e1 => ct_X2_pointsShifted l D N e1) dX2_ifSet_30 (fun x30 h H locs cells slots kc ks hS hf => ?_)
    refine W.eq (g2 := F0 m 33 ls [.int x30]) rfl ?_
    refine xr_istore C dX2_ifSet_33 hl (Nat.le_of_ble_eq_true rfl) (lv' := [(5, .int x30), (4, .int x17), (3, .int x2), (0, va_rf a0), (1, .int a1), (2, .int a2)]) rfl (fun ls hl => ?_)
    refine xr_aload_n C dX2_ifSet_35 rfl (hl.at 3 rfl) ?_
    refine xr_getR C hS xf_X2 0 (by decide) q817 (fun _ h => h) hf dX2_ifSet_36 (fun x36 hf => ?_)
    refine lv_iload_n hx hb dX2_ifSet_39 rfl (hl.at 4 rfl) ?_
    refine lv_iload hx hb dX2_ifSet_40 (hl.at 1 rfl) ?_
    refine xr_iast C hS hf dX2_ifSet_42 (fun h H locs hS hf => ?_)
    refine lv_iload hx hb dX2_ifSet_43 (hl.at 0 rfl) ?_
    exact xr_iret C hS hr hf dX2_ifSet_45
  · replace hf := xb_neg c7 hf
    refine lv_iload_n hx hb dX2_ifSet_10 rfl (hl.at 0 rfl) ?_
    exact xr_iret C hS hr hf dX2_ifSet_11
theorem ct_X2_ifSet (l : Launch) (D : xh_D) {rv : Int32} {h hF : xh_H} {kc ks : Nat} (N : Nat) {a0 : Option Nat} {a1 : Int32} {a2 : Int32} (hf : f_X2_ifSet N a0 a1 a2 h = some (rv, hF, kc, ks)) : xh_Ct l D yX2_ifSet (ws_ yX2_ifSet cX2_ifSet 6 (Option.some Jvm.ClassFile.FieldType.int)) 7 159 [va_rf a0, .int a1, .int a2] h (some (.int rv)) hF kc ks :=
  xh_meth (cc := cX2_ifSet) l (by decide) (Nat.le_of_ble_eq_true rfl) (List.forall_mem_cons.mpr ⟨va_rf_cat _, List.forall_mem_cons.mpr ⟨rfl, List.forall_mem_cons.mpr ⟨rfl, fun _ h => absurd h List.not_mem_nil⟩⟩⟩) fun p e s m below meth c ls C hr hnm hl hS => w_X2_ifSet C hr ⟨Nat.le_refl _, Nat.le_refl _⟩ N a0 a1 a2 h _ _ _ _ _ _ _ hf hS hl
def K_X2_worst_9 (p : Program) (l : Launch) (e : Env) (s : State) (m : MethodId) (args : Array Value) (below : List Frame) (meth : Method) (c : Code) (D : xh_D) (g : Nat → Nat) (R : Room) (rv : Int32) (hF : xh_H) (k : Option Nat → Int32 → Int32 → xh_H → xh_R Int32) : Prop := ∀ (a0 : Option Nat) (a1 : Int32) (a2 : Int32) (h : xh_H) (H : Heap) (locs : List Loc) (cells slots kc ks : Nat) (ls : Array Slot), k a0 a1 a2 h = some (rv, hF, kc, ks) → xh_T D g s R h H locs cells slots kc ks → xh_L ls 3 [(0, va_rf a0), (1, .int a1), (2, .int a2)] → W p l e R s m args below meth c H locs cells slots (MQ below (xh_Q D g (some (.int rv)) hF) args s R.cells R.slots (xh_A g)) (F0 m 9 ls [])
theorem w_X2_worst_b50 (C : xh_C cX2_worst 3 "SungSlidesModel" D g p s m args meth c) (hr : meth.sig.returnType = (Option.some Jvm.ClassFile.FieldType.int)) (hR : 7 ≤ R.frames ∧ 157 ≤ R.locals) {rv : Int32} {hF : xh_H} (N : Nat) : ∀ (a1 : Int32) (h : xh_H) (H : Heap) (locs : List Loc) (cells slots kc ks : Nat) (ls : Array Slot), f_X2_worst_b50 N a1 h = some (rv, hF, kc, ks) → xh_T D g s R h H locs cells slots kc ks → xh_L ls 3 [(1, .int a1)] → W p l e R s m args below meth c H locs cells slots (MQ below (xh_Q D g (some (.int rv)) hF) args s R.cells R.slots (xh_A g)) (F0 m 50 ls []) := by
  intro a1 h H locs cells slots kc ks ls hf hS hl
  have hx := C.1
  have hb := C.2.1
  unfold f_X2_worst_b50 at hf
  refine lv_iload_n hx hb dX2_worst_50 rfl (hl.at 0 rfl) ?_
  exact xr_iret C hS hr hf dX2_worst_51
theorem w_X2_worst_b43 (C : xh_C cX2_worst 3 "SungSlidesModel" D g p s m args meth c) (hr : meth.sig.returnType = (Option.some Jvm.ClassFile.FieldType.int)) (hR : 7 ≤ R.frames ∧ 157 ≤ R.locals) {rv : Int32} {hF : xh_H} (N : Nat) {k9 : Option Nat → Int32 → Int32 → xh_H → xh_R Int32} (hk9 : K_X2_worst_9 p l e s m args below meth c D g R rv hF k9) : ∀ (a0 : Option Nat) (a2 : Int32) (t0 : Int32) (h : xh_H) (H : Heap) (locs : List Loc) (cells slots kc ks : Nat) (ls : Array Slot), f_X2_worst_b43 N k9 a0 a2 t0 h = some (rv, hF, kc, ks) → xh_T D g s R h H locs cells slots kc ks → xh_L ls 3 [(0, va_rf a0), (2, .int a2)] → W p l e R s m args below meth c H locs cells slots (MQ below (xh_Q D g (some (.int rv)) hF) args s R.cells R.slots (xh_A g)) (F0 m 43 ls [.int t0]) := by
  intro a0 a2 t0 h H locs cells slots kc ks ls hf hS hl
  have hx := C.1
  have hb := C.2.1
  unfold f_X2_worst_b43 at hf
  refine xr_istore_n C dX2_worst_43 rfl hl (Nat.le_of_ble_eq_true rfl) (lv' := [(1, .int t0), (0, va_rf a0), (2, .int a2)]) rfl (fun ls hl => ?_)
  refine xr_iinc C dX2_worst_44 hl (k := 2) rfl (xi_inc xi_c1) (Nat.le_of_ble_eq_true rfl) (lv' := [(2, .int (a2 + (1 : Int32))), (1, .int t0), (0, va_rf a0)]) rfl (fun ls hl => ?_)
  refine lv_goto (tgt := 9) hx hb dX2_worst_47 (by decide) ?_
  exact hk9 a0 t0 (a2 + (1 : Int32))  h H locs cells slots kc ks ls hf hS (hl.sub [2, 1, 0] rfl)
theorem w_X2_worst_b38 (C : xh_C cX2_worst 3 "SungSlidesModel" D g p s m args meth c) (hr : meth.sig.returnType = (Option.some Jvm.ClassFile.FieldType.int)) (hR : 7 ≤ R.frames ∧ 157 ≤ R.locals) {rv : Int32} {hF : xh_H} (N : Nat) {k9 : Option Nat → Int32 → Int32 → xh_H → xh_R Int32} (hk9 : K_X2_worst_9 p l e s m args below meth c D g R rv hF k9) : ∀ (a0 : Option Nat) (a2 : Int32) (h : xh_H) (H : Heap) (locs : List Loc) (cells slots kc ks : Nat) (ls : Array Slot), f_X2_worst_b38 N k9 a0 a2 h = some (rv, hF, kc, ks) → xh_T D g s R h H locs cells slots kc ks → xh_L ls 3 [(0, va_rf a0), (2, .int a2)] → W p l e R s m args below meth c H locs cells slots (MQ below (xh_Q D g (some (.int rv)) hF) args s R.cells R.slots (xh_A g)) (F0 m 38 ls []) := by
  intro a0 a2 h H locs cells slots kc ks ls hf hS hl
  have hx := C.1
  have hb := C.2.1
  unfold f_X2_worst_b38 at hf
  refine lv_iload_n hx hb dX2_worst_38 rfl (hl.at 1 rfl) ?_
  refine lv_goto (tgt := 43) hx hb dX2_worst_39 (by decide) ?_
  exact w_X2_worst_b43 C hr hR N hk9 a0 a2 a2 h H locs cells slots kc ks ls hf hS (hl.sub [0, 1] rfl)
theorem w_X2_worst_b9 (C : xh_C cX2_worst 3 "SungSlidesModel" D g p s m args meth c) (hr : meth.sig.returnType = (Option.some Jvm.ClassFile.FieldType.int)) (hR : 7 ≤ R.frames ∧ 157 ≤ R.locals) {rv : Int32} {hF : xh_H} (N : Nat) {k9 : Option Nat → Int32 → Int32 → xh_H → xh_R Int32} (hk9 : K_X2_worst_9 p l e s m args below meth c D g R rv hF k9) : ∀ (a0 : Option Nat) (a1 : Int32) (a2 : Int32) (h : xh_H) (H : Heap) (locs : List Loc) (cells slots kc ks : Nat) (ls : Array Slot), f_X2_worst_b9 N k9 a0 a1 a2 h = some (rv, hF, kc, ks) → xh_T D g s R h H locs cells slots kc ks → xh_L ls 3 [(0, va_rf a0), (1, .int a1), (2, .int a2)] → W p l e R s m args below meth c H locs cells slots (MQ below (xh_Q D g (some (.int rv)) hF) args s R.cells R.slots (xh_A g)) (F0 m 9 ls []) := by
  intro a0 a1 a2 h H locs cells slots kc ks ls hf hS hl
  have hx := C.1
  have hb := C.2.1
  unfold f_X2_worst_b9 at hf
  refine lv_iload_n hx hb dX2_worst_9 rfl (hl.at 2 rfl) ?_
  refine xr_aload_n C dX2_worst_10 rfl (hl.at 0 rfl) ?_
  refine xr_V (V := fun v => some (.int v)) (n := 0) (fr := 2) (lo := 45) (As := []) C hS xf_X2 (lw_V q1060 q1062 qs47 q60 q1063) hdv_X2_phrases ⟨Nat.le_trans (Nat.le_of_ble_eq_true rfl) hR.1, Nat.le_trans (Nat.le_of_ble_eq_true rfl) hR.2⟩ rfl hl.1.1 rfl (xm_rc rfl xm_r0) hf (fun v h1 k1 n1 e1 => ct_X2_phrases l D N e1) dX2_worst_11 (fun x11 h H locs cells slots kc ks hS hf => ?_)
  refine W.eq (g2 := F0 m 14 ls [.int x11, .int a2]) rfl ?_
  refine lv_icmp_ge (tgt := 50) hx hb dX2_worst_14 (by decide) (fun c14 => ?_) (fun c14 => ?_)
  · replace hf := xb_pos c14 hf
    exact w_X2_worst_b50 C hr hR N a1  h H locs cells slots kc ks ls hf hS (hl.sub [1] rfl)
  · replace hf := xb_neg c14 hf
    refine lv_iload_n hx hb dX2_worst_17 rfl (hl.at 1 rfl) ?_
    refine lv_bipush (v := -5) hx hb dX2_worst_18 xi_bm5 ?_
    refine lv_icmp_eq (tgt := 38) hx hb dX2_worst_20 (by decide) (fun c20 => ?_) (fun c20 => ?_)
    · replace hf := xb_pos c20 hf
      exact w_X2_worst_b38 C hr hR N hk9 a0 a2  h H locs cells slots kc ks ls hf hS (hl.sub [0, 2] rfl)
    · replace hf := xb_neg c20 hf
      refine xr_aload_n C dX2_worst_23 rfl (hl.at 0 rfl) ?_
      refine lv_iload_n hx hb dX2_worst_24 rfl (hl.at 2 rfl) ?_
      refine lv_iconst (v := 3) hx hb dX2_worst_25 xi_c3 ?_
      refine xr_V (V := fun v => some (.int v)) (n := 2) (fr := 2) (lo := 45) (As := [.int a2, .int (3 : Int32)]) C hS xf_X2 (lw_V q1064 q1066 qs48 q60 q1067) hdv_X2_ofPhrase ⟨Nat.le_trans (Nat.le_of_ble_eq_true rfl) hR.1, Nat.le_trans (Nat.le_of_ble_eq_true rfl) hR.2⟩ rfl hl.1.1 rfl xm_r0 hf (fun v h1 k1 n1 e1 => ct_X2_ofPhrase l D N e1) dX2_worst_26 (fun x26 h H locs cells slots kc ks hS hf => ?_)
      refine W.eq (g2 := F0 m 29 ls [.int x26]) rfl ?_
      refine xr_aload_n C dX2_worst_29 rfl (hl.at 0 rfl) ?_
      refine lv_iload_n hx hb dX2_worst_30 rfl (hl.at 1 rfl) ?_
      refine lv_iconst (v := 3) hx hb dX2_worst_31 xi_c3 ?_
      refine xr_V (V := fun v => some (.int v)) (n := 2) (fr := 2) (lo := 45) (As := [.int a1, .int (3 : Int32)]) C hS xf_X2 (lw_V q1064 q1066 qs48 q60 q1067) hdv_X2_ofPhrase ⟨Nat.le_trans (Nat.le_of_ble_eq_true rfl) hR.1, Nat.le_trans (Nat.le_of_ble_eq_true rfl) hR.2⟩ rfl hl.1.1 rfl (xm_rc rfl xm_r0) hf (fun v h1 k1 n1 e1 => ct_X2_ofPhrase l D N e1) dX2_worst_32 (fun x32 h H locs cells slots kc ks hS hf => ?_)
      refine W.eq (g2 := F0 m 35 ls [.int x32, .int x26]) rfl ?_
      refine lv_icmp_ge (tgt := 42) hx hb dX2_worst_35 (by decide) (fun c35 => ?_) (fun c35 => ?_)
      · replace hf := xb_pos c35 hf
        refine lv_iload_n hx hb dX2_worst_42 rfl (hl.at 1 rfl) ?_
        exact w_X2_worst_b43 C hr hR N hk9 a0 a2 a1 h H locs cells slots kc ks ls hf hS (hl.sub [0, 2] rfl)
      · replace hf := xb_neg c35 hf
        exact w_X2_worst_b38 C hr hR N hk9 a0 a2  h H locs cells slots kc ks ls hf hS (hl.sub [0, 2] rfl)
theorem w_X2_worst_l9 (C : xh_C cX2_worst 3 "SungSlidesModel" D g p s m args meth c) (hr : meth.sig.returnType = (Option.some Jvm.ClassFile.FieldType.int)) (hR : 7 ≤ R.frames ∧ 157 ≤ R.locals) {rv : Int32} {hF : xh_H} (N : Nat) : ∀ n : Nat, K_X2_worst_9 p l e s m args below meth c D g R rv hF (f_X2_worst_l9 N n) := by
  intro n
  induction n with
  | zero => exact fun a0 a1 a2 h H locs cells slots kc ks ls hf => absurd (show (none : xh_R Int32) = some _ from hf) (by intro q; cases q)
  | succ n ih => exact fun a0 a1 a2 h H locs cells slots kc ks ls hf => w_X2_worst_b9 C hr hR N ih a0 a1 a2 h H locs cells slots kc ks ls hf
/-- SungSlidesModel.worst()I -/
theorem w_X2_worst (C : xh_C cX2_worst 3 "SungSlidesModel" D g p s m args meth c) (hr : meth.sig.returnType = (Option.some Jvm.ClassFile.FieldType.int)) (hR : 7 ≤ R.frames ∧ 157 ≤ R.locals) {rv : Int32} {hF : xh_H} (N : Nat) (a0 : Option Nat)  (h : xh_H) (H : Heap) (locs : List Loc) (cells slots kc ks : Nat) (ls : Array Slot) (hf : f_X2_worst N a0 h = some (rv, hF, kc, ks)) (hS : xh_T D g s R h H locs cells slots kc ks) (hl : xh_L ls 3 [(0, va_rf a0)]) : W p l e R s m args below meth c H locs cells slots (MQ below (xh_Q D g (some (.int rv)) hF) args s R.cells R.slots (xh_A g)) (F0 m 0 ls []) := by
  have hx := C.1
  have hb := C.2.1
  unfold f_X2_worst at hf
  refine xr_aload_n C dX2_worst_0 rfl (hl.at 0 rfl) ?_
  refine xr_V (V := fun _ => none) (n := 0) (fr := 6) (lo := 137) (As := []) C hS xf_X2 (lw_V q925 q927 qs27 q60 q928) hdv_X2_judgeSong ⟨Nat.le_trans (Nat.le_of_ble_eq_true rfl) hR.1, Nat.le_trans (Nat.le_of_ble_eq_true rfl) hR.2⟩ rfl hl.1.1 rfl xm_r0 hf (fun v h1 k1 n1 e1 => ct_X2_judgeSong l D N e1) dX2_worst_1 (fun _ h H locs cells slots kc ks hS hf => ?_)
  refine W.eq (g2 := F0 m 4 ls []) rfl ?_
  refine lv_bipush (v := -5) hx hb dX2_worst_4 xi_bm5 ?_
  refine xr_istore_n C dX2_worst_6 rfl hl (Nat.le_of_ble_eq_true rfl) (lv' := [(1, .int (-5 : Int32)), (0, va_rf a0)]) rfl (fun ls hl => ?_)
  refine lv_iconst (v := 0) hx hb dX2_worst_7 xi_c0 ?_
  refine xr_istore_n C dX2_worst_8 rfl hl (Nat.le_of_ble_eq_true rfl) (lv' := [(2, .int (0 : Int32)), (1, .int (-5 : Int32)), (0, va_rf a0)]) rfl (fun ls hl => ?_)
  exact w_X2_worst_l9 C hr hR N N a0 (-5 : Int32) (0 : Int32)  h H locs cells slots kc ks ls hf hS (hl.sub [2, 1, 0] rfl)
theorem ct_X2_worst (l : Launch) (D : xh_D) {rv : Int32} {h hF : xh_H} {kc ks : Nat} (N : Nat) {a0 : Option Nat} (hf : f_X2_worst N a0 h = some (rv, hF, kc, ks)) : xh_Ct l D yX2_worst (ws_ yX2_worst cX2_worst 3 (Option.some Jvm.ClassFile.FieldType.int)) 7 157 [va_rf a0] h (some (.int rv)) hF kc ks :=
  xh_meth (cc := cX2_worst) l (by decide) (Nat.le_of_ble_eq_true rfl) (List.forall_mem_cons.mpr ⟨va_rf_cat _, fun _ h => absurd h List.not_mem_nil⟩) fun p e s m below meth c ls C hr hnm hl hS => w_X2_worst C hr ⟨Nat.le_refl _, Nat.le_refl _⟩ N a0 h _ _ _ _ _ _ _ hf hS hl
end WALK
