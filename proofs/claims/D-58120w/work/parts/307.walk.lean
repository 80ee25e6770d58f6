/-! WALKS, printed by gen/walk.py -/
set_option maxRecDepth 100000
section WALK
variable {p : Program} {l : Launch} {e : Env} {s : State} {m : MethodId} {args : Array Value} {below : List Frame} {meth : Method} {c : Code} {D : xh_D} {g : Nat → Nat} {R : Room}
def K_X7_pointsOf_4 (p : Program) (l : Launch) (e : Env) (s : State) (m : MethodId) (args : Array Value) (below : List Frame) (meth : Method) (c : Code) (D : xh_D) (g : Nat → Nat) (R : Room) (rv : Int32) (hF : xh_H) (k : Option Nat → Int32 → Int32 → Int32 → xh_H → xh_R Int32) : Prop := ∀ (a0 : Option Nat) (a1 : Int32) (a2 : Int32) (a3 : Int32) (h : xh_H) (H : Heap) (locs : List Loc) (cells slots kc ks : Nat) (ls : Array Slot), k a0 a1 a2 a3 h = some (rv, hF, kc, ks) → xh_T D g s R h H locs cells slots kc ks → xh_L ls 4 [(0, va_rf a0), (1, .int a1), (2, .int a2), (3, .int a3)] → W p l e R s m args below meth c H locs cells slots (MQ below (xh_Q D g (some (.int rv)) hF) args s R.cells R.slots (xh_A g)) (F0 m 4 ls [])
theorem w_X7_pointsOf_b86 (C : xh_C cX7_pointsOf 4 "SungSlides$Judge" D g p s m args meth c) (hr : meth.sig.returnType = (Option.some Jvm.ClassFile.FieldType.int)) (hR : 4 ≤ R.frames ∧ 87 ≤ R.locals) {rv : Int32} {hF : xh_H} (N : Nat) : ∀ (t0 : Int32) (t1 : Int32) (h : xh_H) (H : Heap) (locs : List Loc) (cells slots kc ks : Nat) (ls : Array Slot), f_X7_pointsOf_b86 N t0 t1 h = some (rv, hF, kc, ks) → xh_T D g s R h H locs cells slots kc ks → xh_L ls 4 [] → W p l e R s m args below meth c H locs cells slots (MQ below (xh_Q D g (some (.int rv)) hF) args s R.cells R.slots (xh_A g)) (F0 m 86 ls [.int t1, .int t0]) := by
  intro t0 t1 h H locs cells slots kc ks ls hf hS hl
  have hx := C.1
  have hb := C.2.1
  unfold f_X7_pointsOf_b86 at hf
  refine lv_iadd hx hb dX7_pointsOf_86 ?_
  exact xr_iret C hS hr hf dX7_pointsOf_87
theorem w_X7_pointsOf_b85 (C : xh_C cX7_pointsOf 4 "SungSlides$Judge" D g p s m args meth c) (hr : meth.sig.returnType = (Option.some Jvm.ClassFile.FieldType.int)) (hR : 4 ≤ R.frames ∧ 87 ≤ R.locals) {rv : Int32} {hF : xh_H} (N : Nat) : ∀ (t0 : Int32) (h : xh_H) (H : Heap) (locs : List Loc) (cells slots kc ks : Nat) (ls : Array Slot), f_X7_pointsOf_b85 N t0 h = some (rv, hF, kc, ks) → xh_T D g s R h H locs cells slots kc ks → xh_L ls 4 [] → W p l e R s m args below meth c H locs cells slots (MQ below (xh_Q D g (some (.int rv)) hF) args s R.cells R.slots (xh_A g)) (F0 m 85 ls [.int t0]) := by
  intro t0 h H locs cells slots kc ks ls hf hS hl
  have hx := C.1
  have hb := C.2.1
  unfold f_X7_pointsOf_b85 at hf
  refine lv_iconst (v := 0) hx hb dX7_pointsOf_85 xi_c0 ?_
  exact w_X7_pointsOf_b86 C hr hR N t0 (0 : Int32) h H locs cells slots kc ks ls hf hS (hl.sub [] rfl)
theorem w_X7_pointsOf_b57 (C : xh_C cX7_pointsOf 4 "SungSlides$Judge" D g p s m args meth c) (hr : meth.sig.returnType = (Option.some Jvm.ClassFile.FieldType.int)) (hR : 4 ≤ R.frames ∧ 87 ≤ R.locals) {rv : Int32} {hF : xh_H} (N : Nat) : ∀ (a0 : Option Nat) (a1 : Int32) (a2 : Int32) (h : xh_H) (H : Heap) (locs : List Loc) (cells slots kc ks : Nat) (ls : Array Slot), f_X7_pointsOf_b57 N a0 a1 a2 h = some (rv, hF, kc, ks) → xh_T D g s R h H locs cells slots kc ks → xh_L ls 4 [(0, va_rf a0), (1, .int a1), (2, .int a2)] → W p l e R s m args below meth c H locs cells slots (MQ below (xh_Q D g (some (.int rv)) hF) args s R.cells R.slots (xh_A g)) (F0 m 57 ls []) := by
  intro a0 a1 a2 h H locs cells slots kc ks ls hf hS hl
  have hx := C.1
  have hb := C.2.1
  unfold f_X7_pointsOf_b57 at hf
  refine lv_iload_n hx hb dX7_pointsOf_57 rfl (hl.at 2 rfl) ?_
  refine xr_aload_n C dX7_pointsOf_58 rfl (hl.at 0 rfl) ?_
  refine lv_iload_n hx hb dX7_pointsOf_59 rfl (hl.at 1 rfl) ?_
  refine xr_V (V := fun v => some (.int v)) (n := 1) (fr := 3) (lo := 61) (As := [.int a1]) C hS xf_X7 (lw_V q765 q752 q753 q74 q754) hdv_X7_many ⟨Nat.le_trans (Nat.le_of_ble_eq_true rfl) hR.1, Nat.le_trans (Nat.le_of_ble_eq_true rfl) hR.2⟩ rfl hl.1.1 rfl (xm_rc rfl xm_r0) hf (fun v h1 k1 n1 e1 => ct_X7_many l D N e1) dX7_pointsOf_60 (fun x60 h H locs cells slots kc ks hS hf => ?_)
  refine W.eq (g2 := F0 m 63 ls [.int x60, .int a2]) rfl ?_
  refine lv_iconst (v := 2) hx hb dX7_pointsOf_63 xi_c2 ?_
  refine lv_icmp_lt (tgt := 85) hx hb dX7_pointsOf_64 (by decide) (fun c64 => ?_) (fun c64 => ?_)
  · replace hf := xb_pos c64 hf
    exact w_X7_pointsOf_b85 C hr hR N a2 h H locs cells slots kc ks ls hf hS (hl.sub [] rfl)
  · replace hf := xb_neg c64 hf
    refine xr_aload_n C dX7_pointsOf_67 rfl (hl.at 0 rfl) ?_
    refine lv_iload_n hx hb dX7_pointsOf_68 rfl (hl.at 1 rfl) ?_
    refine xr_V (V := fun v => some (.int v)) (n := 1) (fr := 3) (lo := 64) (As := [.int a1]) C hS xf_X7 (lw_V q766 q676 q677 q74 q678) hdv_X7_hits ⟨Nat.le_trans (Nat.le_of_ble_eq_true rfl) hR.1, Nat.le_trans (Nat.le_of_ble_eq_true rfl) hR.2⟩ rfl hl.1.1 rfl (xm_rc rfl xm_r0) hf (fun v h1 k1 n1 e1 => ct_X7_hits l D N e1) dX7_pointsOf_69 (fun x69 h H locs cells slots kc ks hS hf => ?_)
    refine W.eq (g2 := F0 m 72 ls [.int x69, .int a2]) rfl ?_
    refine xr_aload_n C dX7_pointsOf_72 rfl (hl.at 0 rfl) ?_
    refine lv_iload_n hx hb dX7_pointsOf_73 rfl (hl.at 1 rfl) ?_
    refine xr_V (V := fun v => some (.int v)) (n := 1) (fr := 3) (lo := 61) (As := [.int a1]) C hS xf_X7 (lw_V q765 q752 q753 q74 q754) hdv_X7_many ⟨Nat.le_trans (Nat.le_of_ble_eq_true rfl) hR.1, Nat.le_trans (Nat.le_of_ble_eq_true rfl) hR.2⟩ rfl hl.1.1 rfl (xm_rc rfl (xm_rc rfl xm_r0)) hf (fun v h1 k1 n1 e1 => ct_X7_many l D N e1) dX7_pointsOf_74 (fun x74 h H locs cells slots kc ks hS hf => ?_)
    refine W.eq (g2 := F0 m 77 ls [.int x74, .int x69, .int a2]) rfl ?_
    refine lv_icmp_ne (tgt := 85) hx hb dX7_pointsOf_77 (by decide) (fun c77 => ?_) (fun c77 => ?_)
    · replace hf := xb_neg c77 hf
      exact w_X7_pointsOf_b85 C hr hR N a2 h H locs cells slots kc ks ls hf hS (hl.sub [] rfl)
    · replace hf := xb_pos c77 hf
      refine lv_bipush (v := 50) hx hb dX7_pointsOf_80 xi_b50 ?_
      refine lv_goto (tgt := 86) hx hb dX7_pointsOf_82 (by decide) ?_
      exact w_X7_pointsOf_b86 C hr hR N a2 (50 : Int32) h H locs cells slots kc ks ls hf hS (hl.sub [] rfl)
theorem w_X7_pointsOf_b49 (C : xh_C cX7_pointsOf 4 "SungSlides$Judge" D g p s m args meth c) (hr : meth.sig.returnType = (Option.some Jvm.ClassFile.FieldType.int)) (hR : 4 ≤ R.frames ∧ 87 ≤ R.locals) {rv : Int32} {hF : xh_H} (N : Nat) {k4 : Option Nat → Int32 → Int32 → Int32 → xh_H → xh_R Int32} (hk4 : K_X7_pointsOf_4 p l e s m args below meth c D g R rv hF k4) : ∀ (a0 : Option Nat) (a1 : Int32) (a3 : Int32) (t0 : Int32) (t1 : Int32) (h : xh_H) (H : Heap) (locs : List Loc) (cells slots kc ks : Nat) (ls : Array Slot), f_X7_pointsOf_b49 N k4 a0 a1 a3 t0 t1 h = some (rv, hF, kc, ks) → xh_T D g s R h H locs cells slots kc ks → xh_L ls 4 [(0, va_rf a0), (1, .int a1), (3, .int a3)] → W p l e R s m args below meth c H locs cells slots (MQ below (xh_Q D g (some (.int rv)) hF) args s R.cells R.slots (xh_A g)) (F0 m 49 ls [.int t1, .int t0]) := by
  intro a0 a1 a3 t0 t1 h H locs cells slots kc ks ls hf hS hl
  have hx := C.1
  have hb := C.2.1
  unfold f_X7_pointsOf_b49 at hf
  refine lv_iadd hx hb dX7_pointsOf_49 ?_
  refine xr_istore_n C dX7_pointsOf_50 rfl hl (Nat.le_of_ble_eq_true rfl) (lv' := [(2, .int (t0 + t1)), (0, va_rf a0), (1, .int a1), (3, .int a3)]) rfl (fun ls hl => ?_)
  refine xr_iinc C dX7_pointsOf_51 hl (k := 3) rfl (xi_inc xi_c1) (Nat.le_of_ble_eq_true rfl) (lv' := [(3, .int (a3 + (1 : Int32))), (2, .int (t0 + t1)), (0, va_rf a0), (1, .int a1)]) rfl (fun ls hl => ?_)
  refine lv_goto (tgt := 4) hx hb dX7_pointsOf_54 (by decide) ?_
  exact hk4 a0 a1 (t0 + t1) (a3 + (1 : Int32))  h H locs cells slots kc ks ls hf hS (hl.sub [2, 3, 1, 0] rfl)
theorem w_X7_pointsOf_b4 (C : xh_C cX7_pointsOf 4 "SungSlides$Judge" D g p s m args meth c) (hr : meth.sig.returnType = (Option.some Jvm.ClassFile.FieldType.int)) (hR : 4 ≤ R.frames ∧ 87 ≤ R.locals) {rv : Int32} {hF : xh_H} (N : Nat) {k4 : Option Nat → Int32 → Int32 → Int32 → xh_H → xh_R Int32} (hk4 : K_X7_pointsOf_4 p l e s m args below meth c D g R rv hF k4) : ∀ (a0 : Option Nat) (a1 : Int32) (a2 : Int32) (a3 : Int32) (h : xh_H) (H : Heap) (locs : List Loc) (cells slots kc ks : Nat) (ls : Array Slot), f_X7_pointsOf_b4 N k4 a0 a1 a2 a3 h = some (rv, hF, kc, ks) → xh_T D g s R h H locs cells slots kc ks → xh_L ls 4 [(0, va_rf a0), (1, .int a1), (2, .int a2), (3, .int a3)] → W p l e R s m args below meth c H locs cells slots (MQ below (xh_Q D g (some (.int rv)) hF) args s R.cells R.slots (xh_A g)) (F0 m 4 ls []) := by
  intro a0 a1 a2 a3 h H locs cells slots kc ks ls hf hS hl
  have hx := C.1
  have hb := C.2.1
  unfold f_X7_pointsOf_b4 at hf
  refine lv_iload_n hx hb dX7_pointsOf_4 rfl (hl.at 3 rfl) ?_
  refine xr_aload_n C dX7_pointsOf_5 rfl (hl.at 0 rfl) ?_
  refine xr_getR C hS xf_X7 0 (by decide) q601 (fun _ h => h) hf dX7_pointsOf_6 (fun x6 hf => ?_)
  refine xr_V (V := fun v => some (.int v)) (n := 0) (fr := 1) (lo := 20) (As := []) C hS xf_X1 (lw_V q632 q346 q347 q56 q348) hdv_X1_many ⟨Nat.le_trans (Nat.le_of_ble_eq_true rfl) hR.1, Nat.le_trans (Nat.le_of_ble_eq_true rfl) hR.2⟩ rfl hl.1.1 rfl (xm_rc rfl xm_r0) hf (fun v h1 k1 n1 e1 => ct_X1_many l D N e1) dX7_pointsOf_9 (fun x9 h H locs cells slots kc ks hS hf => ?_)
  refine W.eq (g2 := F0 m 12 ls [.int x9, .int a3]) rfl ?_
  refine lv_icmp_ge (tgt := 57) hx hb dX7_pointsOf_12 (by decide) (fun c12 => ?_) (fun c12 => ?_)
  · replace hf := xb_pos c12 hf
    exact w_X7_pointsOf_b57 C hr hR N a0 a1 a2  h H locs cells slots kc ks ls hf hS (hl.sub [0, 1, 2] rfl)
  · replace hf := xb_neg c12 hf
    refine lv_iload_n hx hb dX7_pointsOf_15 rfl (hl.at 2 rfl) ?_
    refine xr_aload_n C dX7_pointsOf_16 rfl (hl.at 0 rfl) ?_
    refine xr_getR C hS xf_X7 0 (by decide) q601 (fun _ h => h) hf dX7_pointsOf_17 (fun x17 hf => ?_)
    refine xr_getNR C hS xf_X1 0 (by decide) xn_q123 rfl hf dX7_pointsOf_20 (fun x20 hf => ?_)
    refine lv_iload_n hx hb dX7_pointsOf_23 rfl (hl.at 3 rfl) ?_
    refine xr_F (V := fun v => some (va_rf v)) (n := 1) (fr := 2) (lo := 43) (As := [.int a3]) C hS xf_J2 q638 q362 q364 q59 q366 xn_i6 hdi_J2_get ⟨Nat.le_trans (Nat.le_of_ble_eq_true rfl) hR.1, Nat.le_trans (Nat.le_of_ble_eq_true rfl) hR.2⟩ rfl hl.1.1 rfl (xm_rc rfl xm_r0) hf (fun v h1 k1 n1 e1 => ct_J2_get l D N e1) dX7_pointsOf_24 (fun x24 h H locs cells slots kc ks hS hf => ?_)
    refine W.eq (g2 := F0 m 29 ls [va_rf x24, .int a2]) rfl ?_
    refine xr_ccS C hS xf_X5 q639 hf dX7_pointsOf_29 (fun hf => ?_)
    refine xr_getNI C hS xf_X5 4 (by decide) xn_q459 rfl hf dX7_pointsOf_32 (fun x32 hf => ?_)
    refine lv_iload_n hx hb dX7_pointsOf_35 rfl (hl.at 1 rfl) ?_
    refine lv_icmp_ne (tgt := 48) hx hb dX7_pointsOf_36 (by decide) (fun c36 => ?_) (fun c36 => ?_)
    · replace hf := xb_neg c36 hf
      refine lv_iconst (v := 0) hx hb dX7_pointsOf_48 xi_c0 ?_
      exact w_X7_pointsOf_b49 C hr hR N hk4 a0 a1 a3 a2 (0 : Int32) h H locs cells slots kc ks ls hf hS (hl.sub [0, 1, 3] rfl)
    · replace hf := xb_pos c36 hf
      refine xr_aload_n C dX7_pointsOf_39 rfl (hl.at 0 rfl) ?_
      refine xr_getR C hS xf_X7 5 (by decide) q610 (fun _ h => h) hf dX7_pointsOf_40 (fun x40 hf => ?_)
      refine lv_iload_n hx hb dX7_pointsOf_43 rfl (hl.at 3 rfl) ?_
      refine xr_iald C hS hf dX7_pointsOf_44 (fun x44 hf => ?_)
      refine lv_goto (tgt := 49) hx hb dX7_pointsOf_45 (by decide) ?_
      exact w_X7_pointsOf_b49 C hr hR N hk4 a0 a1 a3 a2 x44 h H locs cells slots kc ks ls hf hS (hl.sub [0, 1, 3] rfl)
theorem w_X7_pointsOf_l4 (C : xh_C cX7_pointsOf 4 "SungSlides$Judge" D g p s m args meth c) (hr : meth.sig.returnType = (Option.some Jvm.ClassFile.FieldType.int)) (hR : 4 ≤ R.frames ∧ 87 ≤ R.locals) {rv : Int32} {hF : xh_H} (N : Nat) : ∀ n : Nat, K_X7_pointsOf_4 p l e s m args below meth c D g R rv hF (f_X7_pointsOf_l4 N n) := by
  intro n
  induction n with
  | zero => exact fun a0 a1 a2 a3 h H locs cells slots kc ks ls hf => absurd (show (none : xh_R Int32) = some _ from hf) (by intro q; cases q)
  | succ n ih => exact fun a0 a1 a2 a3 h H locs cells slots kc ks ls hf => w_X7_pointsOf_b4 C hr hR N ih a0 a1 a2 a3 h H locs cells slots kc ks ls hf
/-- SungSlides$Judge.pointsOf(I)I -/
theorem w_X7_pointsOf (C : xh_C cX7_pointsOf 4 "SungSlides$Judge" D g p s m args meth c) (hr : meth.sig.returnType = (Option.some Jvm.ClassFile.FieldType.int)) (hR : 4 ≤ R.frames ∧ 87 ≤ R.locals) {rv : Int32} {hF : xh_H} (N : Nat) (a0 : Option Nat) (a1 : Int32)  (h : xh_H) (H : Heap) (locs : List Loc) (cells slots kc ks : Nat) (ls : Array Slot) (hf : f_X7_pointsOf N a0 a1 h = some (rv, hF, kc, ks)) (hS : xh_T D g s R h H locs cells slots kc ks) (hl : xh_L ls 4 [(0, va_rf a0), (1, .int a1)]) : W p l e R s m args below meth c H locs cells slots (MQ below (xh_Q D g (some (.int rv)) hF) args s R.cells R.slots (xh_A g)) (F0 m 0 ls []) := by
  have hx := C.1
  have hb := C.2.1
  unfold f_X7_pointsOf at hf
  refine lv_iconst (v := 0) hx hb dX7_pointsOf_0 xi_c0 ?_
  refine xr_istore_n C dX7_pointsOf_1 rfl hl (Nat.le_of_ble_eq_true rfl) (lv' := [(2, .int (0 : Int32)), (0, va_rf a0), (1, .int a1)]) rfl (fun ls hl => ?_)
  refine lv_iconst (v := 0) hx hb dX7_pointsOf_2 xi_c0 ?_
  refine xr_istore_n C dX7_pointsOf_3 rfl hl (Nat.le_of_ble_eq_true rfl) (lv' := [(3, .int (0 : Int32)), (2, .int (0 : Int32)), (0, va_rf a0), (1, .int a1)]) rfl (fun ls hl => ?_)
  exact w_X7_pointsOf_l4 C hr hR N N a0 a1 (0 : Int32) (0 : Int32)  h H locs cells slots kc ks ls hf hS (hl.sub [2, 3, 1, 0] rfl)
theorem ct_X7_pointsOf (l : Launch) (D : xh_D) {rv : Int32} {h hF : xh_H} {kc ks : Nat} (N : Nat) {a0 : Option Nat} {a1 : Int32} (hf : f_X7_pointsOf N a0 a1 h = some (rv, hF, kc, ks)) : xh_Ct l D yX7_pointsOf (ws_ yX7_pointsOf cX7_pointsOf 4 (Option.some Jvm.ClassFile.FieldType.int)) 4 87 [va_rf a0, .int a1] h (some (.int rv)) hF kc ks :=
  xh_meth (cc := cX7_pointsOf) l (by decide) (Nat.le_of_ble_eq_true rfl) (List.forall_mem_cons.mpr ⟨va_rf_cat _, List.forall_mem_cons.mpr ⟨rfl, fun _ h => absurd h List.not_mem_nil⟩⟩) fun p e s m below meth c ls C hr hnm hl hS => w_X7_pointsOf C hr ⟨Nat.le_refl _, Nat.le_refl _⟩ N a0 a1 h _ _ _ _ _ _ _ hf hS hl
/-- SungSlides.phrase(II)I -/
theorem w_X0_phrase (C : xh_C cX0_phrase 4 "SungSlides" D g p s m args meth c) (hr : meth.sig.returnType = (Option.some Jvm.ClassFile.FieldType.int)) (hR : 8 ≤ R.frames ∧ 175 ≤ R.locals) {rv : Int32} {hF : xh_H} (N : Nat) (a0 : Option Nat) (a1 : Int32) (a2 : Int32)  (h : xh_H) (H : Heap) (locs : List Loc) (cells slots kc ks : Nat) (ls : Array Slot) (hf : f_X0_phrase N a0 a1 a2 h = some (rv, hF, kc, ks)) (hS : xh_T D g s R h H locs cells slots kc ks) (hl : xh_L ls 4 [(0, va_rf a0), (1, .int a1), (2, .int a2)]) : W p l e R s m args below meth c H locs cells slots (MQ below (xh_Q D g (some (.int rv)) hF) args s R.cells R.slots (xh_A g)) (F0 m 0 ls []) := by
  have hx := C.1
  have hb := C.2.1
  unfold f_X0_phrase at hf
  refine lv_iload_n hx hb dX0_phrase_0 rfl (hl.at 1 rfl) ?_
  refine lv_iconst (v := 0) hx hb dX0_phrase_1 xi_c0 ?_
  refine xr_aload_n C dX0_phrase_2 rfl (hl.at 0 rfl) ?_
  refine xr_getR C hS xf_X0 0 (by decide) q139 (fun _ h => h) hf dX0_phrase_3 (fun x3 hf => ?_)
  refine xr_V (V := fun v => some (.int v)) (n := 0) (fr := 3) (lo := 64) (As := []) C hS xf_X1 (lw_V q746 q438 q439 q56 q440) hdv_X1_phrases ⟨Nat.le_trans (Nat.le_of_ble_eq_true rfl) hR.1, Nat.le_trans (Nat.le_of_ble_eq_true rfl) hR.2⟩ rfl hl.1.1 rfl (xm_rc rfl (xm_rc rfl xm_r0)) hf (fun v h1 k1 n1 e1 => ct_X1_phrases l D N e1) dX0_phrase_6 (fun x6 h H locs cells slots kc ks hS hf => ?_)
  refine W.eq (g2 := F0 m 9 ls [.int x6, .int (0 : Int32), .int a1]) rfl ?_
  refine lv_iconst (v := 1) hx hb dX0_phrase_9 xi_c1 ?_
  refine lv_isub hx hb dX0_phrase_10 ?_
  refine xr_S (V := fun v => some (.int v)) (n := 3) (fr := 0) (lo := 0) (As := [.int a1, .int (0 : Int32), .int (x6 - (1 : Int32))]) C hS (lw_S q200 q195 q55 q196) hd_X0_isBetween ⟨Nat.le_trans (Nat.le_of_ble_eq_true rfl) hR.1, Nat.le_trans (Nat.le_of_ble_eq_true rfl) hR.2⟩ rfl hl.1.1 rfl xm_r0 hf (fun v h1 k1 n1 e1 => ct_X0_isBetween l D N e1) dX0_phrase_11 (fun x11 h H locs cells slots kc ks hS hf => ?_)
  refine W.eq (g2 := F0 m 14 ls [.int x11]) rfl ?_
  refine lv_if_ne (tgt := 19) hx hb dX0_phrase_14 (by decide) (fun c14 => ?_) (fun c14 => ?_)
  · replace hf := xb_neg c14 hf
    refine xr_aload_n C dX0_phrase_19 rfl (hl.at 0 rfl) ?_
    refine xr_V (V := fun v => some (va_rf v)) (n := 0) (fr := 7) (lo := 155) (As := []) C hS xf_X0 (lw_V q591 q593 qs10 q55 q594) hdv_X0_judged ⟨Nat.le_trans (Nat.le_of_ble_eq_true rfl) hR.1, Nat.le_trans (Nat.le_of_ble_eq_true rfl) hR.2⟩ rfl hl.1.1 rfl xm_r0 hf (fun v h1 k1 n1 e1 => ct_X0_judged l D N e1) dX0_phrase_20 (fun x20 h H locs cells slots kc ks hS hf => ?_)
    refine W.eq (g2 := F0 m 23 ls [va_rf x20]) rfl ?_
    refine xr_astore_n C dX0_phrase_23 rfl hl (Nat.le_of_ble_eq_true rfl) (lv' := [(3, va_rf x20), (0, va_rf a0), (1, .int a1), (2, .int a2)]) rfl (fun ls hl => ?_)
    refine lv_iload_n hx hb dX0_phrase_24 rfl (hl.at 3 rfl) ?_
    by_cases c25_0 : a2 = 0
    · replace hf := xb_pos c25_0 hf
      refine xr_tab c25_0 C dX0_phrase_25 (by decide) (by decide) (off := 35) (tgt := 60) (by decide) (by decide) ?_
      refine xr_aload_n C dX0_phrase_60 rfl (hl.at 0 rfl) ?_
      refine lv_iload_n hx hb dX0_phrase_61 rfl (hl.at 2 rfl) ?_
      refine xr_V (V := fun v => some (.int v)) (n := 1) (fr := 3) (lo := 64) (As := [.int a1]) C hS xf_X7 (lw_V q747 q748 q749 q74 q750) hdv_X7_first ⟨Nat.le_trans (Nat.le_of_ble_eq_true rfl) hR.1, Nat.le_trans (Nat.le_of_ble_eq_true rfl) hR.2⟩ rfl hl.1.1 rfl xm_r0 hf (fun v h1 k1 n1 e1 => ct_X7_first l D N e1) dX0_phrase_62 (fun x62 h H locs cells slots kc ks hS hf => ?_)
      refine W.eq (g2 := F0 m 65 ls [.int x62]) rfl ?_
      exact xr_iret C hS hr hf dX0_phrase_65
    replace hf := xb_neg c25_0 hf
    by_cases c25_1 : a2 = 1
    · replace hf := xb_pos c25_1 hf
      refine xr_tab c25_1 C dX0_phrase_25 (by decide) (by decide) (off := 41) (tgt := 66) (by decide) (by decide) ?_
      refine xr_aload_n C dX0_phrase_66 rfl (hl.at 0 rfl) ?_
      refine lv_iload_n hx hb dX0_phrase_67 rfl (hl.at 2 rfl) ?_
      refine xr_V (V := fun v => some (.int v)) (n := 1) (fr := 3) (lo := 61) (As := [.int a1]) C hS xf_X7 (lw_V q751 q752 q753 q74 q754) hdv_X7_many ⟨Nat.le_trans (Nat.le_of_ble_eq_true rfl) hR.1, Nat.le_trans (Nat.le_of_ble_eq_true rfl) hR.2⟩ rfl hl.1.1 rfl xm_r0 hf (fun v h1 k1 n1 e1 => ct_X7_many l D N e1) dX0_phrase_68 (fun x68 h H locs cells slots kc ks hS hf => ?_)
      refine W.eq (g2 := F0 m 71 ls [.int x68]) rfl ?_
      exact xr_iret C hS hr hf dX0_phrase_71
    replace hf := xb_neg c25_1 hf
    by_cases c25_2 : a2 = 2
    · replace hf := xb_pos c25_2 hf
      refine xr_tab c25_2 C dX0_phrase_25 (by decide) (by decide) (off := 47) (tgt := 72) (by decide) (by decide) ?_
      refine xr_aload_n C dX0_phrase_72 rfl (hl.at 0 rfl) ?_
      refine lv_iload_n hx hb dX0_phrase_73 rfl (hl.at 2 rfl) ?_
      refine xr_V (V := fun v => some (.int v)) (n := 1) (fr := 3) (lo := 64) (As := [.int a1]) C hS xf_X7 (lw_V q675 q676 q677 q74 q678) hdv_X7_hits ⟨Nat.le_trans (Nat.le_of_ble_eq_true rfl) hR.1, Nat.le_trans (Nat.le_of_ble_eq_true rfl) hR.2⟩ rfl hl.1.1 rfl xm_r0 hf (fun v h1 k1 n1 e1 => ct_X7_hits l D N e1) dX0_phrase_74 (fun x74 h H locs cells slots kc ks hS hf => ?_)
      refine W.eq (g2 := F0 m 77 ls [.int x74]) rfl ?_
      exact xr_iret C hS hr hf dX0_phrase_77
    replace hf := xb_neg c25_2 hf
    by_cases c25_3 : a2 = 3
    · replace hf := xb_pos c25_3 hf
      refine xr_tab c25_3 C dX0_phrase_25 (by decide) (by decide) (off := 53) (tgt := 78) (by decide) (by decide) ?_
      refine xr_aload_n C dX0_phrase_78 rfl (hl.at 0 rfl) ?_
      refine lv_iload_n hx hb dX0_phrase_79 rfl (hl.at 2 rfl) ?_
      refine xr_V (V := fun v => some (.int v)) (n := 1) (fr := 4) (lo := 87) (As := [.int a1]) C hS xf_X7 (lw_V q761 q762 q763 q74 q764) hdv_X7_pointsOf ⟨Nat.le_trans (Nat.le_of_ble_eq_true rfl) hR.1, Nat.le_trans (Nat.le_of_ble_eq_true rfl) hR.2⟩ rfl hl.1.1 rfl xm_r0 hf (fun v h1 k1 n1 e1 => ct_X7_pointsOf l D N e1) dX0_phrase_80 (fun x80 h H locs cells slots kc ks hS hf => ?_)
      refine W.eq (g2 := F0 m 83 ls [.int x80]) rfl ?_
      exact xr_iret C hS hr hf dX0_phrase_83
    replace hf := xb_neg c25_3 hf
    by_cases c25_4 : a2 = 4
    · replace hf := xb_pos c25_4 hf
      refine xr_tab c25_4 C dX0_phrase_25 (by decide) (by decide) (off := 59) (tgt := 84) (by decide) (by decide) ?_
      refine xr_aload_n C dX0_phrase_84 rfl (hl.at 0 rfl) ?_
      refine lv_iload_n hx hb dX0_phrase_85 rfl (hl.at 2 rfl) ?_
      refine xr_V (V := fun v => some (.int v)) (n := 1) (fr := 3) (lo := 64) (As := [.int a1]) C hS xf_X7 (lw_V q767 q768 q769 q74 q770) hdv_X7_longestRow ⟨Nat.le_trans (Nat.le_of_ble_eq_true rfl) hR.1, Nat.le_trans (Nat.le_of_ble_eq_true rfl) hR.2⟩ rfl hl.1.1 rfl xm_r0 hf (fun v h1 k1 n1 e1 => ct_X7_longestRow l D N e1) dX0_phrase_86 (fun x86 h H locs cells slots kc ks hS hf => ?_)
      refine W.eq (g2 := F0 m 89 ls [.int x86]) rfl ?_
      exact xr_iret C hS hr hf dX0_phrase_89
    replace hf := xb_neg c25_4 hf
    refine lv_tableOut (tgt := 90) hx hb dX0_phrase_25 (by have ec25_0 := lv_neT c25_0 (a := 0) (by decide); have ec25_1 := lv_neT c25_1 (a := 1) (by decide); have ec25_2 := lv_neT c25_2 (a := 2) (by decide); have ec25_3 := lv_neT c25_3 (a := 3) (by decide); have ec25_4 := lv_neT c25_4 (a := 4) (by decide); omega) (by decide) ?_
    refine lv_bipush (v := -2) hx hb dX0_phrase_90 xi_bm2 ?_
    exact xr_iret C hS hr hf dX0_phrase_92
  · replace hf := xb_pos c14 hf
    refine lv_iconst (v := -1) hx hb dX0_phrase_17 xi_cm1 ?_
    exact xr_iret C hS hr hf dX0_phrase_18
theorem ct_X0_phrase (l : Launch) (D : xh_D) {rv : Int32} {h hF : xh_H} {kc ks : Nat} (N : Nat) {a0 : Option Nat} {a1 : Int32} {a2 : Int32} (hf : f_X0_phrase N a0 a1 a2 h = some (rv, hF, kc, ks)) : xh_Ct l D yX0_phrase (ws_ yX0_phrase cX0_phrase 4 (Option.some Jvm.ClassFile.FieldType.int)) 8 175 [va_rf a0, .int a1, .int a2] h (some (.int rv)) hF kc ks :=
  xh_meth (cc := cX0_phrase) l (by decide) (Nat.le_of_ble_eq_true rfl) (List.forall_mem_cons.mpr ⟨va_rf_cat _, List.forall_mem_cons.mpr ⟨rfl, List.forall_mem_cons.mpr ⟨rfl, fun _ h => absurd h List.not_mem_nil⟩⟩⟩) fun p e s m below meth c ls C hr hnm hl hS => w_X0_phrase C hr ⟨Nat.le_refl _, Nat.le_refl _⟩ N a0 a1 a2 h _ _ _ _ _ _ _ hf hS hl
def K_X0_sungTicks_10 (p : Program) (l : Launch) (e : Env) (s : State) (m : MethodId) (args : Array Value) (below : List Frame) (meth : Method) (c : Code) (D : xh_D) (g : Nat → Nat) (R : Room) (rv : Int32) (hF : xh_H) (k : Option Nat → Int32 → Option Nat → Int32 → Int32 → xh_H → xh_R Int32) : Prop := ∀ (a0 : Option Nat) (a1 : Int32) (a2 : Option Nat) (a3 : Int32) (a4 : Int32) (h : xh_H) (H : Heap) (locs : List Loc) (cells slots kc ks : Nat) (ls : Array Slot), k a0 a1 a2 a3 a4 h = some (rv, hF, kc, ks) → xh_T D g s R h H locs cells slots kc ks → xh_L ls 5 [(0, va_rf a0), (1, .int a1), (2, va_rf a2), (3, .int a3), (4, .int a4)] → W p l e R s m args below meth c H locs cells slots (MQ below (xh_Q D g (some (.int rv)) hF) args s R.cells R.slots (xh_A g)) (F0 m 10 ls [])
theorem w_X0_sungTicks_b67 (C : xh_C cX0_sungTicks 5 "SungSlides" D g p s m args meth c) (hr : meth.sig.returnType = (Option.some Jvm.ClassFile.FieldType.int)) (hR : 8 ≤ R.frames ∧ 175 ≤ R.locals) {rv : Int32} {hF : xh_H} (N : Nat) : ∀ (a3 : Int32) (h : xh_H) (H : Heap) (locs : List Loc) (cells slots kc ks : Nat) (ls : Array Slot), f_X0_sungTicks_b67 N a3 h = some (rv, hF, kc, ks) → xh_T D g s R h H locs cells slots kc ks → xh_L ls 5 [(3, .int a3)] → W p l e R s m args below meth c H locs cells slots (MQ below (xh_Q D g (some (.int rv)) hF) args s R.cells R.slots (xh_A g)) (F0 m 67 ls []) := by
  intro a3 h H locs cells slots kc ks ls hf hS hl
  have hx := C.1
  have hb := C.2.1
  unfold f_X0_sungTicks_b67 at hf
  refine lv_iload_n hx hb dX0_sungTicks_67 rfl (hl.at 0 rfl) ?_
  exact xr_iret C hS hr hf dX0_sungTicks_68
theorem w_X0_sungTicks_b59 (C : xh_C cX0_sungTicks 5 "SungSlides" D g p s m args meth c) (hr : meth.sig.returnType = (Option.some Jvm.ClassFile.FieldType.int)) (hR : 8 ≤ R.frames ∧ 175 ≤ R.locals) {rv : Int32} {hF : xh_H} (N : Nat) {k10 : Option Nat → Int32 → Option Nat → Int32 → Int32 → xh_H → xh_R Int32} (hk10 : K_X0_sungTicks_10 p l e s m args below meth c D g R rv hF k10) : ∀ (a0 : Option Nat) (a1 : Int32) (a2 : Option Nat) (a4 : Int32) (t0 : Int32) (t1 : Int32) (h : xh_H) (H : Heap) (locs : List Loc) (cells slots kc ks : Nat) (ls : Array Slot), f_X0_sungTicks_b59 N k10 a0 a1 a2 a4 t0 t1 h = some (rv, hF, kc, ks) → xh_T D g s R h H locs cells slots kc ks → xh_L ls 5 [(0, va_rf a0), (1, .int a1), (2, va_rf a2), (4, .int a4)] → W p l e R s m args below meth c H locs cells slots (MQ below (xh_Q D g (some (.int rv)) hF) args s R.cells R.slots (xh_A g)) (F0 m 59 ls [.int t1, .int t0]) := by
  intro a0 a1 a2 a4 t0 t1 h H locs cells slots kc ks ls hf hS hl
  have hx := C.1
  have hb := C.2.1
  unfold f_X0_sungTicks_b59 at hf
  refine lv_iadd hx hb dX0_sungTicks_59 ?_
  refine xr_istore_n C dX0_sungTicks_60 rfl hl (Nat.le_of_ble_eq_true rfl) (lv' := [(3, .int (t0 + t1)), (0, va_rf a0), (1, .int a1), (2, va_rf a2), (4, .int a4)]) rfl (fun ls hl => ?_)
  refine xr_iinc C dX0_sungTicks_61 hl (k := 4) rfl (xi_inc xi_c1) (Nat.le_of_ble_eq_true rfl) (lv' := [(4, .int (a4 + (1 : Int32))), (3, .int (t0 + t1)), (0, va_rf a0), (1, .int a1), (2, va_rf a2)]) rfl (fun ls hl => ?_)
  refine lv_goto (tgt := 10) hx hb dX0_sungTicks_64 (by decide) ?_
  exact hk10 a0 a1 a2 (t0 + t1) (a4 + (1 : Int32))  h H locs cells slots kc ks ls hf hS (hl.sub [2, 3, 4, 1, 0] rfl)
theorem w_X0_sungTicks_b10 (C : xh_C cX0_sungTicks 5 "SungSlides" D g p s m args meth c) (hr : meth.sig.returnType = (Option.some Jvm.ClassFile.FieldType.int)) (hR : 8 ≤ R.frames ∧ 175 ≤ R.locals) {rv : Int32} {hF : xh_H} (N : Nat) {k10 : Option Nat → Int32 → Option Nat → Int32 → Int32 → xh_H → xh_R Int32} (hk10 : K_X0_sungTicks_10 p l e s m args below meth c D g R rv hF k10) : ∀ (a0 : Option Nat) (a1 : Int32) (a2 : Option Nat) (a3 : Int32) (a4 : Int32) (h : xh_H) (H : Heap) (locs : List Loc) (cells slots kc ks : Nat) (ls : Array Slot), f_X0_sungTicks_b10 N k10 a0 a1 a2 a3 a4 h = some (rv, hF, kc, ks) → xh_T D g s R h H locs cells slots kc ks → xh_L ls 5 [(0, va_rf a0), (1, .int a1), (2, va_rf a2), (3, .int a3), (4, .int a4)] → W p l e R s m args below meth c H locs cells slots (MQ below (xh_Q D g (some (.int rv)) hF) args s R.cells R.slots (xh_A g)) (F0 m 10 ls []) := by
  intro a0 a1 a2 a3 a4 h H locs cells slots kc ks ls hf hS hl
  have hx := C.1
  have hb := C.2.1
  unfold f_X0_sungTicks_b10 at hf
  refine lv_iload hx hb dX0_sungTicks_10 (hl.at 4 rfl) ?_
  refine lv_sipush (v := 600) hx hb dX0_sungTicks_12 xi_s600 ?_
  refine lv_icmp_ge (tgt := 67) hx hb dX0_sungTicks_15 (by decide) (fun c15 => ?_) (fun c15 => ?_)
  · replace hf := xb_pos c15 hf
    exact w_X0_sungTicks_b67 C hr hR N a3  h H locs cells slots kc ks ls hf hS (hl.sub [3] rfl)
  · replace hf := xb_neg c15 hf
    refine lv_iload_n hx hb dX0_sungTicks_18 rfl (hl.at 3 rfl) ?_
    refine lv_iload_n hx hb dX0_sungTicks_19 rfl (hl.at 1 rfl) ?_
    refine lv_if_eq (tgt := 40) hx hb dX0_sungTicks_20 (by decide) (fun c20 => ?_) (fun c20 => ?_)
    · replace hf := xb_pos c20 hf
      refine xr_aload_n C dX0_sungTicks_40 rfl (hl.at 0 rfl) ?_
      refine xr_getR C hS xf_X0 0 (by decide) q139 (fun _ h => h) hf dX0_sungTicks_41 (fun x41 hf => ?_)
      refine xr_getNR C hS xf_X1 1 (by decide) xn_q126 rfl hf dX0_sungTicks_44 (fun x44 hf => ?_)
      refine lv_iload hx hb dX0_sungTicks_47 (hl.at 4 rfl) ?_
      refine xr_iald C hS hf dX0_sungTicks_49 (fun x49 hf => ?_)
      refine lv_iconst (v := -1) hx hb dX0_sungTicks_50 xi_cm1 ?_
      refine lv_icmp_ne (tgt := 58) hx hb dX0_sungTicks_51 (by decide) (fun c51 => ?_) (fun c51 => ?_)
      · replace hf := xb_neg c51 hf
        refine lv_iconst (v := 1) hx hb dX0_sungTicks_58 xi_c1 ?_
        exact w_X0_sungTicks_b59 C hr hR N hk10 a0 a1 a2 a4 a3 (1 : Int32) h H locs cells slots kc ks ls hf hS (hl.sub [0, 1, 2, 4] rfl)
      · replace hf := xb_pos c51 hf
        refine lv_iconst (v := 0) hx hb dX0_sungTicks_54 xi_c0 ?_
        refine lv_goto (tgt := 59) hx hb dX0_sungTicks_55 (by decide) ?_
        exact w_X0_sungTicks_b59 C hr hR N hk10 a0 a1 a2 a4 a3 (0 : Int32) h H locs cells slots kc ks ls hf hS (hl.sub [0, 1, 2, 4] rfl)
    · replace hf := xb_neg c20 hf
      refine xr_aload_n C dX0_sungTicks_23 rfl (hl.at 2 rfl) ?_
      refine lv_iload hx hb dX0_sungTicks_24 (hl.at 4 rfl) ?_
      refine xr_VN (V := fun v => some (.int v)) (n := 1) (fr := 2) (lo := 42) (As := [.int a4]) C hS xf_X7 xn_q780 q659 qs14 q74 q660 hd_X7_isOnset ⟨Nat.le_trans (Nat.le_of_ble_eq_true rfl) hR.1, Nat.le_trans (Nat.le_of_ble_eq_true rfl) hR.2⟩ rfl hl.1.1 rfl (xm_rc rfl xm_r0) hf (fun v h1 k1 n1 e1 => ct_X7_isOnset l D N e1) dX0_sungTicks_26 (fun x26 h H locs cells slots kc ks hS hf => ?_)
      refine W.eq (g2 := F0 m 29 ls [.int x26, .int a3]) rfl ?_
      refine lv_if_eq (tgt := 36) hx hb dX0_sungTicks_29 (by decide) (fun c29 => ?_) (fun c29 => ?_)
      · replace hf := xb_pos c29 hf
        refine lv_iconst (v := 0) hx hb dX0_sungTicks_36 xi_c0 ?_
        refine lv_goto (tgt := 59) hx hb dX0_sungTicks_37 (by decide) ?_
        exact w_X0_sungTicks_b59 C hr hR N hk10 a0 a1 a2 a4 a3 (0 : Int32) h H locs cells slots kc ks ls hf hS (hl.sub [0, 1, 2, 4] rfl)
      · replace hf := xb_neg c29 hf
        refine lv_iconst (v := 1) hx hb dX0_sungTicks_32 xi_c1 ?_
        refine lv_goto (tgt := 59) hx hb dX0_sungTicks_33 (by decide) ?_
        exact w_X0_sungTicks_b59 C hr hR N hk10 a0 a1 a2 a4 a3 (1 : Int32) h H locs cells slots kc ks ls hf hS (hl.sub [0, 1, 2, 4] rfl)
theorem w_X0_sungTicks_l10 (C : xh_C cX0_sungTicks 5 "SungSlides" D g p s m args meth c) (hr : meth.sig.returnType = (Option.some Jvm.ClassFile.FieldType.int)) (hR : 8 ≤ R.frames ∧ 175 ≤ R.locals) {rv : Int32} {hF : xh_H} (N : Nat) : ∀ n : Nat, K_X0_sungTicks_10 p l e s m args below meth c D g R rv hF (f_X0_sungTicks_l10 N n) := by
  intro n
  induction n with
  | zero => exact fun a0 a1 a2 a3 a4 h H locs cells slots kc ks ls hf => absurd (show (none : xh_R Int32) = some _ from hf) (by intro q; cases q)
  | succ n ih => exact fun a0 a1 a2 a3 a4 h H locs cells slots kc ks ls hf => w_X0_sungTicks_b10 C hr hR N ih a0 a1 a2 a3 a4 h H locs cells slots kc ks ls hf
/-- SungSlides.sungTicks(Z)I -/
theorem w_X0_sungTicks (C : xh_C cX0_sungTicks 5 "SungSlides" D g p s m args meth c) (hr : meth.sig.returnType = (Option.some Jvm.ClassFile.FieldType.int)) (hR : 8 ≤ R.frames ∧ 175 ≤ R.locals) {rv : Int32} {hF : xh_H} (N : Nat) (a0 : Option Nat) (a1 : Int32)  (h : xh_H) (H : Heap) (locs : List Loc) (cells slots kc ks : Nat) (ls : Array Slot) (hf : f_X0_sungTicks N a0 a1 h = some (rv, hF, kc, ks)) (hS : xh_T D g s R h H locs cells slots kc ks) (hl : xh_L ls 5 [(0, va_rf a0), (1, .int a1)]) : W p l e R s m args below meth c H locs cells slots (MQ below (xh_Q D g (some (.int rv)) hF) args s R.cells R.slots (xh_A g)) (F0 m 0 ls []) := by
  have hx := C.1
  have hb := C.2.1
  unfold f_X0_sungTicks at hf
  refine xr_aload_n C dX0_sungTicks_0 rfl (hl.at 0 rfl) ?_
  refine xr_V (V := fun v => some (va_rf v)) (n := 0) (fr := 7) (lo := 155) (As := []) C hS xf_X0 (lw_V q591 q593 qs10 q55 q594) hdv_X0_judged ⟨Nat.le_trans (Nat.le_of_ble_eq_true rfl) hR.1, Nat.le_trans (Nat.le_of_ble_eq_true rfl) hR.2⟩ rfl hl.1.1 rfl xm_r0 hf (fun v h1 k1 n1 e1 => ct_X0_judged l D N e1) dX0_sungTicks_1 (fun x1 h H locs cells slots kc ks hS hf => ?_)
  refine W.eq (g2 := F0 m 4 ls [va_rf x1]) rfl ?_
  refine xr_astore_n C dX0_sungTicks_4 rfl hl (Nat.le_of_ble_eq_true rfl) (lv' := [(2, va_rf x1), (0, va_rf a0), (1, .int a1)]) rfl (fun ls hl => ?_)
  refine lv_iconst (v := 0) hx hb dX0_sungTicks_5 xi_c0 ?_
  refine xr_istore_n C dX0_sungTicks_6 rfl hl (Nat.le_of_ble_eq_true rfl) (lv' := [(3, .int (0 : Int32)), (2, va_rf x1), (0, va_rf a0), (1, .int a1)]) rfl (fun ls hl => ?_)
  refine lv_iconst (v := 0) hx hb dX0_sungTicks_7 xi_c0 ?_
  refine xr_istore C dX0_sungTicks_8 hl (Nat.le_of_ble_eq_true rfl) (lv' := [(4, .int (0 : Int32)), (3, .int (0 : Int32)), (2, va_rf x1), (0, va_rf a0), (1, .int a1)]) rfl (fun ls hl => ?_)
  exact w_X0_sungTicks_l10 C hr hR N N a0 a1 x1 (0 : Int32) (0 : Int32)  h H locs cells slots kc ks ls hf hS (hl.sub [3, 4, 2, 1, 0] rfl)
theorem ct_X0_sungTicks (l : Launch) (D : xh_D) {rv : Int32} {h hF : xh_H} {kc ks : Nat} (N : Nat) {a0 : Option Nat} {a1 : Int32} (hf : f_X0_sungTicks N a0 a1 h = some (rv, hF, kc, ks)) : xh_Ct l D yX0_sungTicks (ws_ yX0_sungTicks cX0_sungTicks 5 (Option.some Jvm.ClassFile.FieldType.int)) 8 175 [va_rf a0, .int a1] h (some (.int rv)) hF kc ks :=
  xh_meth (cc := cX0_sungTicks) l (by decide) (Nat.le_of_ble_eq_true rfl) (List.forall_mem_cons.mpr ⟨va_rf_cat _, List.forall_mem_cons.mpr ⟨rfl, fun _ h => absurd h List.not_mem_nil⟩⟩) fun p e s m below meth c ls C hr hnm hl hS => w_X0_sungTicks C hr ⟨Nat.le_refl _, Nat.le_refl _⟩ N a0 a1 h _ _ _ _ _ _ _ hf hS hl
def K_X7_all_4 (p : Program) (l : Launch) (e : Env) (s : State) (m : MethodId) (args : Array Value) (below : List Frame) (meth : Method) (c : Code) (D : xh_D) (g : Nat → Nat) (R : Room) (rv : Int32) (hF : xh_H) (k : Option Nat → Int32 → Int32 → xh_H → xh_R Int32) : Prop := ∀ (a0 : Option Nat) (a1 : Int32) (a2 : Int32) (h : xh_H) (H : Heap) (locs : List Loc) (cells slots kc ks : Nat) (ls : Array Slot), k a0 a1 a2 h = some (rv, hF, kc, ks) → xh_T D g s R h H locs cells slots kc ks → xh_L ls 3 [(0, va_rf a0), (1, .int a1), (2, .int a2)] → W p l e R s m args below meth c H locs cells slots (MQ below (xh_Q D g (some (.int rv)) hF) args s R.cells R.slots (xh_A g)) (F0 m 4 ls [])
theorem w_X7_all_b29 (C : xh_C cX7_all 3 "SungSlides$Judge" D g p s m args meth c) (hr : meth.sig.returnType = (Option.some Jvm.ClassFile.FieldType.int)) (hR : 5 ≤ R.frames ∧ 110 ≤ R.locals) {rv : Int32} {hF : xh_H} (N : Nat) : ∀ (a1 : Int32) (h : xh_H) (H : Heap) (locs : List Loc) (cells slots kc ks : Nat) (ls : Array Slot), f_X7_all_b29 N a1 h = some (rv, hF, kc, ks) → xh_T D g s R h H locs cells slots kc ks → xh_L ls 3 [(1, .int a1)] → W p l e R s m args below meth c H locs cells slots (MQ below (xh_Q D g (some (.int rv)) hF) args s R.cells R.slots (xh_A g)) (F0 m 29 ls []) := by
  intro a1 h H locs cells slots kc ks ls hf hS hl
  have hx := C.1
  have hb := C.2.1
  unfold f_X7_all_b29 at hf
  refine lv_iload_n hx hb dX7_all_29 rfl (hl.at 0 rfl) ?_
  exact xr_iret C hS hr hf dX7_all_30
theorem w_X7_all_b4 (C : xh_C cX7_all 3 "SungSlides$Judge" D g p s m args meth c) (hr : meth.sig.returnType = (Option.some Jvm.ClassFile.FieldType.int)) (hR : 5 ≤ R.frames ∧ 110 ≤ R.locals) {rv : Int32} {hF : xh_H} (N : Nat) {k4 : Option Nat → Int32 → Int32 → xh_H → xh_R Int32} (hk4 : K_X7_all_4 p l e s m args below meth c D g R rv hF k4) : ∀ (a0 : Option Nat) (a1 : Int32) (a2 : Int32) (h : xh_H) (H : Heap) (locs : List Loc) (cells slots kc ks : Nat) (ls : Array Slot), f_X7_all_b4 N k4 a0 a1 a2 h = some (rv, hF, kc, ks) → xh_T D g s R h H locs cells slots kc ks → xh_L ls 3 [(0, va_rf a0), (1, .int a1), (2, .int a2)] → W p l e R s m args below meth c H locs cells slots (MQ below (xh_Q D g (some (.int rv)) hF) args s R.cells R.slots (xh_A g)) (F0 m 4 ls []) := by
  intro a0 a1 a2 h H locs cells slots kc ks ls hf hS hl
  have hx := C.1
  have hb := C.2.1
  unfold f_X7_all_b4 at hf
  refine lv_iload_n hx hb dX7_all_4 rfl (hl.at 2 rfl) ?_
  refine xr_aload_n C dX7_all_5 rfl (hl.at 0 rfl) ?_
  refine xr_getR C hS xf_X7 0 (by decide) q601 (fun _ h => h) hf dX7_all_6 (fun x6 hf => ?_)
  refine xr_V (V := fun v => some (.int v)) (n := 0) (fr := 3) (lo := 64) (As := []) C hS xf_X1 (lw_V q785 q438 q439 q56 q440) hdv_X1_phrases ⟨Nat.le_trans (Nat.le_of_ble_eq_true rfl) hR.1, Nat.le_trans (Nat.le_of_ble_eq_true rfl) hR.2⟩ rfl hl.1.1 rfl (xm_rc rfl xm_r0) hf (fun v h1 k1 n1 e1 => ct_X1_phrases l D N e1) dX7_all_9 (fun x9 h H locs cells slots kc ks hS hf => ?_)
  refine W.eq (g2 := F0 m 12 ls [.int x9, .int a2]) rfl ?_
  refine lv_icmp_ge (tgt := 29) hx hb dX7_all_12 (by decide) (fun c12 => ?_) (fun c12 => ?_)
  · replace hf := xb_pos c12 hf
    exact w_X7_all_b29 C hr hR N a1  h H locs cells slots kc ks ls hf hS (hl.sub [1] rfl)
  · replace hf := xb_neg c12 hf
    refine lv_iload_n hx hb dX7_all_15 rfl (hl.at 1 rfl) ?_
    refine xr_aload_n C dX7_all_16 rfl (hl.at 0 rfl) ?_
    refine lv_iload_n hx hb dX7_all_17 rfl (hl.at 2 rfl) ?_
    refine xr_V (V := fun v => some (.int v)) (n := 1) (fr := 4) (lo := 87) (As := [.int a2]) C hS xf_X7 (lw_V q786 q762 q763 q74 q764) hdv_X7_pointsOf ⟨Nat.le_trans (Nat.le_of_ble_eq_true rfl) hR.1, Nat.le_trans (Nat.le_of_ble_eq_true rfl) hR.2⟩ rfl hl.1.1 rfl (xm_rc rfl xm_r0) hf (fun v h1 k1 n1 e1 => ct_X7_pointsOf l D N e1) dX7_all_18 (fun x18 h H locs cells slots kc ks hS hf => ?_)
    refine W.eq (g2 := F0 m 21 ls [.int x18, .int a1]) rfl ?_
    refine lv_iadd hx hb dX7_all_21 ?_
    refine xr_istore_n C dX7_all_22 rfl hl (Nat.le_of_ble_eq_true rfl) (lv' := [(1, .int (a1 + x18)), (0, va_rf a0), (2, .int a2)]) rfl (fun ls hl => ?_)
    refine xr_iinc C dX7_all_23 hl (k := 2) rfl (xi_inc xi_c1) (Nat.le_of_ble_eq_true rfl) (lv' := [(2, .int (a2 + (1 : Int32))), (1, .int (a1 + x18)), (0, va_rf a0)]) rfl (fun ls hl => ?_)
    refine lv_goto (tgt := 4) hx hb dX7_all_26 (by decide) ?_
    exact hk4 a0 (a1 + x18) (a2 + (1 : Int32))  h H locs cells slots kc ks ls hf hS (hl.sub [2, 1, 0] rfl)
theorem w_X7_all_l4 (C : xh_C cX7_all 3 "SungSlides$Judge" D g p s m args meth c) (hr : meth.sig.returnType = (Option.some Jvm.ClassFile.FieldType.int)) (hR : 5 ≤ R.frames ∧ 110 ≤ R.locals) {rv : Int32} {hF : xh_H} (N : Nat) : ∀ n : Nat, K_X7_all_4 p l e s m args below meth c D g R rv hF (f_X7_all_l4 N n) := by
  intro n
  induction n with
  | zero => exact fun a0 a1 a2 h H locs cells slots kc ks ls hf => absurd (show (none : xh_R Int32) = some _ from hf) (by intro q; cases q)
  | succ n ih => exact fun a0 a1 a2 h H locs cells slots kc ks ls hf => w_X7_all_b4 C hr hR N ih a0 a1 a2 h H locs cells slots kc ks ls hf
/-- SungSlides$Judge.all()I -/
theorem w_X7_all (C : xh_C cX7_all 3 "SungSlides$Judge" D g p s m args meth c) (hr : meth.sig.returnType = (Option.some Jvm.ClassFile.FieldType.int)) (hR : 5 ≤ R.frames ∧ 110 ≤ R.locals) {rv : Int32} {hF : xh_H} (N : Nat) (a0 : Option Nat)  (h : xh_H) (H : Heap) (locs : List Loc) (cells slots kc ks : Nat) (ls : Array Slot) (hf : f_X7_all N a0 h = some (rv, hF, kc, ks)) (hS : xh_T D g s R h H locs cells slots kc ks) (hl : xh_L ls 3 [(0, va_rf a0)]) : W p l e R s m args below meth c H locs cells slots (MQ below (xh_Q D g (some (.int rv)) hF) args s R.cells R.slots (xh_A g)) (F0 m 0 ls []) := by
  have hx := C.1
  have hb := C.2.1
  unfold f_X7_all at hf
  refine lv_iconst (v := 0) hx hb dX7_all_0 xi_c0 ?_
  refine xr_istore_n C dX7_all_1 rfl hl (Nat.le_of_ble_eq_true rfl) (lv' := [(1, .int (0 : Int32)), (0, va_rf a0)]) rfl (fun ls hl => ?_)
  refine lv_iconst (v := 0) hx hb dX7_all_2 xi_c0 ?_
  refine xr_istore_n C dX7_all_3 rfl hl (Nat.le_of_ble_eq_true rfl) (lv' := [(2, .int (0 : Int32)), (1, .int (0 : Int32)), (0, va_rf a0)]) rfl (fun ls hl => ?_)
  exact w_X7_all_l4 C hr hR N N a0 (0 : Int32) (0 : Int32)  h H locs cells slots kc ks ls hf hS (hl.sub [2, 1, 0] rfl)
theorem ct_X7_all (l : Launch) (D : xh_D) {rv : Int32} {h hF : xh_H} {kc ks : Nat} (N : Nat) {a0 : Option Nat} (hf : f_X7_all N a0 h = some (rv, hF, kc, ks)) : xh_Ct l D yX7_all (ws_ yX7_all cX7_all 3 (Option.some Jvm.ClassFile.FieldType.int)) 5 110 [va_rf a0] h (some (.int rv)) hF kc ks :=
  xh_meth (cc := cX7_all) l (by decide) (Nat.le_of_ble_eq_true rfl) (List.forall_mem_cons.mpr ⟨va_rf_cat _, fun _ h => absurd h List.not_mem_nil⟩) fun p e s m below meth c ls C hr hnm hl hS => w_X7_all C hr ⟨Nat.le_refl _, Nat.le_refl _⟩ N a0 h _ _ _ _ _ _ _ hf hS hl
def K_X7_most_6 (p : Program) (l : Launch) (e : Env) (s : State) (m : MethodId) (args : Array Value) (below : List Frame) (meth : Method) (c : Code) (D : xh_D) (g : Nat → Nat) (R : Room) (rv : Int32) (hF : xh_H) (k : Option Nat → Int32 → Int32 → Int32 → xh_H → xh_R Int32) : Prop := ∀ (a0 : Option Nat) (a1 : Int32) (a2 : Int32) (a3 : Int32) (h : xh_H) (H : Heap) (locs : List Loc) (cells slots kc ks : Nat) (ls : Array Slot), k a0 a1 a2 a3 h = some (rv, hF, kc, ks) → xh_T D g s R h H locs cells slots kc ks → xh_L ls 5 [(0, va_rf a0), (1, .int a1), (2, .int a2), (3, .int a3)] → W p l e R s m args below meth c H locs cells slots (MQ below (xh_Q D g (some (.int rv)) hF) args s R.cells R.slots (xh_A g)) (F0 m 6 ls [])
def K_X7_most_112 (p : Program) (l : Launch) (e : Env) (s : State) (m : MethodId) (args : Array Value) (below : List Frame) (meth : Method) (c : Code) (D : xh_D) (g : Nat → Nat) (R : Room) (rv : Int32) (hF : xh_H) (k : Option Nat → Int32 → Int32 → xh_H → xh_R Int32) : Prop := ∀ (a0 : Option Nat) (a1 : Int32) (a3 : Int32) (h : xh_H) (H : Heap) (locs : List Loc) (cells slots kc ks : Nat) (ls : Array Slot), k a0 a1 a3 h = some (rv, hF, kc, ks) → xh_T D g s R h H locs cells slots kc ks → xh_L ls 5 [(0, va_rf a0), (1, .int a1), (3, .int a3)] → W p l e R s m args below meth c H locs cells slots (MQ below (xh_Q D g (some (.int rv)) hF) args s R.cells R.slots (xh_A g)) (F0 m 112 ls [])
theorem w_X7_most_b147 (C : xh_C cX7_most 5 "SungSlides$Judge" D g p s m args meth c) (hr : meth.sig.returnType = (Option.some Jvm.ClassFile.FieldType.int)) (hR : 4 ≤ R.frames ∧ 85 ≤ R.locals) {rv : Int32} {hF : xh_H} (N : Nat) : ∀ (a1 : Int32) (h : xh_H) (H : Heap) (locs : List Loc) (cells slots kc ks : Nat) (ls : Array Slot), f_X7_most_b147 N a1 h = some (rv, hF, kc, ks) → xh_T D g s R h H locs cells slots kc ks → xh_L ls 5 [(1, .int a1)] → W p l e R s m args below meth c H locs cells slots (MQ below (xh_Q D g (some (.int rv)) hF) args s R.cells R.slots (xh_A g)) (F0 m 147 ls []) := by
  intro a1 h H locs cells slots kc ks ls hf hS hl
  have hx := C.1
  have hb := C.2.1
  unfold f_X7_most_b147 at hf
  refine lv_iload_n hx hb dX7_most_147 rfl (hl.at 0 rfl) ?_
  exact xr_iret C hS hr hf dX7_most_148
theorem w_X7_most_b139 (C : xh_C cX7_most 5 "SungSlides$Judge" D g p s m args meth c) (hr : meth.sig.returnType = (Option.some Jvm.ClassFile.FieldType.int)) (hR : 4 ≤ R.frames ∧ 85 ≤ R.locals) {rv : Int32} {hF : xh_H} (N : Nat) {k112 : Option Nat → Int32 → Int32 → xh_H → xh_R Int32} (hk112 : K_X7_most_112 p l e s m args below meth c D g R rv hF k112) : ∀ (a0 : Option Nat) (a3 : Int32) (t0 : Int32) (t1 : Int32) (h : xh_H) (H : Heap) (locs : List Loc) (cells slots kc ks : Nat) (ls : Array Slot), f_X7_most_b139 N k112 a0 a3 t0 t1 h = some (rv, hF, kc, ks) → xh_T D g s R h H locs cells slots kc ks → xh_L ls 5 [(0, va_rf a0), (3, .int a3)] → W p l e R s m args below meth c H locs cells slots (MQ below (xh_Q D g (some (.int rv)) hF) args s R.cells R.slots (xh_A g)) (F0 m 139 ls [.int t1, .int t0]) := by
  intro a0 a3 t0 t1 h H locs cells slots kc ks ls hf hS hl
  have hx := C.1
  have hb := C.2.1
  unfold f_X7_most_b139 at hf
  refine lv_iadd hx hb dX7_most_139 ?_
  refine xr_istore_n C dX7_most_140 rfl hl (Nat.le_of_ble_eq_true rfl) (lv' := [(1, .int (t0 + t1)), (0, va_rf a0), (3, .int a3)]) rfl (fun ls hl => ?_)
  refine xr_iinc C dX7_most_141 hl (k := 2) rfl (xi_inc xi_c1) (Nat.le_of_ble_eq_true rfl) (lv' := [(3, .int (a3 + (1 : Int32))), (1, .int (t0 + t1)), (0, va_rf a0)]) rfl (fun ls hl => ?_)
  refine lv_goto (tgt := 112) hx hb dX7_most_144 (by decide) ?_
  exact hk112 a0 (t0 + t1) (a3 + (1 : Int32))  h H locs cells slots kc ks ls hf hS (hl.sub [2, 1, 0] rfl)
theorem w_X7_most_b112 (C : xh_C cX7_most 5 "SungSlides$Judge" D g p s m args meth c) (hr : meth.sig.returnType = (Option.some Jvm.ClassFile.FieldType.int)) (hR : 4 ≤ R.frames ∧ 85 ≤ R.locals) {rv : Int32} {hF : xh_H} (N : Nat) {k112 : Option Nat → Int32 → Int32 → xh_H → xh_R Int32} (hk112 : K_X7_most_112 p l e s m args below meth c D g R rv hF k112) : ∀ (a0 : Option Nat) (a1 : Int32) (a3 : Int32) (h : xh_H) (H : Heap) (locs : List Loc) (cells slots kc ks : Nat) (ls : Array Slot), f_X7_most_b112 N k112 a0 a1 a3 h = some (rv, hF, kc, ks) → xh_T D g s R h H locs cells slots kc ks → xh_L ls 5 [(0, va_rf a0), (1, .int a1), (3, .int a3)] → W p l e R s m args below meth c H locs cells slots (MQ below (xh_Q D g (some (.int rv)) hF) args s R.cells R.slots (xh_A g)) (F0 m 112 ls []) := by
  intro a0 a1 a3 h H locs cells slots kc ks ls hf hS hl
  have hx := C.1
  have hb := C.2.1
  unfold f_X7_most_b112 at hf
  refine lv_iload_n hx hb dX7_most_112 rfl (hl.at 2 rfl) ?_
  refine xr_aload_n C dX7_most_113 rfl (hl.at 0 rfl) ?_
  refine xr_getR C hS xf_X7 0 (by decide) q601 (fun _ h => h) hf dX7_most_114 (fun x114 hf => ?_)
  refine xr_V (V := fun v => some (.int v)) (n := 0) (fr := 3) (lo := 64) (As := []) C hS xf_X1 (lw_V q785 q438 q439 q56 q440) hdv_X1_phrases ⟨Nat.le_trans (Nat.le_of_ble_eq_true rfl) hR.1, Nat.le_trans (Nat.le_of_ble_eq_true rfl) hR.2⟩ rfl hl.1.1 rfl (xm_rc rfl xm_r0) hf (fun v h1 k1 n1 e1 => ct_X1_phrases l D N e1) dX7_most_117 (fun x117 h H locs cells slots kc ks hS hf => ?_)
  refine W.eq (g2 := F0 m 120 ls [.int x117, .int a3]) rfl ?_
  refine lv_icmp_ge (tgt := 147) hx hb dX7_most_120 (by decide) (fun c120 => ?_) (fun c120 => ?_)
  · replace hf := xb_pos c120 hf
    exact w_X7_most_b147 C hr hR N a1  h H locs cells slots kc ks ls hf hS (hl.sub [1] rfl)
  · replace hf := xb_neg c120 hf
    refine lv_iload_n hx hb dX7_most_123 rfl (hl.at 1 rfl) ?_
    refine xr_aload_n C dX7_most_124 rfl (hl.at 0 rfl) ?_
    refine lv_iload_n hx hb dX7_most_125 rfl (hl.at 2 rfl) ?_
    refine xr_V (V := fun v => some (.int v)) (n := 1) (fr := 3) (lo := 61) (As := [.int a3]) C hS xf_X7 (lw_V q765 q752 q753 q74 q754) hdv_X7_many ⟨Nat.le_trans (Nat.le_of_ble_eq_true rfl) hR.1, Nat.le_trans (Nat.le_of_ble_eq_true rfl) hR.2⟩ rfl hl.1.1 rfl (xm_rc rfl xm_r0) hf (fun v h1 k1 n1 e1 => ct_X7_many l D N e1) dX7_most_126 (fun x126 h H locs cells slots kc ks hS hf => ?_)
    refine W.eq (g2 := F0 m 129 ls [.int x126, .int a1]) rfl ?_
    refine lv_iconst (v := 2) hx hb dX7_most_129 xi_c2 ?_
    refine lv_icmp_lt (tgt := 138) hx hb dX7_most_130 (by decide) (fun c130 => ?_) (fun c130 => ?_)
    · replace hf := xb_pos c130 hf
      refine lv_iconst (v := 0) hx hb dX7_most_138 xi_c0 ?_
      exact w_X7_most_b139 C hr hR N hk112 a0 a3 a1 (0 : Int32) h H locs cells slots kc ks ls hf hS (hl.sub [0, 2] rfl)
    · replace hf := xb_neg c130 hf
      refine lv_bipush (v := 50) hx hb dX7_most_133 xi_b50 ?_
      refine lv_goto (tgt := 139) hx hb dX7_most_135 (by decide) ?_
      exact w_X7_most_b139 C hr hR N hk112 a0 a3 a1 (50 : Int32) h H locs cells slots kc ks ls hf hS (hl.sub [0, 2] rfl)
theorem w_X7_most_l112 (C : xh_C cX7_most 5 "SungSlides$Judge" D g p s m args meth c) (hr : meth.sig.returnType = (Option.some Jvm.ClassFile.FieldType.int)) (hR : 4 ≤ R.frames ∧ 85 ≤ R.locals) {rv : Int32} {hF : xh_H} (N : Nat) : ∀ n : Nat, K_X7_most_112 p l e s m args below meth c D g R rv hF (f_X7_most_l112 N n) := by
  intro n
  induction n with
  | zero => exact fun a0 a1 a3 h H locs cells slots kc ks ls hf => absurd (show (none : xh_R Int32) = some _ from hf) (by intro q; cases q)
  | succ n ih => exact fun a0 a1 a3 h H locs cells slots kc ks ls hf => w_X7_most_b112 C hr hR N ih a0 a1 a3 h H locs cells slots kc ks ls hf
theorem w_X7_most_b110 (C : xh_C cX7_most 5 "SungSlides$Judge" D g p s m args meth c) (hr : meth.sig.returnType = (Option.some Jvm.ClassFile.FieldType.int)) (hR : 4 ≤ R.frames ∧ 85 ≤ R.locals) {rv : Int32} {hF : xh_H} (N : Nat) : ∀ (a0 : Option Nat) (a1 : Int32) (h : xh_H) (H : Heap) (locs : List Loc) (cells slots kc ks : Nat) (ls : Array Slot), f_X7_most_b110 N a0 a1 h = some (rv, hF, kc, ks) → xh_T D g s R h H locs cells slots kc ks → xh_L ls 5 [(0, va_rf a0), (1, .int a1)] → W p l e R s m args below meth c H locs cells slots (MQ below (xh_Q D g (some (.int rv)) hF) args s R.cells R.slots (xh_A g)) (F0 m 110 ls []) := by
  intro a0 a1 h H locs cells slots kc ks ls hf hS hl
  have hx := C.1
  have hb := C.2.1
  unfold f_X7_most_b110 at hf
  refine lv_iconst (v := 0) hx hb dX7_most_110 xi_c0 ?_
  refine xr_istore_n C dX7_most_111 rfl hl (Nat.le_of_ble_eq_true rfl) (lv' := [(3, .int (0 : Int32)), (0, va_rf a0), (1, .int a1)]) rfl (fun ls hl => ?_)
  exact w_X7_most_l112 C hr hR N N a0 a1 (0 : Int32)  h H locs cells slots kc ks ls hf hS (hl.sub [1, 2, 0] rfl)
theorem w_X7_most_b80 (C : xh_C cX7_most 5 "SungSlides$Judge" D g p s m args meth c) (hr : meth.sig.returnType = (Option.some Jvm.ClassFile.FieldType.int)) (hR : 4 ≤ R.frames ∧ 85 ≤ R.locals) {rv : Int32} {hF : xh_H} (N : Nat) {k6 : Option Nat → Int32 → Int32 → Int32 → xh_H → xh_R Int32} (hk6 : K_X7_most_6 p l e s m args below meth c D g R rv hF k6) : ∀ (a0 : Option Nat) (a1 : Int32) (a3 : Int32) (a4 : Option Nat) (t0 : Int32) (h : xh_H) (H : Heap) (locs : List Loc) (cells slots kc ks : Nat) (ls : Array Slot), f_X7_most_b80 N k6 a0 a1 a3 a4 t0 h = some (rv, hF, kc, ks) → xh_T D g s R h H locs cells slots kc ks → xh_L ls 5 [(0, va_rf a0), (1, .int a1), (3, .int a3), (4, va_rf a4)] → W p l e R s m args below meth c H locs cells slots (MQ below (xh_Q D g (some (.int rv)) hF) args s R.cells R.slots (xh_A g)) (F0 m 80 ls [.int t0]) := by
  intro a0 a1 a3 a4 t0 h H locs cells slots kc ks ls hf hS hl
  have hx := C.1
  have hb := C.2.1
  unfold f_X7_most_b80 at hf
  refine xr_istore_n C dX7_most_80 rfl hl (Nat.le_of_ble_eq_true rfl) (lv' := [(2, .int t0), (0, va_rf a0), (1, .int a1), (3, .int a3), (4, va_rf a4)]) rfl (fun ls hl => ?_)
  refine lv_iload_n hx hb dX7_most_81 rfl (hl.at 2 rfl) ?_
  refine lv_bipush (v := 100) hx hb dX7_most_82 xi_b100 ?_
  refine lv_iconst (v := 5) hx hb dX7_most_84 xi_c5 ?_
  refine xr_aload_n C dX7_most_85 rfl (hl.at 1 rfl) ?_
  refine xr_aload C dX7_most_86 (hl.at 4 rfl) ?_
  refine lv_iconst (v := 0) hx hb dX7_most_88 xi_c0 ?_
  refine xr_V (V := fun v => some (.int v)) (n := 2) (fr := 2) (lo := 47) (As := [va_rf a4, .int (0 : Int32)]) C hS xf_X7 (lw_V q670 q671 q672 q74 q673) hdv_X7_bars ⟨Nat.le_trans (Nat.le_of_ble_eq_true rfl) hR.1, Nat.le_trans (Nat.le_of_ble_eq_true rfl) hR.2⟩ rfl hl.1.1 rfl (xm_rc rfl (xm_rc rfl (xm_rc rfl xm_r0))) hf (fun v h1 k1 n1 e1 => ct_X7_bars l D N e1) dX7_most_89 (fun x89 h H locs cells slots kc ks hS hf => ?_)
  refine W.eq (g2 := F0 m 92 ls [.int x89, .int (5 : Int32), .int (100 : Int32), .int a1]) rfl ?_
  refine lv_imul hx hb dX7_most_92 ?_
  refine lv_iadd hx hb dX7_most_93 ?_
  refine lv_bipush (v := 10) hx hb dX7_most_94 xi_b10 ?_
  refine lv_iload_n hx hb dX7_most_96 rfl (hl.at 0 rfl) ?_
  refine lv_iadd hx hb dX7_most_97 ?_
  refine lv_imul hx hb dX7_most_98 ?_
  refine lv_bipush (v := 10) hx hb dX7_most_99 xi_b10 ?_
  refine lv_idiv hx hb dX7_most_101 (by decide) ?_
  refine lv_iadd hx hb dX7_most_102 ?_
  refine xr_istore_n C dX7_most_103 rfl hl (Nat.le_of_ble_eq_true rfl) (lv' := [(1, .int (a1 + ((((100 : Int32) + ((5 : Int32) * x89)) * ((10 : Int32) + t0)) / (10 : Int32)))), (2, .int t0), (0, va_rf a0), (3, .int a3), (4, va_rf a4)]) rfl (fun ls hl => ?_)
  refine xr_iinc C dX7_most_104 hl (k := 3) rfl (xi_inc xi_c1) (Nat.le_of_ble_eq_true rfl) (lv' := [(3, .int (a3 + (1 : Int32))), (1, .int (a1 + ((((100 : Int32) + ((5 : Int32) * x89)) * ((10 : Int32) + t0)) / (10 : Int32)))), (2, .int t0), (0, va_rf a0), (4, va_rf a4)]) rfl (fun ls hl => ?_)
  refine lv_goto (tgt := 6) hx hb dX7_most_107 (by decide) ?_
  exact hk6 a0 (a1 + ((((100 : Int32) + ((5 : Int32) * x89)) * ((10 : Int32) + t0)) / (10 : Int32))) t0 (a3 + (1 : Int32))  h H locs cells slots kc ks ls hf hS (hl.sub [3, 1, 2, 0] rfl)
theorem w_X7_most_b79 (C : xh_C cX7_most 5 "SungSlides$Judge" D g p s m args meth c) (hr : meth.sig.returnType = (Option.some Jvm.ClassFile.FieldType.int)) (hR : 4 ≤ R.frames ∧ 85 ≤ R.locals) {rv : Int32} {hF : xh_H} (N : Nat) {k6 : Option Nat → Int32 → Int32 → Int32 → xh_H → xh_R Int32} (hk6 : K_X7_most_6 p l e s m args below meth c D g R rv hF k6) : ∀ (a0 : Option Nat) (a1 : Int32) (a3 : Int32) (a4 : Option Nat) (h : xh_H) (H : Heap) (locs : List Loc) (cells slots kc ks : Nat) (ls : Array Slot), f_X7_most_b79 N k6 a0 a1 a3 a4 h = some (rv, hF, kc, ks) → xh_T D g s R h H locs cells slots kc ks → xh_L ls 5 [(0, va_rf a0), (1, .int a1), (3, .int a3), (4, va_rf a4)] → W p l e R s m args below meth c H locs cells slots (MQ below (xh_Q D g (some (.int rv)) hF) args s R.cells R.slots (xh_A g)) (F0 m 79 ls []) := by
  intro a0 a1 a3 a4 h H locs cells slots kc ks ls hf hS hl
  have hx := C.1
  have hb := C.2.1
  unfold f_X7_most_b79 at hf
  refine lv_iconst (v := 0) hx hb dX7_most_79 xi_c0 ?_
  exact w_X7_most_b80 C hr hR N hk6 a0 a1 a3 a4 (0 : Int32) h H locs cells slots kc ks ls hf hS (hl.sub [0, 1, 2, 3] rfl)
theorem w_X7_most_b6 (C : xh_C cX7_most 5 "SungSlides$Judge" D g p s m args meth c) (hr : meth.sig.returnType = (Option.some Jvm.ClassFile.FieldType.int)) (hR : 4 ≤ R.frames ∧ 85 ≤ R.locals) {rv : Int32} {hF : xh_H} (N : Nat) {k6 : Option Nat → Int32 → Int32 → Int32 → xh_H → xh_R Int32} (hk6 : K_X7_most_6 p l e s m args below meth c D g R rv hF k6) : ∀ (a0 : Option Nat) (a1 : Int32) (a2 : Int32) (a3 : Int32) (h : xh_H) (H : Heap) (locs : List Loc) (cells slots kc ks : Nat) (ls : Array Slot), f_X7_most_b6 N k6 a0 a1 a2 a3 h = some (rv, hF, kc, ks) → xh_T D g s R h H locs cells slots kc ks → xh_L ls 5 [(0, va_rf a0), (1, .int a1), (2, .int a2), (3, .int a3)] → W p l e R s m args below meth c H locs cells slots (MQ below (xh_Q D g (some (.int rv)) hF) args s R.cells R.slots (xh_A g)) (F0 m 6 ls []) := by
  intro a0 a1 a2 a3 h H locs cells slots kc ks ls hf hS hl
  have hx := C.1
  have hb := C.2.1
  unfold f_X7_most_b6 at hf
  refine lv_iload_n hx hb dX7_most_6 rfl (hl.at 3 rfl) ?_
  refine xr_aload_n C dX7_most_7 rfl (hl.at 0 rfl) ?_
  refine xr_getR C hS xf_X7 0 (by decide) q601 (fun _ h => h) hf dX7_most_8 (fun x8 hf => ?_)
  refine xr_V (V := fun v => some (.int v)) (n := 0) (fr := 1) (lo := 20) (As := []) C hS xf_X1 (lw_V q632 q346 q347 q56 q348) hdv_X1_many ⟨Nat.le_trans (Nat.le_of_ble_eq_true rfl) hR.1, Nat.le_trans (Nat.le_of_ble_eq_true rfl) hR.2⟩ rfl hl.1.1 rfl (xm_rc rfl xm_r0) hf (fun v h1 k1 n1 e1 => ct_X1_many l D N e1) dX7_most_11 (fun x11 h H locs cells slots kc ks hS hf => ?_)
  refine W.eq (g2 := F0 m 14 ls [.int x11, .int a3]) rfl ?_
  refine lv_icmp_ge (tgt := 110) hx hb dX7_most_14 (by decide) (fun c14 => ?_) (fun c14 => ?_)
  · replace hf := xb_pos c14 hf
    exact w_X7_most_b110 C hr hR N a0 a1  h H locs cells slots kc ks ls hf hS (hl.sub [0, 1] rfl)
  · replace hf := xb_neg c14 hf
    refine xr_aload_n C dX7_most_17 rfl (hl.at 0 rfl) ?_
    refine xr_getR C hS xf_X7 0 (by decide) q601 (fun _ h => h) hf dX7_most_18 (fun x18 hf => ?_)
    refine xr_getNR C hS xf_X1 0 (by decide) xn_q123 rfl hf dX7_most_21 (fun x21 hf => ?_)
    refine lv_iload_n hx hb dX7_most_24 rfl (hl.at 3 rfl) ?_
    refine xr_F (V := fun v => some (va_rf v)) (n := 1) (fr := 2) (lo := 43) (As := [.int a3]) C hS xf_J2 q638 q362 q364 q59 q366 xn_i6 hdi_J2_get ⟨Nat.le_trans (Nat.le_of_ble_eq_true rfl) hR.1, Nat.le_trans (Nat.le_of_ble_eq_true rfl) hR.2⟩ rfl hl.1.1 rfl xm_r0 hf (fun v h1 k1 n1 e1 => ct_J2_get l D N e1) dX7_most_25 (fun x25 h H locs cells slots kc ks hS hf => ?_)
    refine W.eq (g2 := F0 m 30 ls [va_rf x25]) rfl ?_
    refine xr_ccS C hS xf_X5 q639 hf dX7_most_30 (fun hf => ?_)
    refine xr_astore C dX7_most_33 hl (Nat.le_of_ble_eq_true rfl) (lv' := [(4, va_rf x25), (0, va_rf a0), (1, .int a1), (2, .int a2), (3, .int a3)]) rfl (fun ls hl => ?_)
    refine lv_iload_n hx hb dX7_most_35 rfl (hl.at 4 rfl) ?_
    refine lv_if_le (tgt := 79) hx hb dX7_most_36 (by decide) (fun c36 => ?_) (fun c36 => ?_)
    · replace hf := xb_pos c36 hf
      exact w_X7_most_b79 C hr hR N hk6 a0 a1 a3 x25  h H locs cells slots kc ks ls hf hS (hl.sub [1, 2, 4, 0] rfl)
    · replace hf := xb_neg c36 hf
      refine xr_aload_n C dX7_most_39 rfl (hl.at 1 rfl) ?_
      refine xr_getR C hS xf_X7 0 (by decide) q601 (fun _ h => h) hf dX7_most_40 (fun x40 hf => ?_)
      refine xr_getNR C hS xf_X1 0 (by decide) xn_q123 rfl hf dX7_most_43 (fun x43 hf => ?_)
      refine lv_iload_n hx hb dX7_most_46 rfl (hl.at 4 rfl) ?_
      refine lv_iconst (v := 1) hx hb dX7_most_47 xi_c1 ?_
      refine lv_isub hx hb dX7_most_48 ?_
      refine xr_F (V := fun v => some (va_rf v)) (n := 1) (fr := 2) (lo := 43) (As := [.int (a3 - (1 : Int32))]) C hS xf_J2 q638 q362 q364 q59 q366 xn_i6 hdi_J2_get ⟨Nat.le_trans (Nat.le_of_ble_eq_true rfl) hR.1, Nat.le_trans (Nat.le_of_ble_eq_true rfl) hR.2⟩ rfl hl.1.1 rfl xm_r0 hf (fun v h1 k1 n1 e1 => ct_J2_get l D N e1) dX7_most_49 (fun x49 h H locs cells slots kc ks hS hf => ?_)
      refine W.eq (g2 := F0 m 54 ls [va_rf x49]) rfl ?_
      refine xr_ccS C hS xf_X5 q639 hf dX7_most_54 (fun hf => ?_)
      refine xr_getNI C hS xf_X5 4 (by decide) xn_q459 rfl hf dX7_most_57 (fun x57 hf => ?_)
      refine xr_aload C dX7_most_60 (hl.at 0 rfl) ?_
      refine xr_getNI C hS xf_X5 4 (by decide) xn_q459 rfl hf dX7_most_62 (fun x62 hf => ?_)
      refine lv_icmp_ne (tgt := 79) hx hb dX7_most_65 (by decide) (fun c65 => ?_) (fun c65 => ?_)
      · replace hf := xb_neg c65 hf
        exact w_X7_most_b79 C hr hR N hk6 a0 a1 a3 x25  h H locs cells slots kc ks ls hf hS (hl.sub [1, 2, 4, 0] rfl)
      · replace hf := xb_pos c65 hf
        refine lv_bipush (v := 10) hx hb dX7_most_68 xi_b10 ?_
        refine lv_iload_n hx hb dX7_most_70 rfl (hl.at 3 rfl) ?_
        refine lv_iconst (v := 1) hx hb dX7_most_71 xi_c1 ?_
        refine lv_iadd hx hb dX7_most_72 ?_
        refine xr_mn C hS hl.1.1.symm q652 q321 q64 q322 (Nat.le_trans (Nat.le_of_ble_eq_true rfl) hR.1) (xm_m13 xm_r0 (Nat.le_trans (Nat.le_of_ble_eq_true rfl) hR.2)) dX7_most_73 ?_
        refine lv_goto (tgt := 80) hx hb dX7_most_76 (by decide) ?_
        exact w_X7_most_b80 C hr hR N hk6 a0 a1 a3 x25 (xh_mn (10 : Int32) (a2 + (1 : Int32))) h H locs cells slots kc ks ls hf hS (hl.sub [1, 2, 4, 0] rfl)
theorem w_X7_most_l6 (C : xh_C cX7_most 5 "SungSlides$Judge" D g p s m args meth c) (hr : meth.sig.returnType = (Option.some Jvm.ClassFile.FieldType.int)) (hR : 4 ≤ R.frames ∧ 85 ≤ R.locals) {rv : Int32} {hF : xh_H} (N : Nat) : ∀ n : Nat, K_X7_most_6 p l e s m args below meth c D g R rv hF (f_X7_most_l6 N n) := by
  intro n
  induction n with
  | zero => exact fun a0 a1 a2 a3 h H locs cells slots kc ks ls hf => absurd (show (none : xh_R Int32) = some _ from hf) (by intro q; cases q)
  | succ n ih => exact fun a0 a1 a2 a3 h H locs cells slots kc ks ls hf => w_X7_most_b6 C hr hR N ih a0 a1 a2 a3 h H locs cells slots kc ks ls hf
/-- SungSlides$Judge.most()I -/
theorem w_X7_most (C : xh_C cX7_most 5 "SungSlides$Judge" D g p s m args meth c) (hr : meth.sig.returnType = (Option.some Jvm.ClassFile.FieldType.int)) (hR : 4 ≤ R.frames ∧ 85 ≤ R.locals) {rv : Int32} {hF : xh_H} (N : Nat) (a0 : Option Nat)  (h : xh_H) (H : Heap) (locs : List Loc) (cells slots kc ks : Nat) (ls : Array Slot) (hf : f_X7_most N a0 h = some (rv, hF, kc, ks)) (hS : xh_T D g s R h H locs cells slots kc ks) (hl : xh_L ls 5 [(0, va_rf a0)]) : W p l e R s m args below meth c H locs cells slots (MQ below (xh_Q D g (some (.int rv)) hF) args s R.cells R.slots (xh_A g)) (F0 m 0 ls []) := by
  have hx := C.1
  have hb := C.2.1
  unfold f_X7_most at hf
  refine lv_iconst (v := 0) hx hb dX7_most_0 xi_c0 ?_
  refine xr_istore_n C dX7_most_1 rfl hl (Nat.le_of_ble_eq_true rfl) (lv' := [(1, .int (0 : Int32)), (0, va_rf a0)]) rfl (fun ls hl => ?_)
  refine lv_iconst (v := 0) hx hb dX7_most_2 xi_c0 ?_
  refine xr_istore_n C dX7_most_3 rfl hl (Nat.le_of_ble_eq_true rfl) (lv' := [(2, .int (0 : Int32)), (1, .int (0 : Int32)), (0, va_rf a0)]) rfl (fun ls hl => ?_)
  refine lv_iconst (v := 0) hx hb dX7_most_4 xi_c0 ?_
  refine xr_istore_n C dX7_most_5 rfl hl (Nat.le_of_ble_eq_true rfl) (lv' := [(3, .int (0 : Int32)), (2, .int (0 : Int32)), (1, .int (0 : Int32)), (0, va_rf a0)]) rfl (fun ls hl => ?_)
  exact w_X7_most_l6 C hr hR N N a0 (0 : Int32) (0 : Int32) (0 : Int32)  h H locs cells slots kc ks ls hf hS (hl.sub [3, 2, 1, 0] rfl)
theorem ct_X7_most (l : Launch) (D : xh_D) {rv : Int32} {h hF : xh_H} {kc ks : Nat} (N : Nat) {a0 : Option Nat} (hf : f_X7_most N a0 h = some (rv, hF, kc, ks)) : xh_Ct l D yX7_most (ws_ yX7_most cX7_most 5 (Option.some Jvm.ClassFile.FieldType.int)) 4 85 [va_rf a0] h (some (.int rv)) hF kc ks :=
  xh_meth (cc := cX7_most) l (by decide) (Nat.le_of_ble_eq_true rfl) (List.forall_mem_cons.mpr ⟨va_rf_cat _, fun _ h => absurd h List.not_mem_nil⟩) fun p e s m below meth c ls C hr hnm hl hS => w_X7_most C hr ⟨Nat.le_refl _, Nat.le_refl _⟩ N a0 h _ _ _ _ _ _ _ hf hS hl
theorem w_X0_total_b108 (C : xh_C cX0_total 2 "SungSlides" D g p s m args meth c) (hr : meth.sig.returnType = (Option.some Jvm.ClassFile.FieldType.int)) (hR : 9 ≤ R.frames ∧ 199 ≤ R.locals) {rv : Int32} {hF : xh_H} (N : Nat) : ∀ (t0 : Option Nat) (t1 : Int32) (h : xh_H) (H : Heap) (locs : List Loc) (cells slots kc ks : Nat) (ls : Array Slot), f_X0_total_b108 N t0 t1 h = some (rv, hF, kc, ks) → xh_T D g s R h H locs cells slots kc ks → xh_L ls 2 [] → W p l e R s m args below meth c H locs cells slots (MQ below (xh_Q D g (some (.int rv)) hF) args s R.cells R.slots (xh_A g)) (F0 m 108 ls [.int t1, va_rf t0]) := by
  intro t0 t1 h H locs cells slots kc ks ls hf hS hl
  have hx := C.1
  have hb := C.2.1
  unfold f_X0_total_b108 at hf
  refine xr_V (V := fun v => some (.int v)) (n := 1) (fr := 8) (lo := 175) (As := [.int t1]) C hS xf_X0 (lw_V q776 q778 qs18 q55 q779) hdv_X0_sungTicks ⟨Nat.le_trans (Nat.le_of_ble_eq_true rfl) hR.1, Nat.le_trans (Nat.le_of_ble_eq_true rfl) hR.2⟩ rfl hl.1.1 rfl xm_r0 hf (fun v h1 k1 n1 e1 => ct_X0_sungTicks l D N e1) dX0_total_108 (fun x108 h H locs cells slots kc ks hS hf => ?_)
  refine W.eq (g2 := F0 m 111 ls [.int x108]) rfl ?_
  exact xr_iret C hS hr hf dX0_total_111
theorem w_X0_total_b96 (C : xh_C cX0_total 2 "SungSlides" D g p s m args meth c) (hr : meth.sig.returnType = (Option.some Jvm.ClassFile.FieldType.int)) (hR : 9 ≤ R.frames ∧ 199 ≤ R.locals) {rv : Int32} {hF : xh_H} (N : Nat) : ∀ (a0 : Option Nat) (a1 : Int32) (h : xh_H) (H : Heap) (locs : List Loc) (cells slots kc ks : Nat) (ls : Array Slot), f_X0_total_b96 N a0 a1 h = some (rv, hF, kc, ks) → xh_T D g s R h H locs cells slots kc ks → xh_L ls 2 [(0, va_rf a0), (1, .int a1)] → W p l e R s m args below meth c H locs cells slots (MQ below (xh_Q D g (some (.int rv)) hF) args s R.cells R.slots (xh_A g)) (F0 m 96 ls []) := by
  intro a0 a1 h H locs cells slots kc ks ls hf hS hl
  have hx := C.1
  have hb := C.2.1
  unfold f_X0_total_b96 at hf
  refine xr_aload_n C dX0_total_96 rfl (hl.at 0 rfl) ?_
  refine lv_iload_n hx hb dX0_total_97 rfl (hl.at 1 rfl) ?_
  refine lv_bipush (v := 9) hx hb dX0_total_98 xi_b9 ?_
  refine lv_icmp_ne (tgt := 107) hx hb dX0_total_100 (by decide) (fun c100 => ?_) (fun c100 => ?_)
  · replace hf := xb_neg c100 hf
    refine lv_iconst (v := 0) hx hb dX0_total_107 xi_c0 ?_
    exact w_X0_total_b108 C hr hR N a0 (0 : Int32) h H locs cells slots kc ks ls hf hS (hl.sub [] rfl)
  · replace hf := xb_pos c100 hf
    refine lv_iconst (v := 1) hx hb dX0_total_103 xi_c1 ?_
    refine lv_goto (tgt := 108) hx hb dX0_total_104 (by decide) ?_
    exact w_X0_total_b108 C hr hR N a0 (1 : Int32) h H locs cells slots kc ks ls hf hS (hl.sub [] rfl)
/-- SungSlides.total(I)I -/
theorem w_X0_total (C : xh_C cX0_total 2 "SungSlides" D g p s m args meth c) (hr : meth.sig.returnType = (Option.some Jvm.ClassFile.FieldType.int)) (hR : 9 ≤ R.frames ∧ 199 ≤ R.locals) {rv : Int32} {hF : xh_H} (N : Nat) (a0 : Option Nat) (a1 : Int32)  (h : xh_H) (H : Heap) (locs : List Loc) (cells slots kc ks : Nat) (ls : Array Slot) (hf : f_X0_total N a0 a1 h = some (rv, hF, kc, ks)) (hS : xh_T D g s R h H locs cells slots kc ks) (hl : xh_L ls 2 [(0, va_rf a0), (1, .int a1)]) : W p l e R s m args below meth c H locs cells slots (MQ below (xh_Q D g (some (.int rv)) hF) args s R.cells R.slots (xh_A g)) (F0 m 0 ls []) := by
  have hx := C.1
  have hb := C.2.1
  unfold f_X0_total at hf
  refine lv_iload_n hx hb dX0_total_0 rfl (hl.at 1 rfl) ?_
  refine xr_S (V := fun v => some (.int v)) (n := 1) (fr := 1) (lo := 22) (As := [.int a1]) C hS (lw_S q570 q571 q55 q572) hd_X0_isSetting ⟨Nat.le_trans (Nat.le_of_ble_eq_true rfl) hR.1, Nat.le_trans (Nat.le_of_ble_eq_true rfl) hR.2⟩ rfl hl.1.1 rfl xm_r0 hf (fun v h1 k1 n1 e1 => ct_X0_isSetting l D N e1) dX0_total_1 (fun x1 h H locs cells slots kc ks hS hf => ?_)
  refine W.eq (g2 := F0 m 4 ls [.int x1]) rfl ?_
  refine lv_if_eq (tgt := 17) hx hb dX0_total_4 (by decide) (fun c4 => ?_) (fun c4 => ?_)
  · replace hf := xb_pos c4 hf
    refine lv_iload_n hx hb dX0_total_17 rfl (hl.at 1 rfl) ?_
    by_cases c18_5 : a1 = 5
    · replace hf := xb_pos c18_5 hf
      refine xr_tab c18_5 C dX0_total_18 (by decide) (by decide) (off := 54) (tgt := 72) (by decide) (by decide) ?_
      refine xr_aload_n C dX0_total_72 rfl (hl.at 0 rfl) ?_
      refine xr_getR C hS xf_X0 0 (by decide) q139 (fun _ h => h) hf dX0_total_73 (fun x73 hf => ?_)
      refine xr_V (V := fun v => some (.int v)) (n := 0) (fr := 1) (lo := 20) (As := []) C hS xf_X1 (lw_V q472 q346 q347 q56 q348) hdv_X1_many ⟨Nat.le_trans (Nat.le_of_ble_eq_true rfl) hR.1, Nat.le_trans (Nat.le_of_ble_eq_true rfl) hR.2⟩ rfl hl.1.1 rfl xm_r0 hf (fun v h1 k1 n1 e1 => ct_X1_many l D N e1) dX0_total_76 (fun x76 h H locs cells slots kc ks hS hf => ?_)
      refine W.eq (g2 := F0 m 79 ls [.int x76]) rfl ?_
      exact xr_iret C hS hr hf dX0_total_79
    replace hf := xb_neg c18_5 hf
    by_cases c18_6 : a1 = 6
    · replace hf := xb_pos c18_6 hf
      refine xr_tab c18_6 C dX0_total_18 (by decide) (by decide) (off := 62) (tgt := 80) (by decide) (by decide) ?_
      refine xr_aload_n C dX0_total_80 rfl (hl.at 0 rfl) ?_
      refine xr_getR C hS xf_X0 0 (by decide) q139 (fun _ h => h) hf dX0_total_81 (fun x81 hf => ?_)
      refine xr_V (V := fun v => some (.int v)) (n := 0) (fr := 3) (lo := 64) (As := []) C hS xf_X1 (lw_V q746 q438 q439 q56 q440) hdv_X1_phrases ⟨Nat.le_trans (Nat.le_of_ble_eq_true rfl) hR.1, Nat.le_trans (Nat.le_of_ble_eq_true rfl) hR.2⟩ rfl hl.1.1 rfl xm_r0 hf (fun v h1 k1 n1 e1 => ct_X1_phrases l D N e1) dX0_total_84 (fun x84 h H locs cells slots kc ks hS hf => ?_)
      refine W.eq (g2 := F0 m 87 ls [.int x84]) rfl ?_
      exact xr_iret C hS hr hf dX0_total_87
    replace hf := xb_neg c18_6 hf
    by_cases c18_7 : a1 = 7
    · replace hf := xb_pos c18_7 hf
      refine xr_tab c18_7 C dX0_total_18 (by decide) (by decide) (off := 70) (tgt := 88) (by decide) (by decide) ?_
      refine xr_aload_n C dX0_total_88 rfl (hl.at 0 rfl) ?_
      refine xr_getR C hS xf_X0 0 (by decide) q139 (fun _ h => h) hf dX0_total_89 (fun x89 hf => ?_)
      refine xr_V (V := fun v => some (.int v)) (n := 0) (fr := 3) (lo := 64) (As := []) C hS xf_X1 (lw_V q775 q333 q334 q56 q335) hdv_X1_end ⟨Nat.le_trans (Nat.le_of_ble_eq_true rfl) hR.1, Nat.le_trans (Nat.le_of_ble_eq_true rfl) hR.2⟩ rfl hl.1.1 rfl xm_r0 hf (fun v h1 k1 n1 e1 => ct_X1_end l D N e1) dX0_total_92 (fun x92 h H locs cells slots kc ks hS hf => ?_)
      refine W.eq (g2 := F0 m 95 ls [.int x92]) rfl ?_
      exact xr_iret C hS hr hf dX0_total_95
    replace hf := xb_neg c18_7 hf
    by_cases c18_8 : a1 = 8
    · replace hf := xb_pos c18_8 hf
      refine xr_tab c18_8 C dX0_total_18 (by decide) (by decide) (off := 78) (tgt := 96) (by decide) (by decide) ?_
      exact w_X0_total_b96 C hr hR N a0 a1  h H locs cells slots kc ks ls hf hS (hl.sub [0, 1] rfl)
    replace hf := xb_neg c18_8 hf
    by_cases c18_9 : a1 = 9
    · replace hf := xb_pos c18_9 hf
      refine xr_tab c18_9 C dX0_total_18 (by decide) (by decide) (off := 78) (tgt := 96) (by decide) (by decide) ?_
      exact w_X0_total_b96 C hr hR N a0 a1  h H locs cells slots kc ks ls hf hS (hl.sub [0, 1] rfl)
    replace hf := xb_neg c18_9 hf
    by_cases c18_10 : a1 = 10
    · replace hf := xb_pos c18_10 hf
      refine xr_tab c18_10 C dX0_total_18 (by decide) (by decide) (off := 94) (tgt := 112) (by decide) (by decide) ?_
      refine xr_aload_n C dX0_total_112 rfl (hl.at 0 rfl) ?_
      refine xr_V (V := fun v => some (va_rf v)) (n := 0) (fr := 7) (lo := 155) (As := []) C hS xf_X0 (lw_V q591 q593 qs10 q55 q594) hdv_X0_judged ⟨Nat.le_trans (Nat.le_of_ble_eq_true rfl) hR.1, Nat.le_trans (Nat.le_of_ble_eq_true rfl) hR.2⟩ rfl hl.1.1 rfl xm_r0 hf (fun v h1 k1 n1 e1 => ct_X0_judged l D N e1) dX0_total_113 (fun x113 h H locs cells slots kc ks hS hf => ?_)
      refine W.eq (g2 := F0 m 116 ls [va_rf x113]) rfl ?_
      refine lv_bipush (v := -5) hx hb dX0_total_116 xi_bm5 ?_
      refine xr_V (V := fun v => some (.int v)) (n := 1) (fr := 3) (lo := 64) (As := [.int (-5 : Int32)]) C hS xf_X7 (lw_V q675 q676 q677 q74 q678) hdv_X7_hits ⟨Nat.le_trans (Nat.le_of_ble_eq_true rfl) hR.1, Nat.le_trans (Nat.le_of_ble_eq_true rfl) hR.2⟩ rfl hl.1.1 rfl xm_r0 hf (fun v h1 k1 n1 e1 => ct_X7_hits l D N e1) dX0_total_118 (fun x118 h H locs cells slots kc ks hS hf => ?_)
      refine W.eq (g2 := F0 m 121 ls [.int x118]) rfl ?_
      exact xr_iret C hS hr hf dX0_total_121
    replace hf := xb_neg c18_10 hf
    by_cases c18_11 : a1 = 11
    · replace hf := xb_pos c18_11 hf
      refine xr_tab c18_11 C dX0_total_18 (by decide) (by decide) (off := 104) (tgt := 122) (by decide) (by decide) ?_
      refine xr_aload_n C dX0_total_122 rfl (hl.at 0 rfl) ?_
      refine xr_V (V := fun v => some (va_rf v)) (n := 0) (fr := 7) (lo := 155) (As := []) C hS xf_X0 (lw_V q591 q593 qs10 q55 q594) hdv_X0_judged ⟨Nat.le_trans (Nat.le_of_ble_eq_true rfl) hR.1, Nat.le_trans (Nat.le_of_ble_eq_true rfl) hR.2⟩ rfl hl.1.1 rfl xm_r0 hf (fun v h1 k1 n1 e1 => ct_X0_judged l D N e1) dX0_total_123 (fun x123 h H locs cells slots kc ks hS hf => ?_)
      refine W.eq (g2 := F0 m 126 ls [va_rf x123]) rfl ?_
      refine xr_V (V := fun v => some (.int v)) (n := 0) (fr := 5) (lo := 110) (As := []) C hS xf_X7 (lw_V q781 q782 q783 q74 q784) hdv_X7_all ⟨Nat.le_trans (Nat.le_of_ble_eq_true rfl) hR.1, Nat.le_trans (Nat.le_of_ble_eq_true rfl) hR.2⟩ rfl hl.1.1 rfl xm_r0 hf (fun v h1 k1 n1 e1 => ct_X7_all l D N e1) dX0_total_126 (fun x126 h H locs cells slots kc ks hS hf => ?_)
      refine W.eq (g2 := F0 m 129 ls [.int x126]) rfl ?_
      exact xr_iret C hS hr hf dX0_total_129
    replace hf := xb_neg c18_11 hf
    by_cases c18_12 : a1 = 12
    · replace hf := xb_pos c18_12 hf
      refine xr_tab c18_12 C dX0_total_18 (by decide) (by decide) (off := 112) (tgt := 130) (by decide) (by decide) ?_
      refine xr_aload_n C dX0_total_130 rfl (hl.at 0 rfl) ?_
      refine xr_V (V := fun v => some (va_rf v)) (n := 0) (fr := 7) (lo := 155) (As := []) C hS xf_X0 (lw_V q591 q593 qs10 q55 q594) hdv_X0_judged ⟨Nat.le_trans (Nat.le_of_ble_eq_true rfl) hR.1, Nat.le_trans (Nat.le_of_ble_eq_true rfl) hR.2⟩ rfl hl.1.1 rfl xm_r0 hf (fun v h1 k1 n1 e1 => ct_X0_judged l D N e1) dX0_total_131 (fun x131 h H locs cells slots kc ks hS hf => ?_)
      refine W.eq (g2 := F0 m 134 ls [va_rf x131]) rfl ?_
      refine xr_V (V := fun v => some (.int v)) (n := 0) (fr := 4) (lo := 85) (As := []) C hS xf_X7 (lw_V q787 q788 q789 q74 q790) hdv_X7_most ⟨Nat.le_trans (Nat.le_of_ble_eq_true rfl) hR.1, Nat.le_trans (Nat.le_of_ble_eq_true rfl) hR.2⟩ rfl hl.1.1 rfl xm_r0 hf (fun v h1 k1 n1 e1 => ct_X7_most l D N e1) dX0_total_134 (fun x134 h H locs cells slots kc ks hS hf => ?_)
      refine W.eq (g2 := F0 m 137 ls [.int x134]) rfl ?_
      exact xr_iret C hS hr hf dX0_total_137
    replace hf := xb_neg c18_12 hf
    by_cases c18_13 : a1 = 13
    · replace hf := xb_pos c18_13 hf
      refine xr_tab c18_13 C dX0_total_18 (by decide) (by decide) (off := 120) (tgt := 138) (by decide) (by decide) ?_
      refine xr_aload_n C dX0_total_138 rfl (hl.at 0 rfl) ?_
      refine xr_getR C hS xf_X0 1 (by decide) q140 (fun _ h => h) hf dX0_total_139 (fun x139 hf => ?_)
      refine xr_F (V := fun v => some (.int v)) (n := 0) (fr := 0) (lo := 0) (As := []) C hS xf_J2 q481 q353 q355 q59 q357 xn_i5 hdi_J2_size ⟨Nat.le_trans (Nat.le_of_ble_eq_true rfl) hR.1, Nat.le_trans (Nat.le_of_ble_eq_true rfl) hR.2⟩ rfl hl.1.1 rfl xm_r0 hf (fun v h1 k1 n1 e1 => ct_J2_size l D N e1) dX0_total_142 (fun x142 h H locs cells slots kc ks hS hf => ?_)
      refine W.eq (g2 := F0 m 147 ls [.int x142]) rfl ?_
      exact xr_iret C hS hr hf dX0_total_147
    replace hf := xb_neg c18_13 hf
    by_cases c18_14 : a1 = 14
    · replace hf := xb_pos c18_14 hf
      refine xr_tab c18_14 C dX0_total_18 (by decide) (by decide) (off := 130) (tgt := 148) (by decide) (by decide) ?_
      refine xr_aload_n C dX0_total_148 rfl (hl.at 0 rfl) ?_
      refine xr_getI C hS xf_X0 4 (by decide) q145 (fun _ h => h) hf dX0_total_149 (fun x149 hf => ?_)
      exact xr_iret C hS hr hf dX0_total_152
    replace hf := xb_neg c18_14 hf
    refine lv_tableOut (tgt := 153) hx hb dX0_total_18 (by have ec18_5 := lv_neT c18_5 (a := 5) (by decide); have ec18_6 := lv_neT c18_6 (a := 6) (by decide); have ec18_7 := lv_neT c18_7 (a := 7) (by decide); have ec18_8 := lv_neT c18_8 (a := 8) (by decide); have ec18_9 := lv_neT c18_9 (a := 9) (by decide); have ec18_10 := lv_neT c18_10 (a := 10) (by decide); have ec18_11 := lv_neT c18_11 (a := 11) (by decide); have ec18_12 := lv_neT c18_12 (a := 12) (by decide); have ec18_13 := lv_neT c18_13 (a := 13) (by decide); have ec18_14 := lv_neT c18_14 (a := 14) (by decide); omega) (by decide) ?_
    refine lv_bipush (v := -2) hx hb dX0_total_153 xi_bm2 ?_
    exact xr_iret C hS hr hf dX0_total_155
  · replace hf := xb_neg c4 hf
    refine xr_aload_n C dX0_total_7 rfl (hl.at 0 rfl) ?_
    refine xr_getR C hS xf_X0 0 (by decide) q139 (fun _ h => h) hf dX0_total_8 (fun x8 hf => ?_)
    refine xr_getNR C hS xf_X1 2 (by decide) xn_q129 rfl hf dX0_total_11 (fun x11 hf => ?_)
    refine lv_iload_n hx hb dX0_total_14 rfl (hl.at 1 rfl) ?_
    refine xr_iald C hS hf dX0_total_15 (fun x15 hf => ?_)
    exact xr_iret C hS hr hf dX0_total_16
theorem ct_X0_total (l : Launch) (D : xh_D) {rv : Int32} {h hF : xh_H} {kc ks : Nat} (N : Nat) {a0 : Option Nat} {a1 : Int32} (hf : f_X0_total N a0 a1 h = some (rv, hF, kc, ks)) : xh_Ct l D yX0_total (ws_ yX0_total cX0_total 2 (Option.some Jvm.ClassFile.FieldType.int)) 9 199 [va_rf a0, .int a1] h (some (.int rv)) hF kc ks :=
  xh_meth (cc := cX0_total) l (by decide) (Nat.le_of_ble_eq_true rfl) (List.forall_mem_cons.mpr ⟨va_rf_cat _, List.forall_mem_cons.mpr ⟨rfl, fun _ h => absurd h List.not_mem_nil⟩⟩) fun p e s m below meth c ls C hr hnm hl hS => w_X0_total C hr ⟨Nat.le_refl _, Nat.le_refl _⟩ N a0 a1 h _ _ _ _ _ _ _ hf hS hl
def K_X0_shift_3 (p : Program) (l : Launch) (e : Env) (s : State) (m : MethodId) (args : Array Value) (below : List Frame) (meth : Method) (c : Code) (D : xh_D) (g : Nat → Nat) (R : Room) (rv : Unit) (hF : xh_H) (k : Option Nat → Option Nat → Int32 → Int32 → Int32 → xh_H → xh_R Unit) : Prop := ∀ (a0 : Option Nat) (a1 : Option Nat) (a2 : Int32) (a3 : Int32) (a4 : Int32) (h : xh_H) (H : Heap) (locs : List Loc) (cells slots kc ks : Nat) (ls : Array Slot), k a0 a1 a2 a3 a4 h = some (rv, hF, kc, ks) → xh_T D g s R h H locs cells slots kc ks → xh_L ls 7 [(0, va_rf a0), (1, va_rf a1), (2, .int a2), (3, .int a3), (4, .int a4)] → W p l e R s m args below meth c H locs cells slots (MQ below (xh_Q D g none hF) args s R.cells R.slots (xh_A g)) (F0 m 3 ls [])
theorem w_X0_shift_b74 (C : xh_C cX0_shift 7 "SungSlides" D g p s m args meth c) (hr : meth.sig.returnType = (Option.none : Option Jvm.ClassFile.FieldType)) (hR : 2 ≤ R.frames ∧ 42 ≤ R.locals) {rv : Unit} {hF : xh_H} (N : Nat) {k3 : Option Nat → Option Nat → Int32 → Int32 → Int32 → xh_H → xh_R Unit} (hk3 : K_X0_shift_3 p l e s m args below meth c D g R rv hF k3) : ∀ (a0 : Option Nat) (a1 : Option Nat) (a2 : Int32) (a3 : Int32) (a4 : Int32) (t0 : Option Nat) (t1 : Int32) (t2 : Int32) (h : xh_H) (H : Heap) (locs : List Loc) (cells slots kc ks : Nat) (ls : Array Slot), f_X0_shift_b74 N k3 a0 a1 a2 a3 a4 t0 t1 t2 h = some (rv, hF, kc, ks) → xh_T D g s R h H locs cells slots kc ks → xh_L ls 7 [(0, va_rf a0), (1, va_rf a1), (2, .int a2), (3, .int a3), (4, .int a4)] → W p l e R s m args below meth c H locs cells slots (MQ below (xh_Q D g none hF) args s R.cells R.slots (xh_A g)) (F0 m 74 ls [.int t2, .int t1, va_rf t0]) := by
  intro a0 a1 a2 a3 a4 t0 t1 t2 h H locs cells slots kc ks ls hf hS hl
  have hx := C.1
  have hb := C.2.1
  unfold f_X0_shift_b74 at hf
  refine xr_iast C hS hf dX0_shift_74 (fun h H locs hS hf => ?_)
  refine xr_iinc C dX0_shift_75 hl (k := 4) rfl (xi_inc xi_c1) (Nat.le_of_ble_eq_true rfl) (lv' := [(4, .int (a4 + (1 : Int32))), (0, va_rf a0), (1, va_rf a1), (2, .int a2), (3, .int a3)]) rfl (fun ls hl => ?_)
  refine lv_goto (tgt := 3) hx hb dX0_shift_78 (by decide) ?_
  exact hk3 a0 a1 a2 a3 (a4 + (1 : Int32))  h H locs cells slots kc ks ls hf hS (hl.sub [1, 2, 3, 4, 0] rfl)
theorem w_X0_shift_b55 (C : xh_C cX0_shift 7 "SungSlides" D g p s m args meth c) (hr : meth.sig.returnType = (Option.none : Option Jvm.ClassFile.FieldType)) (hR : 2 ≤ R.frames ∧ 42 ≤ R.locals) {rv : Unit} {hF : xh_H} (N : Nat) {k3 : Option Nat → Option Nat → Int32 → Int32 → Int32 → xh_H → xh_R Unit} (hk3 : K_X0_shift_3 p l e s m args below meth c D g R rv hF k3) : ∀ (a0 : Option Nat) (a1 : Option Nat) (a2 : Int32) (a3 : Int32) (a4 : Int32) (t0 : Int32) (h : xh_H) (H : Heap) (locs : List Loc) (cells slots kc ks : Nat) (ls : Array Slot), f_X0_shift_b55 N k3 a0 a1 a2 a3 a4 t0 h = some (rv, hF, kc, ks) → xh_T D g s R h H locs cells slots kc ks → xh_L ls 7 [(0, va_rf a0), (1, va_rf a1), (2, .int a2), (3, .int a3), (4, .int a4)] → W p l e R s m args below meth c H locs cells slots (MQ below (xh_Q D g none hF) args s R.cells R.slots (xh_A g)) (F0 m 55 ls [.int t0]) := by
  intro a0 a1 a2 a3 a4 t0 h H locs cells slots kc ks ls hf hS hl
  have hx := C.1
  have hb := C.2.1
  unfold f_X0_shift_b55 at hf
  refine xr_istore C dX0_shift_55 hl (Nat.le_of_ble_eq_true rfl) (lv' := [(6, .int t0), (0, va_rf a0), (1, va_rf a1), (2, .int a2), (3, .int a3), (4, .int a4)]) rfl (fun ls hl => ?_)
  refine xr_aload_n C dX0_shift_57 rfl (hl.at 2 rfl) ?_
  refine lv_iload hx hb dX0_shift_58 (hl.at 5 rfl) ?_
  refine lv_iload hx hb dX0_shift_60 (hl.at 0 rfl) ?_
  refine xr_S (V := fun v => some (.int v)) (n := 1) (fr := 1) (lo := 22) (As := [.int t0]) C hS (lw_S q590 q198 q55 q199) hd_X0_isPitch ⟨Nat.le_trans (Nat.le_of_ble_eq_true rfl) hR.1, Nat.le_trans (Nat.le_of_ble_eq_true rfl) hR.2⟩ rfl hl.1.1 rfl (xm_rc rfl (xm_rc (va_rf_cat _) xm_r0)) hf (fun v h1 k1 n1 e1 => ct_X0_isPitch l D N e1) dX0_shift_62 (fun x62 h H locs cells slots kc ks hS hf => ?_)
  refine W.eq (g2 := F0 m 65 ls [.int x62, .int a4, va_rf a1]) rfl ?_
  refine lv_if_eq (tgt := 73) hx hb dX0_shift_65 (by decide) (fun c65 => ?_) (fun c65 => ?_)
  · replace hf := xb_pos c65 hf
    refine lv_iconst (v := -1) hx hb dX0_shift_73 xi_cm1 ?_
    exact w_X0_shift_b74 C hr hR N hk3 a0 a1 a2 a3 a4 a1 a4 (-1 : Int32) h H locs cells slots kc ks ls hf hS (hl.sub [1, 2, 3, 4, 5] rfl)
  · replace hf := xb_neg c65 hf
    refine lv_iload hx hb dX0_shift_68 (hl.at 0 rfl) ?_
    refine lv_goto (tgt := 74) hx hb dX0_shift_70 (by decide) ?_
    exact w_X0_shift_b74 C hr hR N hk3 a0 a1 a2 a3 a4 a1 a4 t0 h H locs cells slots kc ks ls hf hS (hl.sub [1, 2, 3, 4, 5] rfl)
theorem w_X0_shift_b54 (C : xh_C cX0_shift 7 "SungSlides" D g p s m args meth c) (hr : meth.sig.returnType = (Option.none : Option Jvm.ClassFile.FieldType)) (hR : 2 ≤ R.frames ∧ 42 ≤ R.locals) {rv : Unit} {hF : xh_H} (N : Nat) {k3 : Option Nat → Option Nat → Int32 → Int32 → Int32 → xh_H → xh_R Unit} (hk3 : K_X0_shift_3 p l e s m args below meth c D g R rv hF k3) : ∀ (a0 : Option Nat) (a1 : Option Nat) (a2 : Int32) (a3 : Int32) (a4 : Int32) (h : xh_H) (H : Heap) (locs : List Loc) (cells slots kc ks : Nat) (ls : Array Slot), f_X0_shift_b54 N k3 a0 a1 a2 a3 a4 h = some (rv, hF, kc, ks) → xh_T D g s R h H locs cells slots kc ks → xh_L ls 7 [(0, va_rf a0), (1, va_rf a1), (2, .int a2), (3, .int a3), (4, .int a4)] → W p l e R s m args below meth c H locs cells slots (MQ below (xh_Q D g none hF) args s R.cells R.slots (xh_A g)) (F0 m 54 ls []) := by
  intro a0 a1 a2 a3 a4 h H locs cells slots kc ks ls hf hS hl
  have hx := C.1
  have hb := C.2.1
  unfold f_X0_shift_b54 at hf
  refine lv_iconst (v := -1) hx hb dX0_shift_54 xi_cm1 ?_
  exact w_X0_shift_b55 C hr hR N hk3 a0 a1 a2 a3 a4 (-1 : Int32) h H locs cells slots kc ks ls hf hS (hl.sub [0, 1, 2, 3, 4] rfl)
theorem w_X0_shift_b3 (C : xh_C cX0_shift 7 "SungSlides" D g p s m args meth c) (hr : meth.sig.returnType = (Option.none : Option Jvm.ClassFile.FieldType)) (hR : 2 ≤ R.frames ∧ 42 ≤ R.locals) {rv : Unit} {hF : xh_H} (N : Nat) {k3 : Option Nat → Option Nat → Int32 → Int32 → Int32 → xh_H → xh_R Unit} (hk3 : K_X0_shift_3 p l e s m args below meth c D g R rv hF k3) : ∀ (a0 : Option Nat) (a1 : Option Nat) (a2 : Int32) (a3 : Int32) (a4 : Int32) (h : xh_H) (H : Heap) (locs : List Loc) (cells slots kc ks : Nat) (ls : Array Slot), f_X0_shift_b3 N k3 a0 a1 a2 a3 a4 h = some (rv, hF, kc, ks) → xh_T D g s R h H locs cells slots kc ks → xh_L ls 7 [(0, va_rf a0), (1, va_rf a1), (2, .int a2), (3, .int a3), (4, .int a4)] → W p l e R s m args below meth c H locs cells slots (MQ below (xh_Q D g none hF) args s R.cells R.slots (xh_A g)) (F0 m 3 ls []) := by
  intro a0 a1 a2 a3 a4 h H locs cells slots kc ks ls hf hS hl
  have hx := C.1
  have hb := C.2.1
  unfold f_X0_shift_b3 at hf
  refine lv_iload hx hb dX0_shift_3 (hl.at 4 rfl) ?_
  refine lv_sipush (v := 600) hx hb dX0_shift_5 xi_s600 ?_
  refine lv_icmp_ge (tgt := 81) hx hb dX0_shift_8 (by decide) (fun c8 => ?_) (fun c8 => ?_)
  · replace hf := xb_pos c8 hf
    exact xr_vret C hS hr hf dX0_shift_81
  · replace hf := xb_neg c8 hf
    refine lv_iload hx hb dX0_shift_11 (hl.at 4 rfl) ?_
    refine lv_iload_n hx hb dX0_shift_13 rfl (hl.at 2 rfl) ?_
    refine lv_isub hx hb dX0_shift_14 ?_
    refine xr_istore C dX0_shift_15 hl (Nat.le_of_ble_eq_true rfl) (lv' := [(5, .int (a4 - a2)), (0, va_rf a0), (1, va_rf a1), (2, .int a2), (3, .int a3), (4, .int a4)]) rfl (fun ls hl => ?_)
    refine lv_iload hx hb dX0_shift_17 (hl.at 0 rfl) ?_
    refine xr_S (V := fun v => some (.int v)) (n := 1) (fr := 1) (lo := 22) (As := [.int (a4 - a2)]) C hS (lw_S q587 q588 q55 q589) hd_X0_isTick ⟨Nat.le_trans (Nat.le_of_ble_eq_true rfl) hR.1, Nat.le_trans (Nat.le_of_ble_eq_true rfl) hR.2⟩ rfl hl.1.1 rfl xm_r0 hf (fun v h1 k1 n1 e1 => ct_X0_isTick l D N e1) dX0_shift_19 (fun x19 h H locs cells slots kc ks hS hf => ?_)
    refine W.eq (g2 := F0 m 22 ls [.int x19]) rfl ?_
    refine lv_if_eq (tgt := 54) hx hb dX0_shift_22 (by decide) (fun c22 => ?_) (fun c22 => ?_)
    · replace hf := xb_pos c22 hf
      exact w_X0_shift_b54 C hr hR N hk3 a0 a1 a2 a3 a4  h H locs cells slots kc ks ls hf hS (hl.sub [1, 2, 3, 4, 5] rfl)
    · replace hf := xb_neg c22 hf
      refine xr_aload_n C dX0_shift_25 rfl (hl.at 1 rfl) ?_
      refine xr_getR C hS xf_X0 0 (by decide) q139 (fun _ h => h) hf dX0_shift_26 (fun x26 hf => ?_)
      refine xr_getNR C hS xf_X1 1 (by decide) xn_q126 rfl hf dX0_shift_29 (fun x29 hf => ?_)
      refine lv_iload hx hb dX0_shift_32 (hl.at 0 rfl) ?_
      refine xr_iald C hS hf dX0_shift_34 (fun x34 hf => ?_)
      refine lv_iconst (v := -1) hx hb dX0_shift_35 xi_cm1 ?_
      refine lv_icmp_eq (tgt := 54) hx hb dX0_shift_36 (by decide) (fun c36 => ?_) (fun c36 => ?_)
      · replace hf := xb_pos c36 hf
        exact w_X0_shift_b54 C hr hR N hk3 a0 a1 a2 a3 a4  h H locs cells slots kc ks ls hf hS (hl.sub [1, 2, 3, 4, 5] rfl)
      · replace hf := xb_neg c36 hf
        refine xr_aload_n C dX0_shift_39 rfl (hl.at 1 rfl) ?_
        refine xr_getR C hS xf_X0 0 (by decide) q139 (fun _ h => h) hf dX0_shift_40 (fun x40 hf => ?_)
        refine xr_getNR C hS xf_X1 1 (by decide) xn_q126 rfl hf dX0_shift_43 (fun x43 hf => ?_)
        refine lv_iload hx hb dX0_shift_46 (hl.at 0 rfl) ?_
        refine xr_iald C hS hf dX0_shift_48 (fun x48 hf => ?_)
        refine lv_iload_n hx hb dX0_shift_49 rfl (hl.at 4 rfl) ?_
        refine lv_iadd hx hb dX0_shift_50 ?_
        refine lv_goto (tgt := 55) hx hb dX0_shift_51 (by decide) ?_
        exact w_X0_shift_b55 C hr hR N hk3 a0 a1 a2 a3 a4 (x48 + a3) h H locs cells slots kc ks ls hf hS (hl.sub [1, 2, 3, 4, 5] rfl)
theorem w_X0_shift_l3 (C : xh_C cX0_shift 7 "SungSlides" D g p s m args meth c) (hr : meth.sig.returnType = (Option.none : Option Jvm.ClassFile.FieldType)) (hR : 2 ≤ R.frames ∧ 42 ≤ R.locals) {rv : Unit} {hF : xh_H} (N : Nat) : ∀ n : Nat, K_X0_shift_3 p l e s m args below meth c D g R rv hF (f_X0_shift_l3 N n) := by
  intro n
  induction n with
  | zero => exact fun a0 a1 a2 a3 a4 h H locs cells slots kc ks ls hf => absurd (show (none : xh_R Unit) = some _ from hf) (by intro q; cases q)
  | succ n ih => exact fun a0 a1 a2 a3 a4 h H locs cells slots kc ks ls hf => w_X0_shift_b3 C hr hR N ih a0 a1 a2 a3 a4 h H locs cells slots kc ks ls hf
/-- SungSlides.shift([III)V -/
theorem w_X0_shift (C : xh_C cX0_shift 7 "SungSlides" D g p s m args meth c) (hr : meth.sig.returnType = (Option.none : Option Jvm.ClassFile.FieldType)) (hR : 2 ≤ R.frames ∧ 42 ≤ R.locals) {rv : Unit} {hF : xh_H} (N : Nat) (a0 : Option Nat) (a1 : Option Nat) (a2 : Int32) (a3 : Int32)  (h : xh_H) (H : Heap) (locs : List Loc) (cells slots kc ks : Nat) (ls : Array Slot) (hf : f_X0_shift N a0 a1 a2 a3 h = some (rv, hF, kc, ks)) (hS : xh_T D g s R h H locs cells slots kc ks) (hl : xh_L ls 7 [(0, va_rf a0), (1, va_rf a1), (2, .int a2), (3, .int a3)]) : W p l e R s m args below meth c H locs cells slots (MQ below (xh_Q D g none hF) args s R.cells R.slots (xh_A g)) (F0 m 0 ls []) := by
  have hx := C.1
  have hb := C.2.1
  unfold f_X0_shift at hf
  refine lv_iconst (v := 0) hx hb dX0_shift_0 xi_c0 ?_
  refine xr_istore C dX0_shift_1 hl (Nat.le_of_ble_eq_true rfl) (lv' := [(4, .int (0 : Int32)), (0, va_rf a0), (1, va_rf a1), (2, .int a2), (3, .int a3)]) rfl (fun ls hl => ?_)
  exact w_X0_shift_l3 C hr hR N N a0 a1 a2 a3 (0 : Int32)  h H locs cells slots kc ks ls hf hS (hl.sub [1, 2, 3, 4, 0] rfl)
theorem ct_X0_shift (l : Launch) (D : xh_D) {rv : Unit} {h hF : xh_H} {kc ks : Nat} (N : Nat) {a0 : Option Nat} {a1 : Option Nat} {a2 : Int32} {a3 : Int32} (hf : f_X0_shift N a0 a1 a2 a3 h = some (rv, hF, kc, ks)) : xh_Ct l D yX0_shift (ws_ yX0_shift cX0_shift 7 (Option.none : Option Jvm.ClassFile.FieldType)) 2 42 [va_rf a0, va_rf a1, .int a2, .int a3] h none hF kc ks :=
  xh_meth (cc := cX0_shift) l (by decide) (Nat.le_of_ble_eq_true rfl) (List.forall_mem_cons.mpr ⟨va_rf_cat _, List.forall_mem_cons.mpr ⟨va_rf_cat _, List.forall_mem_cons.mpr ⟨rfl, List.forall_mem_cons.mpr ⟨rfl, fun _ h => absurd h List.not_mem_nil⟩⟩⟩⟩) fun p e s m below meth c ls C hr hnm hl hS => w_X0_shift C hr ⟨Nat.le_refl _, Nat.le_refl _⟩ N a0 a1 a2 a3 h _ _ _ _ _ _ _ hf hS hl
theorem w_X0_ifShifted_b22 (C : xh_C cX0_ifShifted 4 "SungSlides" D g p s m args meth c) (hr : meth.sig.returnType = (Option.some Jvm.ClassFile.FieldType.int)) (hR : 7 ≤ R.frames ∧ 155 ≤ R.locals) {rv : Int32} {hF : xh_H} (N : Nat) : ∀ (h : xh_H) (H : Heap) (locs : List Loc) (cells slots kc ks : Nat) (ls : Array Slot), f_X0_ifShifted_b22 N  h = some (rv, hF, kc, ks) → xh_T D g s R h H locs cells slots kc ks → xh_L ls 4 [] → W p l e R s m args below meth c H locs cells slots (MQ below (xh_Q D g (some (.int rv)) hF) args s R.cells R.slots (xh_A g)) (F0 m 22 ls []) := by
  intro  h H locs cells slots kc ks ls hf hS hl
  have hx := C.1
  have hb := C.2.1
  unfold f_X0_ifShifted_b22 at hf
  refine lv_bipush (v := -2) hx hb dX0_ifShifted_22 xi_bm2 ?_
  exact xr_iret C hS hr hf dX0_ifShifted_24
/-- SungSlides.ifShifted(II)I -/
theorem w_X0_ifShifted (C : xh_C cX0_ifShifted 4 "SungSlides" D g p s m args meth c) (hr : meth.sig.returnType = (Option.some Jvm.ClassFile.FieldType.int)) (hR : 7 ≤ R.frames ∧ 155 ≤ R.locals) {rv : Int32} {hF : xh_H} (N : Nat) (a0 : Option Nat) (a1 : Int32) (a2 : Int32)  (h : xh_H) (H : Heap) (locs : List Loc) (cells slots kc ks : Nat) (ls : Array Slot) (hf : f_X0_ifShifted N a0 a1 a2 h = some (rv, hF, kc, ks)) (hS : xh_T D g s R h H locs cells slots kc ks) (hl : xh_L ls 4 [(0, va_rf a0), (1, .int a1), (2, .int a2)]) : W p l e R s m args below meth c H locs cells slots (MQ below (xh_Q D g (some (.int rv)) hF) args s R.cells R.slots (xh_A g)) (F0 m 0 ls []) := by
  have hx := C.1
  have hb := C.2.1
  unfold f_X0_ifShifted at hf
  refine lv_iload_n hx hb dX0_ifShifted_0 rfl (hl.at 1 rfl) ?_
  refine lv_bipush (v := -32) hx hb dX0_ifShifted_1 xi_bm32 ?_
  refine lv_bipush (v := 32) hx hb dX0_ifShifted_3 xi_b32 ?_
  refine xr_S (V := fun v => some (.int v)) (n := 3) (fr := 0) (lo := 0) (As := [.int a1, .int (-32 : Int32), .int (32 : Int32)]) C hS (lw_S q200 q195 q55 q196) hd_X0_isBetween ⟨Nat.le_trans (Nat.le_of_ble_eq_true rfl) hR.1, Nat.le_trans (Nat.le_of_ble_eq_true rfl) hR.2⟩ rfl hl.1.1 rfl xm_r0 hf (fun v h1 k1 n1 e1 => ct_X0_isBetween l D N e1) dX0_ifShifted_5 (fun x5 h H locs cells slots kc ks hS hf => ?_)
  refine W.eq (g2 := F0 m 8 ls [.int x5]) rfl ?_
  refine lv_if_eq (tgt := 22) hx hb dX0_ifShifted_8 (by decide) (fun c8 => ?_) (fun c8 => ?_)
  · replace hf := xb_pos c8 hf
    exact w_X0_ifShifted_b22 C hr hR N  h H locs cells slots kc ks ls hf hS (hl.sub [] rfl)
  · replace hf := xb_neg c8 hf
    refine lv_iload_n hx hb dX0_ifShifted_11 rfl (hl.at 2 rfl) ?_
    refine lv_bipush (v := -60) hx hb dX0_ifShifted_12 xi_bm60 ?_
    refine lv_bipush (v := 60) hx hb dX0_ifShifted_14 xi_b60 ?_
    refine xr_S (V := fun v => some (.int v)) (n := 3) (fr := 0) (lo := 0) (As := [.int a2, .int (-60 : Int32), .int (60 : Int32)]) C hS (lw_S q200 q195 q55 q196) hd_X0_isBetween ⟨Nat.le_trans (Nat.le_of_ble_eq_true rfl) hR.1, Nat.le_trans (Nat.le_of_ble_eq_true rfl) hR.2⟩ rfl hl.1.1 rfl xm_r0 hf (fun v h1 k1 n1 e1 => ct_X0_isBetween l D N e1) dX0_ifShifted_16 (fun x16 h H locs cells slots kc ks hS hf => ?_)
    refine W.eq (g2 := F0 m 19 ls [.int x16]) rfl ?_
    refine lv_if_ne (tgt := 25) hx hb dX0_ifShifted_19 (by decide) (fun c19 => ?_) (fun c19 => ?_)
    · replace hf := xb_neg c19 hf
      refine lv_sipush (v := 600) hx hb dX0_ifShifted_25 xi_s600 ?_
      refine xr_na C hS (k := 0) (atype := .int) (ty := .int) rfl rfl (by decide) rfl (fun _ h => h) q121 hf dX0_ifShifted_28 (fun x28 h H cells slots kc ks hS hf => ?_)
      refine xr_astore_n C dX0_ifShifted_30 rfl hl (Nat.le_of_ble_eq_true rfl) (lv' := [(3, va_rf x28), (0, va_rf a0), (1, .int a1), (2, .int a2)]) rfl (fun ls hl => ?_)
      refine xr_aload_n C dX0_ifShifted_31 rfl (hl.at 1 rfl) ?_
      refine xr_aload_n C dX0_ifShifted_32 rfl (hl.at 0 rfl) ?_
      refine lv_iload_n hx hb dX0_ifShifted_33 rfl (hl.at 2 rfl) ?_
      refine lv_iload_n hx hb dX0_ifShifted_34 rfl (hl.at 3 rfl) ?_
      refine xr_V (V := fun _ => none) (n := 3) (fr := 2) (lo := 42) (As := [va_rf x28, .int a1, .int a2]) C hS xf_X0 (lw_V q795 q797 qs19 q55 q798) hdv_X0_shift ⟨Nat.le_trans (Nat.le_of_ble_eq_true rfl) hR.1, Nat.le_trans (Nat.le_of_ble_eq_true rfl) hR.2⟩ rfl hl.1.1 rfl xm_r0 hf (fun v h1 k1 n1 e1 => ct_X0_shift l D N e1) dX0_ifShifted_35 (fun _ h H locs cells slots kc ks hS hf => ?_)
      refine W.eq (g2 := F0 m 38 ls []) rfl ?_
      refine xr_new C hS xf_X7 q595 q596 q74 (fs := [.null, .null, .null, .null, .null, .null, .null]) rfl xd_X7 hf dX0_ifShifted_38 (fun x38 h H cells slots kc ks hS hf => ?_)
      refine lv_dup hx hb dX0_ifShifted_41 (va_rf_cat _) ?_
      refine xr_aload_n C dX0_ifShifted_42 rfl (hl.at 1 rfl) ?_
      refine xr_getR C hS xf_X0 0 (by decide) q139 (fun _ h => h) hf dX0_ifShifted_43 (fun x43 hf => ?_)
      refine xr_I (n := 1) (fr := 1) (lo := 20) (As := [va_rf x43]) C hS q597 q598 q74 q599 rfl hd_X7_init ⟨Nat.le_trans (Nat.le_of_ble_eq_true rfl) hR.1, Nat.le_trans (Nat.le_of_ble_eq_true rfl) hR.2⟩ rfl hl.1.1 rfl (xm_rc (va_rf_cat _) xm_r0) (ci := 7) hf (fun v h1 k1 n1 e1 => ct_X7_init l D N e1) dX0_ifShifted_46 (fun _ h H locs cells slots kc ks hS hf => ?_)
      refine W.eq (g2 := F0 m 49 ls [va_rf x38]) rfl ?_
      refine xr_aload_n C dX0_ifShifted_49 rfl (hl.at 0 rfl) ?_
      refine xr_V (V := fun v => some (va_rf v)) (n := 1) (fr := 6) (lo := 133) (As := [va_rf x28]) C hS xf_X7 (lw_V q628 q629 q630 q74 q631) hdv_X7_run ⟨Nat.le_trans (Nat.le_of_ble_eq_true rfl) hR.1, Nat.le_trans (Nat.le_of_ble_eq_true rfl) hR.2⟩ rfl hl.1.1 rfl xm_r0 hf (fun v h1 k1 n1 e1 => ct_X7_run l D N e1) dX0_ifShifted_50 (fun x50 h H locs cells slots kc ks hS hf => ?_)
      refine W.eq (g2 := F0 m 53 ls [va_rf x50]) rfl ?_
      refine xr_V (V := fun v => some (.int v)) (n := 0) (fr := 5) (lo := 110) (As := []) C hS xf_X7 (lw_V q781 q782 q783 q74 q784) hdv_X7_all ⟨Nat.le_trans (Nat.le_of_ble_eq_true rfl) hR.1, Nat.le_trans (Nat.le_of_ble_eq_true rfl) hR.2⟩ rfl hl.1.1 rfl xm_r0 hf (fun v h1 k1 n1 e1 => ct_X7_all l D N e1) dX0_ifShifted_53 (fun x53 h H locs cells slots kc ks hS hf => ?_)
      refine W.eq (g2 := F0 m 56 ls [.int x53]) rfl ?_
      exact xr_iret C hS hr hf dX0_ifShifted_56
    · replace hf := xb_pos c19 hf
      exact w_X0_ifShifted_b22 C hr hR N  h H locs cells slots kc ks ls hf hS (hl.sub [] rfl)
theorem ct_X0_ifShifted (l : Launch) (D : xh_D) {rv : Int32} {h hF : xh_H} {kc ks : Nat} (N : Nat) {a0 : Option Nat} {a1 : Int32} {a2 : Int32} (hf : f_X0_ifShifted N a0 a1 a2 h = some (rv, hF, kc, ks)) : xh_Ct l D yX0_ifShifted (ws_ yX0_ifShifted cX0_ifShifted 4 (Option.some Jvm.ClassFile.FieldType.int)) 7 155 [va_rf a0, .int a1, .int a2] h (some (.int rv)) hF kc ks :=
  xh_meth (cc := cX0_ifShifted) l (by decide) (Nat.le_of_ble_eq_true rfl) (List.forall_mem_cons.mpr ⟨va_rf_cat _, List.forall_mem_cons.mpr ⟨rfl, List.forall_mem_cons.mpr ⟨rfl, fun _ h => absurd h List.not_mem_nil⟩⟩⟩) fun p e s m below meth c ls C hr hnm hl hS => w_X0_ifShifted C hr ⟨Nat.le_refl _, Nat.le_refl _⟩ N a0 a1 a2 h _ _ _ _ _ _ _ hf hS hl
def K_X0_bestShift_39 (p : Program) (l : Launch) (e : Env) (s : State) (m : MethodId) (args : Array Value) (below : List Frame) (meth : Method) (c : Code) (D : xh_D) (g : Nat → Nat) (R : Room) (rv : Int32) (hF : xh_H) (k : Option Nat → Option Nat → Option Nat → Int32 → Int32 → Int32 → xh_H → xh_R Int32) : Prop := ∀ (a0 : Option Nat) (a1 : Option Nat) (a2 : Option Nat) (a3 : Int32) (a4 : Int32) (a5 : Int32) (h : xh_H) (H : Heap) (locs : List Loc) (cells slots kc ks : Nat) (ls : Array Slot), k a0 a1 a2 a3 a4 a5 h = some (rv, hF, kc, ks) → xh_T D g s R h H locs cells slots kc ks → xh_L ls 8 [(0, va_rf a0), (1, va_rf a1), (2, va_rf a2), (3, .int a3), (4, .int a4), (5, .int a5)] → W p l e R s m args below meth c H locs cells slots (MQ below (xh_Q D g (some (.int rv)) hF) args s R.cells R.slots (xh_A g)) (F0 m 39 ls [])
def K_X0_bestShift_49 (p : Program) (l : Launch) (e : Env) (s : State) (m : MethodId) (args : Array Value) (below : List Frame) (meth : Method) (c : Code) (D : xh_D) (g : Nat → Nat) (R : Room) (rv : Int32) (hF : xh_H) (k : Option Nat → Option Nat → Option Nat → Int32 → Int32 → Int32 → Int32 → xh_H → xh_R Int32) : Prop := ∀ (a0 : Option Nat) (a1 : Option Nat) (a2 : Option Nat) (a3 : Int32) (a4 : Int32) (a5 : Int32) (a6 : Int32) (h : xh_H) (H : Heap) (locs : List Loc) (cells slots kc ks : Nat) (ls : Array Slot), k a0 a1 a2 a3 a4 a5 a6 h = some (rv, hF, kc, ks) → xh_T D g s R h H locs cells slots kc ks → xh_L ls 8 [(0, va_rf a0), (1, va_rf a1), (2, va_rf a2), (3, .int a3), (4, .int a4), (5, .int a5), (6, .int a6)] → W p l e R s m args below meth c H locs cells slots (MQ below (xh_Q D g (some (.int rv)) hF) args s R.cells R.slots (xh_A g)) (F0 m 49 ls [])
theorem w_X0_bestShift_b105 (C : xh_C cX0_bestShift 8 "SungSlides" D g p s m args meth c) (hr : meth.sig.returnType = (Option.some Jvm.ClassFile.FieldType.int)) (hR : 7 ≤ R.frames ∧ 155 ≤ R.locals) {rv : Int32} {hF : xh_H} (N : Nat) : ∀ (a3 : Int32) (h : xh_H) (H : Heap) (locs : List Loc) (cells slots kc ks : Nat) (ls : Array Slot), f_X0_bestShift_b105 N a3 h = some (rv, hF, kc, ks) → xh_T D g s R h H locs cells slots kc ks → xh_L ls 8 [(3, .int a3)] → W p l e R s m args below meth c H locs cells slots (MQ below (xh_Q D g (some (.int rv)) hF) args s R.cells R.slots (xh_A g)) (F0 m 105 ls []) := by
  intro a3 h H locs cells slots kc ks ls hf hS hl
  have hx := C.1
  have hb := C.2.1
  unfold f_X0_bestShift_b105 at hf
  refine lv_iload_n hx hb dX0_bestShift_105 rfl (hl.at 0 rfl) ?_
  refine lv_bipush (v := 32) hx hb dX0_bestShift_106 xi_b32 ?_
  refine lv_iadd hx hb dX0_bestShift_108 ?_
  exact xr_iret C hS hr hf dX0_bestShift_109
theorem w_X0_bestShift_b99 (C : xh_C cX0_bestShift 8 "SungSlides" D g p s m args meth c) (hr : meth.sig.returnType = (Option.some Jvm.ClassFile.FieldType.int)) (hR : 7 ≤ R.frames ∧ 155 ≤ R.locals) {rv : Int32} {hF : xh_H} (N : Nat) {k39 : Option Nat → Option Nat → Option Nat → Int32 → Int32 → Int32 → xh_H → xh_R Int32} (hk39 : K_X0_bestShift_39 p l e s m args below meth c D g R rv hF k39) : ∀ (a0 : Option Nat) (a1 : Option Nat) (a2 : Option Nat) (a3 : Int32) (a4 : Int32) (a5 : Int32) (h : xh_H) (H : Heap) (locs : List Loc) (cells slots kc ks : Nat) (ls : Array Slot), f_X0_bestShift_b99 N k39 a0 a1 a2 a3 a4 a5 h = some (rv, hF, kc, ks) → xh_T D g s R h H locs cells slots kc ks → xh_L ls 8 [(0, va_rf a0), (1, va_rf a1), (2, va_rf a2), (3, .int a3), (4, .int a4), (5, .int a5)] → W p l e R s m args below meth c H locs cells slots (MQ below (xh_Q D g (some (.int rv)) hF) args s R.cells R.slots (xh_A g)) (F0 m 99 ls []) := by
  intro a0 a1 a2 a3 a4 a5 h H locs cells slots kc ks ls hf hS hl
  have hx := C.1
  have hb := C.2.1
  unfold f_X0_bestShift_b99 at hf
  refine xr_iinc C dX0_bestShift_99 hl (k := 5) rfl (xi_inc xi_c1) (Nat.le_of_ble_eq_true rfl) (lv' := [(5, .int (a5 + (1 : Int32))), (0, va_rf a0), (1, va_rf a1), (2, va_rf a2), (3, .int a3), (4, .int a4)]) rfl (fun ls hl => ?_)
  refine lv_goto (tgt := 39) hx hb dX0_bestShift_102 (by decide) ?_
  exact hk39 a0 a1 a2 a3 a4 (a5 + (1 : Int32))  h H locs cells slots kc ks ls hf hS (hl.sub [1, 2, 3, 4, 5, 0] rfl)
theorem w_X0_bestShift_b93 (C : xh_C cX0_bestShift 8 "SungSlides" D g p s m args meth c) (hr : meth.sig.returnType = (Option.some Jvm.ClassFile.FieldType.int)) (hR : 7 ≤ R.frames ∧ 155 ≤ R.locals) {rv : Int32} {hF : xh_H} (N : Nat) {k49 : Option Nat → Option Nat → Option Nat → Int32 → Int32 → Int32 → Int32 → xh_H → xh_R Int32} (hk49 : K_X0_bestShift_49 p l e s m args below meth c D g R rv hF k49) : ∀ (a0 : Option Nat) (a1 : Option Nat) (a2 : Option Nat) (a3 : Int32) (a4 : Int32) (a5 : Int32) (a6 : Int32) (h : xh_H) (H : Heap) (locs : List Loc) (cells slots kc ks : Nat) (ls : Array Slot), f_X0_bestShift_b93 N k49 a0 a1 a2 a3 a4 a5 a6 h = some (rv, hF, kc, ks) → xh_T D g s R h H locs cells slots kc ks → xh_L ls 8 [(0, va_rf a0), (1, va_rf a1), (2, va_rf a2), (3, .int a3), (4, .int a4), (5, .int a5), (6, .int a6)] → W p l e R s m args below meth c H locs cells slots (MQ below (xh_Q D g (some (.int rv)) hF) args s R.cells R.slots (xh_A g)) (F0 m 93 ls []) := by
  intro a0 a1 a2 a3 a4 a5 a6 h H locs cells slots kc ks ls hf hS hl
  have hx := C.1
  have hb := C.2.1
  unfold f_X0_bestShift_b93 at hf
  refine xr_iinc C dX0_bestShift_93 hl (k := 6) rfl (xi_inc xi_c2) (Nat.le_of_ble_eq_true rfl) (lv' := [(6, .int (a6 + (2 : Int32))), (0, va_rf a0), (1, va_rf a1), (2, va_rf a2), (3, .int a3), (4, .int a4), (5, .int a5)]) rfl (fun ls hl => ?_)
  refine lv_goto (tgt := 49) hx hb dX0_bestShift_96 (by decide) ?_
  exact hk49 a0 a1 a2 a3 a4 a5 (a6 + (2 : Int32))  h H locs cells slots kc ks ls hf hS (hl.sub [1, 2, 3, 4, 5, 6, 0] rfl)
theorem w_X0_bestShift_b49 (C : xh_C cX0_bestShift 8 "SungSlides" D g p s m args meth c) (hr : meth.sig.returnType = (Option.some Jvm.ClassFile.FieldType.int)) (hR : 7 ≤ R.frames ∧ 155 ≤ R.locals) {rv : Int32} {hF : xh_H} (N : Nat) {k39 : Option Nat → Option Nat → Option Nat → Int32 → Int32 → Int32 → xh_H → xh_R Int32} (hk39 : K_X0_bestShift_39 p l e s m args below meth c D g R rv hF k39) {k49 : Option Nat → Option Nat → Option Nat → Int32 → Int32 → Int32 → Int32 → xh_H → xh_R Int32} (hk49 : K_X0_bestShift_49 p l e s m args below meth c D g R rv hF k49) : ∀ (a0 : Option Nat) (a1 : Option Nat) (a2 : Option Nat) (a3 : Int32) (a4 : Int32) (a5 : Int32) (a6 : Int32) (h : xh_H) (H : Heap) (locs : List Loc) (cells slots kc ks : Nat) (ls : Array Slot), f_X0_bestShift_b49 N k39 k49 a0 a1 a2 a3 a4 a5 a6 h = some (rv, hF, kc, ks) → xh_T D g s R h H locs cells slots kc ks → xh_L ls 8 [(0, va_rf a0), (1, va_rf a1), (2, va_rf a2), (3, .int a3), (4, .int a4), (5, .int a5), (6, .int a6)] → W p l e R s m args below meth c H locs cells slots (MQ below (xh_Q D g (some (.int rv)) hF) args s R.cells R.slots (xh_A g)) (F0 m 49 ls []) := by
  intro a0 a1 a2 a3 a4 a5 a6 h H locs cells slots kc ks ls hf hS hl
  have hx := C.1
  have hb := C.2.1
  unfold f_X0_bestShift_b49 at hf
  refine lv_iload hx hb dX0_bestShift_49 (hl.at 6 rfl) ?_
  refine lv_iconst (v := 1) hx hb dX0_bestShift_51 xi_c1 ?_
  refine lv_icmp_gt (tgt := 99) hx hb dX0_bestShift_52 (by decide) (fun c52 => ?_) (fun c52 => ?_)
  · replace hf := xb_pos c52 hf
    exact w_X0_bestShift_b99 C hr hR N hk39 a0 a1 a2 a3 a4 a5  h H locs cells slots kc ks ls hf hS (hl.sub [0, 1, 2, 3, 4, 5] rfl)
  · replace hf := xb_neg c52 hf
    refine xr_aload_n C dX0_bestShift_55 rfl (hl.at 0 rfl) ?_
    refine xr_aload_n C dX0_bestShift_56 rfl (hl.at 2 rfl) ?_
    refine lv_iload hx hb dX0_bestShift_57 (hl.at 6 rfl) ?_
    refine lv_iload hx hb dX0_bestShift_59 (hl.at 5 rfl) ?_
    refine lv_imul hx hb dX0_bestShift_61 ?_
    refine lv_iconst (v := 0) hx hb dX0_bestShift_62 xi_c0 ?_
    refine xr_V (V := fun _ => none) (n := 3) (fr := 2) (lo := 42) (As := [va_rf a2, .int (a6 * a5), .int (0 : Int32)]) C hS xf_X0 (lw_V q795 q797 qs19 q55 q798) hdv_X0_shift ⟨Nat.le_trans (Nat.le_of_ble_eq_true rfl) hR.1, Nat.le_trans (Nat.le_of_ble_eq_true rfl) hR.2⟩ rfl hl.1.1 rfl xm_r0 hf (fun v h1 k1 n1 e1 => ct_X0_shift l D N e1) dX0_bestShift_63 (fun _ h H locs cells slots kc ks hS hf => ?_)
    refine W.eq (g2 := F0 m 66 ls []) rfl ?_
    refine xr_aload_n C dX0_bestShift_66 rfl (hl.at 1 rfl) ?_
    refine xr_aload_n C dX0_bestShift_67 rfl (hl.at 2 rfl) ?_
    refine xr_V (V := fun v => some (va_rf v)) (n := 1) (fr := 6) (lo := 133) (As := [va_rf a2]) C hS xf_X7 (lw_V q628 q629 q630 q74 q631) hdv_X7_run ⟨Nat.le_trans (Nat.le_of_ble_eq_true rfl) hR.1, Nat.le_trans (Nat.le_of_ble_eq_true rfl) hR.2⟩ rfl hl.1.1 rfl xm_r0 hf (fun v h1 k1 n1 e1 => ct_X7_run l D N e1) dX0_bestShift_68 (fun x68 h H locs cells slots kc ks hS hf => ?_)
    refine W.eq (g2 := F0 m 71 ls [va_rf x68]) rfl ?_
    refine xr_V (V := fun v => some (.int v)) (n := 0) (fr := 5) (lo := 110) (As := []) C hS xf_X7 (lw_V q781 q782 q783 q74 q784) hdv_X7_all ⟨Nat.le_trans (Nat.le_of_ble_eq_true rfl) hR.1, Nat.le_trans (Nat.le_of_ble_eq_true rfl) hR.2⟩ rfl hl.1.1 rfl xm_r0 hf (fun v h1 k1 n1 e1 => ct_X7_all l D N e1) dX0_bestShift_71 (fun x71 h H locs cells slots kc ks hS hf => ?_)
    refine W.eq (g2 := F0 m 74 ls [.int x71]) rfl ?_
    refine xr_istore C dX0_bestShift_74 hl (Nat.le_of_ble_eq_true rfl) (lv' := [(7, .int x71), (0, va_rf a0), (1, va_rf a1), (2, va_rf a2), (3, .int a3), (4, .int a4), (5, .int a5), (6, .int a6)]) rfl (fun ls hl => ?_)
    refine lv_iload hx hb dX0_bestShift_76 (hl.at 0 rfl) ?_
    refine lv_iload hx hb dX0_bestShift_78 (hl.at 5 rfl) ?_
    refine lv_icmp_le (tgt := 93) hx hb dX0_bestShift_80 (by decide) (fun c80 => ?_) (fun c80 => ?_)
    · replace hf := xb_pos c80 hf
      exact w_X0_bestShift_b93 C hr hR N hk49 a0 a1 a2 a3 a4 a5 a6  h H locs cells slots kc ks ls hf hS (hl.sub [1, 2, 3, 4, 5, 6, 7] rfl)
    · replace hf := xb_neg c80 hf
      refine lv_iload hx hb dX0_bestShift_83 (hl.at 7 rfl) ?_
      refine lv_iload hx hb dX0_bestShift_85 (hl.at 6 rfl) ?_
      refine lv_imul hx hb dX0_bestShift_87 ?_
      refine xr_istore_n C dX0_bestShift_88 rfl hl (Nat.le_of_ble_eq_true rfl) (lv' := [(3, .int (a6 * a5)), (7, .int x71), (0, va_rf a0), (1, va_rf a1), (2, va_rf a2), (4, .int a4), (5, .int a5), (6, .int a6)]) rfl (fun ls hl => ?_)
      refine lv_iload hx hb dX0_bestShift_89 (hl.at 1 rfl) ?_
      refine xr_istore C dX0_bestShift_91 hl (Nat.le_of_ble_eq_true rfl) (lv' := [(4, .int x71), (3, .int (a6 * a5)), (7, .int x71), (0, va_rf a0), (1, va_rf a1), (2, va_rf a2), (5, .int a5), (6, .int a6)]) rfl (fun ls hl => ?_)
      exact w_X0_bestShift_b93 C hr hR N hk49 a0 a1 a2 (a6 * a5) x71 a5 a6  h H locs cells slots kc ks ls hf hS (hl.sub [3, 4, 5, 1, 0, 6, 7] rfl)
theorem w_X0_bestShift_l49 (C : xh_C cX0_bestShift 8 "SungSlides" D g p s m args meth c) (hr : meth.sig.returnType = (Option.some Jvm.ClassFile.FieldType.int)) (hR : 7 ≤ R.frames ∧ 155 ≤ R.locals) {rv : Int32} {hF : xh_H} (N : Nat) {k39 : Option Nat → Option Nat → Option Nat → Int32 → Int32 → Int32 → xh_H → xh_R Int32} (hk39 : K_X0_bestShift_39 p l e s m args below meth c D g R rv hF k39) : ∀ n : Nat, K_X0_bestShift_49 p l e s m args below meth c D g R rv hF (f_X0_bestShift_l49 N k39 n) := by
  intro n
  induction n with
  | zero => exact fun a0 a1 a2 a3 a4 a5 a6 h H locs cells slots kc ks ls hf => absurd (show (none : xh_R Int32) = some _ from hf) (by intro q; cases q)
  | succ n ih => exact fun a0 a1 a2 a3 a4 a5 a6 h H locs cells slots kc ks ls hf => w_X0_bestShift_b49 C hr hR N hk39 ih a0 a1 a2 a3 a4 a5 a6 h H locs cells slots kc ks ls hf
theorem w_X0_bestShift_b39 (C : xh_C cX0_bestShift 8 "SungSlides" D g p s m args meth c) (hr : meth.sig.returnType = (Option.some Jvm.ClassFile.FieldType.int)) (hR : 7 ≤ R.frames ∧ 155 ≤ R.locals) {rv : Int32} {hF : xh_H} (N : Nat) {k39 : Option Nat → Option Nat → Option Nat → Int32 → Int32 → Int32 → xh_H → xh_R Int32} (hk39 : K_X0_bestShift_39 p l e s m args below meth c D g R rv hF k39) : ∀ (a0 : Option Nat) (a1 : Option Nat) (a2 : Option Nat) (a3 : Int32) (a4 : Int32) (a5 : Int32) (h : xh_H) (H : Heap) (locs : List Loc) (cells slots kc ks : Nat) (ls : Array Slot), f_X0_bestShift_b39 N k39 a0 a1 a2 a3 a4 a5 h = some (rv, hF, kc, ks) → xh_T D g s R h H locs cells slots kc ks → xh_L ls 8 [(0, va_rf a0), (1, va_rf a1), (2, va_rf a2), (3, .int a3), (4, .int a4), (5, .int a5)] → W p l e R s m args below meth c H locs cells slots (MQ below (xh_Q D g (some (.int rv)) hF) args s R.cells R.slots (xh_A g)) (F0 m 39 ls []) := by
  intro a0 a1 a2 a3 a4 a5 h H locs cells slots kc ks ls hf hS hl
  have hx := C.1
  have hb := C.2.1
  unfold f_X0_bestShift_b39 at hf
  refine lv_iload hx hb dX0_bestShift_39 (hl.at 5 rfl) ?_
  refine lv_bipush (v := 32) hx hb dX0_bestShift_41 xi_b32 ?_
  refine lv_icmp_gt (tgt := 105) hx hb dX0_bestShift_43 (by decide) (fun c43 => ?_) (fun c43 => ?_)
  · replace hf := xb_pos c43 hf
    exact w_X0_bestShift_b105 C hr hR N a3  h H locs cells slots kc ks ls hf hS (hl.sub [3] rfl)
  · replace hf := xb_neg c43 hf
    refine lv_iconst (v := -1) hx hb dX0_bestShift_46 xi_cm1 ?_
    refine xr_istore C dX0_bestShift_47 hl (Nat.le_of_ble_eq_true rfl) (lv' := [(6, .int (-1 : Int32)), (0, va_rf a0), (1, va_rf a1), (2, va_rf a2), (3, .int a3), (4, .int a4), (5, .int a5)]) rfl (fun ls hl => ?_)
    exact w_X0_bestShift_l49 C hr hR N hk39 N a0 a1 a2 a3 a4 a5 (-1 : Int32)  h H locs cells slots kc ks ls hf hS (hl.sub [1, 2, 3, 4, 5, 6, 0] rfl)
theorem w_X0_bestShift_l39 (C : xh_C cX0_bestShift 8 "SungSlides" D g p s m args meth c) (hr : meth.sig.returnType = (Option.some Jvm.ClassFile.FieldType.int)) (hR : 7 ≤ R.frames ∧ 155 ≤ R.locals) {rv : Int32} {hF : xh_H} (N : Nat) : ∀ n : Nat, K_X0_bestShift_39 p l e s m args below meth c D g R rv hF (f_X0_bestShift_l39 N n) := by
  intro n
  induction n with
  | zero => exact fun a0 a1 a2 a3 a4 a5 h H locs cells slots kc ks ls hf => absurd (show (none : xh_R Int32) = some _ from hf) (by intro q; cases q)
  | succ n ih => exact fun a0 a1 a2 a3 a4 a5 h H locs cells slots kc ks ls hf => w_X0_bestShift_b39 C hr hR N ih a0 a1 a2 a3 a4 a5 h H locs cells slots kc ks ls hf
/-- SungSlides.bestShift()I -/
theorem w_X0_bestShift (C : xh_C cX0_bestShift 8 "SungSlides" D g p s m args meth c) (hr : meth.sig.returnType = (Option.some Jvm.ClassFile.FieldType.int)) (hR : 7 ≤ R.frames ∧ 155 ≤ R.locals) {rv : Int32} {hF : xh_H} (N : Nat) (a0 : Option Nat)  (h : xh_H) (H : Heap) (locs : List Loc) (cells slots kc ks : Nat) (ls : Array Slot) (hf : f_X0_bestShift N a0 h = some (rv, hF, kc, ks)) (hS : xh_T D g s R h H locs cells slots kc ks) (hl : xh_L ls 8 [(0, va_rf a0)]) : W p l e R s m args below meth c H locs cells slots (MQ below (xh_Q D g (some (.int rv)) hF) args s R.cells R.slots (xh_A g)) (F0 m 0 ls []) := by
  have hx := C.1
  have hb := C.2.1
  unfold f_X0_bestShift at hf
  refine xr_new C hS xf_X7 q595 q596 q74 (fs := [.null, .null, .null, .null, .null, .null, .null]) rfl xd_X7 hf dX0_bestShift_0 (fun x0 h H cells slots kc ks hS hf => ?_)
  refine lv_dup hx hb dX0_bestShift_3 (va_rf_cat _) ?_
  refine xr_aload_n C dX0_bestShift_4 rfl (hl.at 0 rfl) ?_
  refine xr_getR C hS xf_X0 0 (by decide) q139 (fun _ h => h) hf dX0_bestShift_5 (fun x5 hf => ?_)
  refine xr_I (n := 1) (fr := 1) (lo := 20) (As := [va_rf x5]) C hS q597 q598 q74 q599 rfl hd_X7_init ⟨Nat.le_trans (Nat.le_of_ble_eq_true rfl) hR.1, Nat.le_trans (Nat.le_of_ble_eq_true rfl) hR.2⟩ rfl hl.1.1 rfl (xm_rc (va_rf_cat _) xm_r0) (ci := 7) hf (fun v h1 k1 n1 e1 => ct_X7_init l D N e1) dX0_bestShift_8 (fun _ h H locs cells slots kc ks hS hf => ?_)
  refine W.eq (g2 := F0 m 11 ls [va_rf x0]) rfl ?_
  refine xr_astore_n C dX0_bestShift_11 rfl hl (Nat.le_of_ble_eq_true rfl) (lv' := [(1, va_rf x0), (0, va_rf a0)]) rfl (fun ls hl => ?_)
  refine lv_sipush (v := 600) hx hb dX0_bestShift_12 xi_s600 ?_
  refine xr_na C hS (k := 0) (atype := .int) (ty := .int) rfl rfl (by decide) rfl (fun _ h => h) q121 hf dX0_bestShift_15 (fun x15 h H cells slots kc ks hS hf => ?_)
  refine xr_astore_n C dX0_bestShift_17 rfl hl (Nat.le_of_ble_eq_true rfl) (lv' := [(2, va_rf x15), (1, va_rf x0), (0, va_rf a0)]) rfl (fun ls hl => ?_)
  refine lv_iconst (v := 0) hx hb dX0_bestShift_18 xi_c0 ?_
  refine xr_istore_n C dX0_bestShift_19 rfl hl (Nat.le_of_ble_eq_true rfl) (lv' := [(3, .int (0 : Int32)), (2, va_rf x15), (1, va_rf x0), (0, va_rf a0)]) rfl (fun ls hl => ?_)
  refine xr_aload_n C dX0_bestShift_20 rfl (hl.at 2 rfl) ?_
  refine xr_aload_n C dX0_bestShift_21 rfl (hl.at 3 rfl) ?_
  refine xr_getR C hS xf_X0 0 (by decide) q139 (fun _ h => h) hf dX0_bestShift_22 (fun x22 hf => ?_)
  refine xr_getNR C hS xf_X1 1 (by decide) xn_q126 rfl hf dX0_bestShift_25 (fun x25 hf => ?_)
  refine xr_V (V := fun v => some (va_rf v)) (n := 1) (fr := 6) (lo := 133) (As := [va_rf x25]) C hS xf_X7 (lw_V q628 q629 q630 q74 q631) hdv_X7_run ⟨Nat.le_trans (Nat.le_of_ble_eq_true rfl) hR.1, Nat.le_trans (Nat.le_of_ble_eq_true rfl) hR.2⟩ rfl hl.1.1 rfl xm_r0 hf (fun v h1 k1 n1 e1 => ct_X7_run l D N e1) dX0_bestShift_28 (fun x28 h H locs cells slots kc ks hS hf => ?_)
  refine W.eq (g2 := F0 m 31 ls [va_rf x28]) rfl ?_
  refine xr_V (V := fun v => some (.int v)) (n := 0) (fr := 5) (lo := 110) (As := []) C hS xf_X7 (lw_V q781 q782 q783 q74 q784) hdv_X7_all ⟨Nat.le_trans (Nat.le_of_ble_eq_true rfl) hR.1, Nat.le_trans (Nat.le_of_ble_eq_true rfl) hR.2⟩ rfl hl.1.1 rfl xm_r0 hf (fun v h1 k1 n1 e1 => ct_X7_all l D N e1) dX0_bestShift_31 (fun x31 h H locs cells slots kc ks hS hf => ?_)
  refine W.eq (g2 := F0 m 34 ls [.int x31]) rfl ?_
  refine xr_istore C dX0_bestShift_34 hl (Nat.le_of_ble_eq_true rfl) (lv' := [(4, .int x31), (3, .int (0 : Int32)), (2, va_rf x15), (1, va_rf x0), (0, va_rf a0)]) rfl (fun ls hl => ?_)
  refine lv_iconst (v := 1) hx hb dX0_bestShift_36 xi_c1 ?_
  refine xr_istore C dX0_bestShift_37 hl (Nat.le_of_ble_eq_true rfl) (lv' := [(5, .int (1 : Int32)), (4, .int x31), (3, .int (0 : Int32)), (2, va_rf x15), (1, va_rf x0), (0, va_rf a0)]) rfl (fun ls hl => ?_)
  exact w_X0_bestShift_l39 C hr hR N N a0 x0 x15 (0 : Int32) x31 (1 : Int32)  h H locs cells slots kc ks ls hf hS (hl.sub [5, 4, 3, 2, 1, 0] rfl)
theorem ct_X0_bestShift (l : Launch) (D : xh_D) {rv : Int32} {h hF : xh_H} {kc ks : Nat} (N : Nat) {a0 : Option Nat} (hf : f_X0_bestShift N a0 h = some (rv, hF, kc, ks)) : xh_Ct l D yX0_bestShift (ws_ yX0_bestShift cX0_bestShift 8 (Option.some Jvm.ClassFile.FieldType.int)) 7 155 [va_rf a0] h (some (.int rv)) hF kc ks :=
  xh_meth (cc := cX0_bestShift) l (by decide) (Nat.le_of_ble_eq_true rfl) (List.forall_mem_cons.mpr ⟨va_rf_cat _, fun _ h => absurd h List.not_mem_nil⟩) fun p e s m below meth c ls C hr hnm hl hS => w_X0_bestShift C hr ⟨Nat.le_refl _, Nat.le_refl _⟩ N a0 h _ _ _ _ _ _ _ hf hS hl
/-- SungSlides.ifSet(II)I -/
theorem w_X0_ifSet (C : xh_C cX0_ifSet 6 "SungSlides" D g p s m args meth c) (hr : meth.sig.returnType = (Option.some Jvm.ClassFile.FieldType.int)) (hR : 8 ≤ R.frames ∧ 175 ≤ R.locals) {rv : Int32} {hF : xh_H} (N : Nat) (a0 : Option Nat) (a1 : Int32) (a2 : Int32)  (h : xh_H) (H : Heap) (locs : List Loc) (cells slots kc ks : Nat) (ls : Array Slot) (hf : f_X0_ifSet N a0 a1 a2 h = some (rv, hF, kc, ks)) (hS : xh_T D g s R h H locs cells slots kc ks) (hl : xh_L ls 6 [(0, va_rf a0), (1, .int a1), (2, .int a2)]) : W p l e R s m args below meth c H locs cells slots (MQ below (xh_Q D g (some (.int rv)) hF) args s R.cells R.slots (xh_A g)) (F0 m 0 ls []) := by
  have hx := C.1
  have hb := C.2.1
  unfold f_X0_ifSet at hf
  refine lv_iload_n hx hb dX0_ifSet_0 rfl (hl.at 1 rfl) ?_
  refine xr_S (V := fun v => some (.int v)) (n := 1) (fr := 1) (lo := 22) (As := [.int a1]) C hS (lw_S q570 q571 q55 q572) hd_X0_isSetting ⟨Nat.le_trans (Nat.le_of_ble_eq_true rfl) hR.1, Nat.le_trans (Nat.le_of_ble_eq_true rfl) hR.2⟩ rfl hl.1.1 rfl xm_r0 hf (fun v h1 k1 n1 e1 => ct_X0_isSetting l D N e1) dX0_ifSet_1 (fun x1 h H locs cells slots kc ks hS hf => ?_)
  refine W.eq (g2 := F0 m 4 ls [.int x1]) rfl ?_
  refine lv_if_ne (tgt := 9) hx hb dX0_ifSet_4 (by decide) (fun c4 => ?_) (fun c4 => ?_)
  · replace hf := xb_neg c4 hf
    refine lv_iload_n hx hb dX0_ifSet_9 rfl (hl.at 1 rfl) ?_
    refine lv_iload_n hx hb dX0_ifSet_10 rfl (hl.at 2 rfl) ?_
    refine xr_S (V := fun v => some (.int v)) (n := 2) (fr := 1) (lo := 22) (As := [.int a1, .int a2]) C hS (lw_S q573 q574 q55 q575) hd_X0_isRight ⟨Nat.le_trans (Nat.le_of_ble_eq_true rfl) hR.1, Nat.le_trans (Nat.le_of_ble_eq_true rfl) hR.2⟩ rfl hl.1.1 rfl xm_r0 hf (fun v h1 k1 n1 e1 => ct_X0_isRight l D N e1) dX0_ifSet_11 (fun x11 h H locs cells slots kc ks hS hf => ?_)
    refine W.eq (g2 := F0 m 14 ls [.int x11]) rfl ?_
    refine lv_if_ne (tgt := 20) hx hb dX0_ifSet_14 (by decide) (fun c14 => ?_) (fun c14 => ?_)
    · replace hf := xb_neg c14 hf
      refine xr_aload_n C dX0_ifSet_20 rfl (hl.at 0 rfl) ?_
      refine xr_getR C hS xf_X0 0 (by decide) q139 (fun _ h => h) hf dX0_ifSet_21 (fun x21 hf => ?_)
      refine xr_getNR C hS xf_X1 2 (by decide) xn_q129 rfl hf dX0_ifSet_24 (fun x24 hf => ?_)
      refine lv_iload_n hx hb dX0_ifSet_27 rfl (hl.at 1 rfl) ?_
      refine xr_iald C hS hf dX0_ifSet_28 (fun x28 hf => ?_)
      refine xr_istore_n C dX0_ifSet_29 rfl hl (Nat.le_of_ble_eq_true rfl) (lv' := [(3, .int x28), (0, va_rf a0), (1, .int a1), (2, .int a2)]) rfl (fun ls hl => ?_)
      refine xr_aload_n C dX0_ifSet_30 rfl (hl.at 1 rfl) ?_
      refine xr_getR C hS xf_X0 0 (by decide) q139 (fun _ h => h) hf dX0_ifSet_31 (fun x31 hf => ?_)
      refine xr_getNR C hS xf_X1 2 (by decide) xn_q129 rfl hf dX0_ifSet_34 (fun x34 hf => ?_)
      refine lv_iload_n hx hb dX0_ifSet_37 rfl (hl.at 2 rfl) ?_
      refine lv_iload_n hx hb dX0_ifSet_38 rfl (hl.at 3 rfl) ?_
      refine xr_iast C hS hf dX0_ifSet_39 (fun h H locs hS hf => ?_)
      refine xr_aload_n C dX0_ifSet_40 rfl (hl.at 1 rfl) ?_
      refine xr_V (V := fun v => some (va_rf v)) (n := 0) (fr := 7) (lo := 155) (As := []) C hS xf_X0 (lw_V q591 q593 qs10 q55 q594) hdv_X0_judged ⟨Nat.le_trans (Nat.le_of_ble_eq_true rfl) hR.1, Nat.le_trans (Nat.le_of_ble_eq_true rfl) hR.2⟩ rfl hl.1.1 rfl xm_r0 hf (fun v h1 k1 n1 e1 => ct_X0_judged l D N e1) dX0_ifSet_41 (fun x41 h H locs cells slots kc ks hS hf => ?_)
      refine W.eq (g2 := F0 m 44 ls [va_rf x41]) rfl ?_
      refine xr_V (V := fun v => some (.int v)) (n := 0) (fr := 5) (lo := 110) (As := []) C hS xf_X7 (lw_V q781 q782 q783 q74 q784) hdv_X7_all ⟨Nat.le_trans (Nat.le_of_ble_eq_true rfl) hR.1, Nat.le_trans (Nat.le_of_ble_eq_true rfl) hR.2⟩ rfl hl.1.1 rfl xm_r0 hf (fun v h1 k1 n1 e1 => ct_X7_all l D N e1) dX0_ifSet_44 (fun x44 h H locs cells slots kc ks hS hf => ?_)
      refine W.eq (g2 := F0 m 47 ls [.int x44]) rfl ?_
      refine xr_istore C dX0_ifSet_47 hl (Nat.le_of_ble_eq_true rfl) (lv' := [(4, .int x44), (3, .int x28), (0, va_rf a0), (1, .int a1), (2, .int a2)]) rfl (fun ls hl => ?_)
      refine xr_aload_n C dX0_ifSet_49 rfl (hl.at 2 rfl) ?_
      refine xr_getR C hS xf_X0 0 (by decide) q139 (fun _ h => h) hf dX0_ifSet_50 (fun x50 hf => ?_)
      refine xr_getNR C hS xf_X1 2 (by decide) xn_q129 rfl hf dX0_ifSet_53 (fun x53 hf => ?_)
      refine lv_iload_n hx hb dX0_ifSet_56 rfl (hl.at 3 rfl) ?_
      refine lv_iload_n hx hb dX0_ifSet_57 rfl (hl.at 1 rfl) ?_
      refine xr_iast C hS hf dX0_ifSet_58 (fun h H locs hS hf => ?_)
      refine lv_iload hx hb dX0_ifSet_59 (hl.at 0 rfl) ?_
      exact xr_iret C hS hr hf dX0_ifSet_61
    · replace hf := xb_pos c14 hf
      refine lv_bipush (v := -2) hx hb dX0_ifSet_17 xi_bm2 ?_
      exact xr_iret C hS hr hf dX0_ifSet_19
  · replace hf := xb_pos c4 hf
    refine lv_iconst (v := -1) hx hb dX0_ifSet_7 xi_cm1 ?_
    exact xr_iret C hS hr hf dX0_ifSet_8
theorem ct_X0_ifSet (l : Launch) (D : xh_D) {rv : Int32} {h hF : xh_H} {kc ks : Nat} (N : Nat) {a0 : Option Nat} {a1 : Int32} {a2 : Int32} (hf : f_X0_ifSet N a0 a1 a2 h = some (rv, hF, kc, ks)) : xh_Ct l D yX0_ifSet (ws_ yX0_ifSet cX0_ifSet 6 (Option.some Jvm.ClassFile.FieldType.int)) 8 175 [va_rf a0, .int a1, .int a2] h (some (.int rv)) hF kc ks :=
  xh_meth (cc := cX0_ifSet) l (by decide) (Nat.le_of_ble_eq_true rfl) (List.forall_mem_cons.mpr ⟨va_rf_cat _, List.forall_mem_cons.mpr ⟨rfl, List.forall_mem_cons.mpr ⟨rfl, fun _ h => absurd h List.not_mem_nil⟩⟩⟩) fun p e s m below meth c ls C hr hnm hl hS => w_X0_ifSet C hr ⟨Nat.le_refl _, Nat.le_refl _⟩ N a0 a1 a2 h _ _ _ _ _ _ _ hf hS hl
def K_X0_worst_13 (p : Program) (l : Launch) (e : Env) (s : State) (m : MethodId) (args : Array Value) (below : List Frame) (meth : Method) (c : Code) (D : xh_D) (g : Nat → Nat) (R : Room) (rv : Int32) (hF : xh_H) (k : Option Nat → Option Nat → Int32 → Int32 → Int32 → xh_H → xh_R Int32) : Prop := ∀ (a0 : Option Nat) (a1 : Option Nat) (a2 : Int32) (a3 : Int32) (a4 : Int32) (h : xh_H) (H : Heap) (locs : List Loc) (cells slots kc ks : Nat) (ls : Array Slot), k a0 a1 a2 a3 a4 h = some (rv, hF, kc, ks) → xh_T D g s R h H locs cells slots kc ks → xh_L ls 6 [(0, va_rf a0), (1, va_rf a1), (2, .int a2), (3, .int a3), (4, .int a4)] → W p l e R s m args below meth c H locs cells slots (MQ below (xh_Q D g (some (.int rv)) hF) args s R.cells R.slots (xh_A g)) (F0 m 13 ls [])
theorem w_X0_worst_b57 (C : xh_C cX0_worst 6 "SungSlides" D g p s m args meth c) (hr : meth.sig.returnType = (Option.some Jvm.ClassFile.FieldType.int)) (hR : 8 ≤ R.frames ∧ 175 ≤ R.locals) {rv : Int32} {hF : xh_H} (N : Nat) : ∀ (a2 : Int32) (h : xh_H) (H : Heap) (locs : List Loc) (cells slots kc ks : Nat) (ls : Array Slot), f_X0_worst_b57 N a2 h = some (rv, hF, kc, ks) → xh_T D g s R h H locs cells slots kc ks → xh_L ls 6 [(2, .int a2)] → W p l e R s m args below meth c H locs cells slots (MQ below (xh_Q D g (some (.int rv)) hF) args s R.cells R.slots (xh_A g)) (F0 m 57 ls []) := by
  intro a2 h H locs cells slots kc ks ls hf hS hl
  have hx := C.1
  have hb := C.2.1
  unfold f_X0_worst_b57 at hf
  refine lv_iload_n hx hb dX0_worst_57 rfl (hl.at 0 rfl) ?_
  exact xr_iret C hS hr hf dX0_worst_58
theorem w_X0_worst_b51 (C : xh_C cX0_worst 6 "SungSlides" D g p s m args meth c) (hr : meth.sig.returnType = (Option.some Jvm.ClassFile.FieldType.int)) (hR : 8 ≤ R.frames ∧ 175 ≤ R.locals) {rv : Int32} {hF : xh_H} (N : Nat) {k13 : Option Nat → Option Nat → Int32 → Int32 → Int32 → xh_H → xh_R Int32} (hk13 : K_X0_worst_13 p l e s m args below meth c D g R rv hF k13) : ∀ (a0 : Option Nat) (a1 : Option Nat) (a2 : Int32) (a3 : Int32) (a4 : Int32) (h : xh_H) (H : Heap) (locs : List Loc) (cells slots kc ks : Nat) (ls : Array Slot), f_X0_worst_b51 N k13 a0 a1 a2 a3 a4 h = some (rv, hF, kc, ks) → xh_T D g s R h H locs cells slots kc ks → xh_L ls 6 [(0, va_rf a0), (1, va_rf a1), (2, .int a2), (3, .int a3), (4, .int a4)] → W p l e R s m args below meth c H locs cells slots (MQ below (xh_Q D g (some (.int rv)) hF) args s R.cells R.slots (xh_A g)) (F0 m 51 ls []) := by
  intro a0 a1 a2 a3 a4 h H locs cells slots kc ks ls hf hS hl
  have hx := C.1
  have hb := C.2.1
  unfold f_X0_worst_b51 at hf
  refine xr_iinc C dX0_worst_51 hl (k := 4) rfl (xi_inc xi_c1) (Nat.le_of_ble_eq_true rfl) (lv' := [(4, .int (a4 + (1 : Int32))), (0, va_rf a0), (1, va_rf a1), (2, .int a2), (3, .int a3)]) rfl (fun ls hl => ?_)
  refine lv_goto (tgt := 13) hx hb dX0_worst_54 (by decide) ?_
  exact hk13 a0 a1 a2 a3 (a4 + (1 : Int32))  h H locs cells slots kc ks ls hf hS (hl.sub [1, 2, 3, 4, 0] rfl)
theorem w_X0_worst_b45 (C : xh_C cX0_worst 6 "SungSlides" D g p s m args meth c) (hr : meth.sig.returnType = (Option.some Jvm.ClassFile.FieldType.int)) (hR : 8 ≤ R.frames ∧ 175 ≤ R.locals) {rv : Int32} {hF : xh_H} (N : Nat) {k13 : Option Nat → Option Nat → Int32 → Int32 → Int32 → xh_H → xh_R Int32} (hk13 : K_X0_worst_13 p l e s m args below meth c D g R rv hF k13) : ∀ (a0 : Option Nat) (a1 : Option Nat) (a4 : Int32) (a5 : Int32) (h : xh_H) (H : Heap) (locs : List Loc) (cells slots kc ks : Nat) (ls : Array Slot), f_X0_worst_b45 N k13 a0 a1 a4 a5 h = some (rv, hF, kc, ks) → xh_T D g s R h H locs cells slots kc ks → xh_L ls 6 [(0, va_rf a0), (1, va_rf a1), (4, .int a4), (5, .int a5)] → W p l e R s m args below meth c H locs cells slots (MQ below (xh_Q D g (some (.int rv)) hF) args s R.cells R.slots (xh_A g)) (F0 m 45 ls []) := by
  intro a0 a1 a4 a5 h H locs cells slots kc ks ls hf hS hl
  have hx := C.1
  have hb := C.2.1
  unfold f_X0_worst_b45 at hf
  refine lv_iload hx hb dX0_worst_45 (hl.at 2 rfl) ?_
  refine xr_istore_n C dX0_worst_47 rfl hl (Nat.le_of_ble_eq_true rfl) (lv' := [(2, .int a4), (0, va_rf a0), (1, va_rf a1), (4, .int a4), (5, .int a5)]) rfl (fun ls hl => ?_)
  refine lv_iload hx hb dX0_worst_48 (hl.at 4 rfl) ?_
  refine xr_istore_n C dX0_worst_50 rfl hl (Nat.le_of_ble_eq_true rfl) (lv' := [(3, .int a5), (2, .int a4), (0, va_rf a0), (1, va_rf a1), (4, .int a4), (5, .int a5)]) rfl (fun ls hl => ?_)
  exact w_X0_worst_b51 C hr hR N hk13 a0 a1 a4 a5 a4  h H locs cells slots kc ks ls hf hS (hl.sub [2, 3, 1, 0, 4] rfl)
theorem w_X0_worst_b13 (C : xh_C cX0_worst 6 "SungSlides" D g p s m args meth c) (hr : meth.sig.returnType = (Option.some Jvm.ClassFile.FieldType.int)) (hR : 8 ≤ R.frames ∧ 175 ≤ R.locals) {rv : Int32} {hF : xh_H} (N : Nat) {k13 : Option Nat → Option Nat → Int32 → Int32 → Int32 → xh_H → xh_R Int32} (hk13 : K_X0_worst_13 p l e s m args below meth c D g R rv hF k13) : ∀ (a0 : Option Nat) (a1 : Option Nat) (a2 : Int32) (a3 : Int32) (a4 : Int32) (h : xh_H) (H : Heap) (locs : List Loc) (cells slots kc ks : Nat) (ls : Array Slot), f_X0_worst_b13 N k13 a0 a1 a2 a3 a4 h = some (rv, hF, kc, ks) → xh_T D g s R h H locs cells slots kc ks → xh_L ls 6 [(0, va_rf a0), (1, va_rf a1), (2, .int a2), (3, .int a3), (4, .int a4)] → W p l e R s m args below meth c H locs cells slots (MQ below (xh_Q D g (some (.int rv)) hF) args s R.cells R.slots (xh_A g)) (F0 m 13 ls []) := by
  intro a0 a1 a2 a3 a4 h H locs cells slots kc ks ls hf hS hl
  have hx := C.1
  have hb := C.2.1
  unfold f_X0_worst_b13 at hf
  refine lv_iload hx hb dX0_worst_13 (hl.at 4 rfl) ?_
  refine xr_aload_n C dX0_worst_15 rfl (hl.at 0 rfl) ?_
  refine xr_getR C hS xf_X0 0 (by decide) q139 (fun _ h => h) hf dX0_worst_16 (fun x16 hf => ?_)
  refine xr_V (V := fun v => some (.int v)) (n := 0) (fr := 3) (lo := 64) (As := []) C hS xf_X1 (lw_V q746 q438 q439 q56 q440) hdv_X1_phrases ⟨Nat.le_trans (Nat.le_of_ble_eq_true rfl) hR.1, Nat.le_trans (Nat.le_of_ble_eq_true rfl) hR.2⟩ rfl hl.1.1 rfl (xm_rc rfl xm_r0) hf (fun v h1 k1 n1 e1 => ct_X1_phrases l D N e1) dX0_worst_19 (fun x19 h H locs cells slots kc ks hS hf => ?_)
  refine W.eq (g2 := F0 m 22 ls [.int x19, .int a4]) rfl ?_
  refine lv_icmp_ge (tgt := 57) hx hb dX0_worst_22 (by decide) (fun c22 => ?_) (fun c22 => ?_)
  · replace hf := xb_pos c22 hf
    exact w_X0_worst_b57 C hr hR N a2  h H locs cells slots kc ks ls hf hS (hl.sub [2] rfl)
  · replace hf := xb_neg c22 hf
    refine xr_aload_n C dX0_worst_25 rfl (hl.at 1 rfl) ?_
    refine lv_iload hx hb dX0_worst_26 (hl.at 4 rfl) ?_
    refine xr_V (V := fun v => some (.int v)) (n := 1) (fr := 4) (lo := 87) (As := [.int a4]) C hS xf_X7 (lw_V q761 q762 q763 q74 q764) hdv_X7_pointsOf ⟨Nat.le_trans (Nat.le_of_ble_eq_true rfl) hR.1, Nat.le_trans (Nat.le_of_ble_eq_true rfl) hR.2⟩ rfl hl.1.1 rfl xm_r0 hf (fun v h1 k1 n1 e1 => ct_X7_pointsOf l D N e1) dX0_worst_28 (fun x28 h H locs cells slots kc ks hS hf => ?_)
    refine W.eq (g2 := F0 m 31 ls [.int x28]) rfl ?_
    refine xr_istore C dX0_worst_31 hl (Nat.le_of_ble_eq_true rfl) (lv' := [(5, .int x28), (0, va_rf a0), (1, va_rf a1), (2, .int a2), (3, .int a3), (4, .int a4)]) rfl (fun ls hl => ?_)
    refine lv_iload_n hx hb dX0_worst_33 rfl (hl.at 3 rfl) ?_
    refine lv_bipush (v := -5) hx hb dX0_worst_34 xi_bm5 ?_
    refine lv_icmp_eq (tgt := 45) hx hb dX0_worst_36 (by decide) (fun c36 => ?_) (fun c36 => ?_)
    · replace hf := xb_pos c36 hf
      exact w_X0_worst_b45 C hr hR N hk13 a0 a1 a4 x28  h H locs cells slots kc ks ls hf hS (hl.sub [1, 2, 5, 0] rfl)
    · replace hf := xb_neg c36 hf
      refine lv_iload hx hb dX0_worst_39 (hl.at 0 rfl) ?_
      refine lv_iload_n hx hb dX0_worst_41 rfl (hl.at 4 rfl) ?_
      refine lv_icmp_ge (tgt := 51) hx hb dX0_worst_42 (by decide) (fun c42 => ?_) (fun c42 => ?_)
      · replace hf := xb_pos c42 hf
        exact w_X0_worst_b51 C hr hR N hk13 a0 a1 a2 a3 a4  h H locs cells slots kc ks ls hf hS (hl.sub [1, 2, 3, 4, 5] rfl)
      · replace hf := xb_neg c42 hf
        exact w_X0_worst_b45 C hr hR N hk13 a0 a1 a4 x28  h H locs cells slots kc ks ls hf hS (hl.sub [1, 2, 5, 0] rfl)
theorem w_X0_worst_l13 (C : xh_C cX0_worst 6 "SungSlides" D g p s m args meth c) (hr : meth.sig.returnType = (Option.some Jvm.ClassFile.FieldType.int)) (hR : 8 ≤ R.frames ∧ 175 ≤ R.locals) {rv : Int32} {hF : xh_H} (N : Nat) : ∀ n : Nat, K_X0_worst_13 p l e s m args below meth c D g R rv hF (f_X0_worst_l13 N n) := by
  intro n
  induction n with
  | zero => exact fun a0 a1 a2 a3 a4 h H locs cells slots kc ks ls hf => absurd (show (none : xh_R Int32) = some _ from hf) (by intro q; cases q)
  | succ n ih => exact fun a0 a1 a2 a3 a4 h H locs cells slots kc ks ls hf => w_X0_worst_b13 C hr hR N ih a0 a1 a2 a3 a4 h H locs cells slots kc ks ls hf
/-- SungSlides.worst()I -/
theorem w_X0_worst (C : xh_C cX0_worst 6 "SungSlides" D g p s m args meth c) (hr : meth.sig.returnType = (Option.some Jvm.ClassFile.FieldType.int)) (hR : 8 ≤ R.frames ∧ 175 ≤ R.locals) {rv : Int32} {hF : xh_H} (N : Nat) (a0 : Option Nat)  (h : xh_H) (H : Heap) (locs : List Loc) (cells slots kc ks : Nat) (ls : Array Slot) (hf : f_X0_worst N a0 h = some (rv, hF, kc, ks)) (hS : xh_T D g s R h H locs cells slots kc ks) (hl : xh_L ls 6 [(0, va_rf a0)]) : W p l e R s m args below meth c H locs cells slots (MQ below (xh_Q D g (some (.int rv)) hF) args s R.cells R.slots (xh_A g)) (F0 m 0 ls []) := by
  have hx := C.1
  have hb := C.2.1
  unfold f_X0_worst at hf
  refine xr_aload_n C dX0_worst_0 rfl (hl.at 0 rfl) ?_
  refine xr_V (V := fun v => some (va_rf v)) (n := 0) (fr := 7) (lo := 155) (As := []) C hS xf_X0 (lw_V q591 q593 qs10 q55 q594) hdv_X0_judged ⟨Nat.le_trans (Nat.le_of_ble_eq_true rfl) hR.1, Nat.le_trans (Nat.le_of_ble_eq_true rfl) hR.2⟩ rfl hl.1.1 rfl xm_r0 hf (fun v h1 k1 n1 e1 => ct_X0_judged l D N e1) dX0_worst_1 (fun x1 h H locs cells slots kc ks hS hf => ?_)
  refine W.eq (g2 := F0 m 4 ls [va_rf x1]) rfl ?_
  refine xr_astore_n C dX0_worst_4 rfl hl (Nat.le_of_ble_eq_true rfl) (lv' := [(1, va_rf x1), (0, va_rf a0)]) rfl (fun ls hl => ?_)
  refine lv_bipush (v := -5) hx hb dX0_worst_5 xi_bm5 ?_
  refine xr_istore_n C dX0_worst_7 rfl hl (Nat.le_of_ble_eq_true rfl) (lv' := [(2, .int (-5 : Int32)), (1, va_rf x1), (0, va_rf a0)]) rfl (fun ls hl => ?_)
  refine lv_iconst (v := 0) hx hb dX0_worst_8 xi_c0 ?_
  refine xr_istore_n C dX0_worst_9 rfl hl (Nat.le_of_ble_eq_true rfl) (lv' := [(3, .int (0 : Int32)), (2, .int (-5 : Int32)), (1, va_rf x1), (0, va_rf a0)]) rfl (fun ls hl => ?_)
  refine lv_iconst (v := 0) hx hb dX0_worst_10 xi_c0 ?_
  refine xr_istore C dX0_worst_11 hl (Nat.le_of_ble_eq_true rfl) (lv' := [(4, .int (0 : Int32)), (3, .int (0 : Int32)), (2, .int (-5 : Int32)), (1, va_rf x1), (0, va_rf a0)]) rfl (fun ls hl => ?_)
  exact w_X0_worst_l13 C hr hR N N a0 x1 (-5 : Int32) (0 : Int32) (0 : Int32)  h H locs cells slots kc ks ls hf hS (hl.sub [4, 3, 2, 1, 0] rfl)
theorem ct_X0_worst (l : Launch) (D : xh_D) {rv : Int32} {h hF : xh_H} {kc ks : Nat} (N : Nat) {a0 : Option Nat} (hf : f_X0_worst N a0 h = some (rv, hF, kc, ks)) : xh_Ct l D yX0_worst (ws_ yX0_worst cX0_worst 6 (Option.some Jvm.ClassFile.FieldType.int)) 8 175 [va_rf a0] h (some (.int rv)) hF kc ks :=
  xh_meth (cc := cX0_worst) l (by decide) (Nat.le_of_ble_eq_true rfl) (List.forall_mem_cons.mpr ⟨va_rf_cat _, fun _ h => absurd h List.not_mem_nil⟩) fun p e s m below meth c ls C hr hnm hl hS => w_X0_worst C hr ⟨Nat.le_refl _, Nat.le_refl _⟩ N a0 h _ _ _ _ _ _ _ hf hS hl
/-- SungSlidesModel.<init>()V -/
theorem w_X2_init (C : xh_C cX2_init 1 "SungSlidesModel" D g p s m args meth c) (hr : meth.sig.returnType = (Option.none : Option Jvm.ClassFile.FieldType)) (hnm : meth.name = "<init>") (hR : 1 ≤ R.frames ∧ 20 ≤ R.locals) {rv : Unit} {hF : xh_H} (N : Nat) (a0 : Option Nat)  (h : xh_H) (H : Heap) (locs : List Loc) (cells slots kc ks : Nat) (ls : Array Slot) (hf : f_X2_init N a0 h = some (rv, hF, kc, ks)) (hS : xh_T D g s R h H locs cells slots kc ks) (hl : xh_L ls 1 [(0, va_rf a0)]) : W p l e R s m args below meth c H locs cells slots (MQ below (xh_Q D g none hF) args s R.cells R.slots (xh_A g)) (F0 m 0 ls []) := by
  have hx := C.1
  have hb := C.2.1
  unfold f_X2_init at hf
  refine xr_aload_n C dX2_init_0 rfl (hl.at 0 rfl) ?_
  refine xr_oi C hS q816 q81 q82 hl.1.1 ⟨Nat.le_trans (Nat.le_of_ble_eq_true rfl) hR.1, Nat.le_trans (Nat.le_of_ble_eq_true rfl) hR.2⟩ xm_r0 hf dX2_init_1 (fun hf => ?_)
  refine xr_aload_n C dX2_init_4 rfl (hl.at 0 rfl) ?_
  refine lv_sipush (v := 806) hx hb dX2_init_5 xi_s806 ?_
  refine xr_na C hS (k := 0) (atype := .int) (ty := .int) rfl rfl (by decide) rfl (fun _ h => h) q121 hf dX2_init_8 (fun x8 h H cells slots kc ks hS hf => ?_)
  refine xr_putF C hS hnm xf_X2 0 (by decide) q817 rfl rfl rfl xv_arr hf dX2_init_10 (fun h H locs hS hf => ?_)
  refine xr_aload_n C dX2_init_13 rfl (hl.at 0 rfl) ?_
  refine lv_sipush (v := 3224) hx hb dX2_init_14 xi_s3224 ?_
  refine xr_na C hS (k := 0) (atype := .int) (ty := .int) rfl rfl (by decide) rfl (fun _ h => h) q121 hf dX2_init_17 (fun x17 h H cells slots kc ks hS hf => ?_)
  refine xr_putF C hS hnm xf_X2 1 (by decide) q818 rfl rfl rfl xv_arr hf dX2_init_19 (fun h H locs hS hf => ?_)
  refine xr_aload_n C dX2_init_22 rfl (hl.at 0 rfl) ?_
  refine lv_sipush (v := 806) hx hb dX2_init_23 xi_s806 ?_
  refine xr_na C hS (k := 0) (atype := .int) (ty := .int) rfl rfl (by decide) rfl (fun _ h => h) q121 hf dX2_init_26 (fun x26 h H cells slots kc ks hS hf => ?_)
  refine xr_putF C hS hnm xf_X2 3 (by decide) q820 rfl rfl rfl xv_arr hf dX2_init_28 (fun h H locs hS hf => ?_)
  refine xr_aload_n C dX2_init_31 rfl (hl.at 0 rfl) ?_
  refine lv_bipush (v := 60) hx hb dX2_init_32 xi_b60 ?_
  refine xr_na C hS (k := 1) (atype := .char) (ty := .char) rfl rfl (by decide) rfl (fun _ h => h) q157 hf dX2_init_34 (fun x34 h H cells slots kc ks hS hf => ?_)
  refine xr_putF C hS hnm xf_X2 5 (by decide) q822 rfl rfl rfl xv_arr hf dX2_init_36 (fun h H locs hS hf => ?_)
  refine xr_aload_n C dX2_init_39 rfl (hl.at 0 rfl) ?_
  refine lv_sipush (v := 600) hx hb dX2_init_40 xi_s600 ?_
  refine xr_na C hS (k := 0) (atype := .int) (ty := .int) rfl rfl (by decide) rfl (fun _ h => h) q121 hf dX2_init_43 (fun x43 h H cells slots kc ks hS hf => ?_)
  refine xr_putF C hS hnm xf_X2 7 (by decide) q824 rfl rfl rfl xv_arr hf dX2_init_45 (fun h H locs hS hf => ?_)
  refine xr_aload_n C dX2_init_48 rfl (hl.at 0 rfl) ?_
  refine lv_bipush (v := 40) hx hb dX2_init_49 xi_b40 ?_
  refine xr_na C hS (k := 0) (atype := .int) (ty := .int) rfl rfl (by decide) rfl (fun _ h => h) q121 hf dX2_init_51 (fun x51 h H cells slots kc ks hS hf => ?_)
  refine xr_putF C hS hnm xf_X2 8 (by decide) q825 rfl rfl rfl xv_arr hf dX2_init_53 (fun h H locs hS hf => ?_)
  refine xr_aload_n C dX2_init_56 rfl (hl.at 0 rfl) ?_
  refine lv_bipush (v := 40) hx hb dX2_init_57 xi_b40 ?_
  refine xr_na C hS (k := 0) (atype := .int) (ty := .int) rfl rfl (by decide) rfl (fun _ h => h) q121 hf dX2_init_59 (fun x59 h H cells slots kc ks hS hf => ?_)
  refine xr_putF C hS hnm xf_X2 9 (by decide) q826 rfl rfl rfl xv_arr hf dX2_init_61 (fun h H locs hS hf => ?_)
  refine xr_aload_n C dX2_init_64 rfl (hl.at 0 rfl) ?_
  refine lv_bipush (v := 40) hx hb dX2_init_65 xi_b40 ?_
  refine xr_na C hS (k := 0) (atype := .int) (ty := .int) rfl rfl (by decide) rfl (fun _ h => h) q121 hf dX2_init_67 (fun x67 h H cells slots kc ks hS hf => ?_)
  refine xr_putF C hS hnm xf_X2 10 (by decide) q827 rfl rfl rfl xv_arr hf dX2_init_69 (fun h H locs hS hf => ?_)
  refine xr_aload_n C dX2_init_72 rfl (hl.at 0 rfl) ?_
  refine lv_bipush (v := 40) hx hb dX2_init_73 xi_b40 ?_
  refine xr_na C hS (k := 0) (atype := .int) (ty := .int) rfl rfl (by decide) rfl (fun _ h => h) q121 hf dX2_init_75 (fun x75 h H cells slots kc ks hS hf => ?_)
  refine xr_putF C hS hnm xf_X2 11 (by decide) q828 rfl rfl rfl xv_arr hf dX2_init_77 (fun h H locs hS hf => ?_)
  refine xr_aload_n C dX2_init_80 rfl (hl.at 0 rfl) ?_
  refine lv_bipush (v := 40) hx hb dX2_init_81 xi_b40 ?_
  refine xr_na C hS (k := 0) (atype := .int) (ty := .int) rfl rfl (by decide) rfl (fun _ h => h) q121 hf dX2_init_83 (fun x83 h H cells slots kc ks hS hf => ?_)
  refine xr_putF C hS hnm xf_X2 12 (by decide) q829 rfl rfl rfl xv_arr hf dX2_init_85 (fun h H locs hS hf => ?_)
  refine xr_aload_n C dX2_init_88 rfl (hl.at 0 rfl) ?_
  refine lv_iconst (v := 4) hx hb dX2_init_89 xi_c4 ?_
  refine xr_na C hS (k := 0) (atype := .int) (ty := .int) rfl rfl (by decide) rfl (fun _ h => h) q121 hf dX2_init_90 (fun x90 h H cells slots kc ks hS hf => ?_)
  refine xr_putF C hS hnm xf_X2 14 (by decide) q831 rfl rfl rfl xv_arr hf dX2_init_92 (fun h H locs hS hf => ?_)
  refine xr_aload_n C dX2_init_95 rfl (hl.at 0 rfl) ?_
  refine xr_getR C hS xf_X2 0 (by decide) q817 (fun _ h => h) hf dX2_init_96 (fun x96 hf => ?_)
  refine lv_iconst (v := 0) hx hb dX2_init_99 xi_c0 ?_
  refine lv_bipush (v := 16) hx hb dX2_init_100 xi_b16 ?_
  refine xr_iast C hS hf dX2_init_102 (fun h H locs hS hf => ?_)
  refine xr_aload_n C dX2_init_103 rfl (hl.at 0 rfl) ?_
  refine xr_getR C hS xf_X2 0 (by decide) q817 (fun _ h => h) hf dX2_init_104 (fun x104 hf => ?_)
  refine lv_iconst (v := 1) hx hb dX2_init_107 xi_c1 ?_
  refine lv_iconst (v := 1) hx hb dX2_init_108 xi_c1 ?_
  refine xr_iast C hS hf dX2_init_109 (fun h H locs hS hf => ?_)
  refine xr_aload_n C dX2_init_110 rfl (hl.at 0 rfl) ?_
  refine xr_getR C hS xf_X2 0 (by decide) q817 (fun _ h => h) hf dX2_init_111 (fun x111 hf => ?_)
  refine lv_iconst (v := 2) hx hb dX2_init_114 xi_c2 ?_
  refine lv_iconst (v := 2) hx hb dX2_init_115 xi_c2 ?_
  refine xr_iast C hS hf dX2_init_116 (fun h H locs hS hf => ?_)
  refine xr_aload_n C dX2_init_117 rfl (hl.at 0 rfl) ?_
  refine xr_getR C hS xf_X2 0 (by decide) q817 (fun _ h => h) hf dX2_init_118 (fun x118 hf => ?_)
  refine lv_iconst (v := 4) hx hb dX2_init_121 xi_c4 ?_
  refine lv_bipush (v := 50) hx hb dX2_init_122 xi_b50 ?_
  refine xr_iast C hS hf dX2_init_124 (fun h H locs hS hf => ?_)
  exact xr_vret C hS hr hf dX2_init_125
theorem ct_X2_init (l : Launch) (D : xh_D) {rv : Unit} {h hF : xh_H} {kc ks : Nat} (N : Nat) {a0 : Option Nat} (hf : f_X2_init N a0 h = some (rv, hF, kc, ks)) : xh_Ct l D yX2_init (ws_ yX2_init cX2_init 1 (Option.none : Option Jvm.ClassFile.FieldType)) 1 20 [va_rf a0] h none hF kc ks :=
  xh_meth (cc := cX2_init) l (by decide) (Nat.le_of_ble_eq_true rfl) (List.forall_mem_cons.mpr ⟨va_rf_cat _, fun _ h => absurd h List.not_mem_nil⟩) fun p e s m below meth c ls C hr hnm hl hS => w_X2_init C hr hnm ⟨Nat.le_refl _, Nat.le_refl _⟩ N a0 h _ _ _ _ _ _ _ hf hS hl
end WALK
