/-! WALKS, printed by gen/walk.py -/
set_option maxRecDepth 100000
section WALK
variable {p : Program} {l : Launch} {e : Env} {s : State} {m : MethodId} {args : Array Value} {below : List Frame} {meth : Method} {c : Code} {D : xh_D} {g : Nat → Nat} {R : Room}
def K_X0_read_61 (p : Program) (l : Launch) (e : Env) (s : State) (m : MethodId) (args : Array Value) (below : List Frame) (meth : Method) (c : Code) (D : xh_D) (g : Nat → Nat) (R : Room) (rv : Int32) (hF : xh_H) (k : Option Nat → Option Nat → Option Nat → xh_H → xh_R Int32) : Prop := ∀ (a0 : Option Nat) (a3 : Option Nat) (a4 : Option Nat) (h : xh_H) (H : Heap) (locs : List Loc) (cells slots kc ks : Nat) (ls : Array Slot), k a0 a3 a4 h = some (rv, hF, kc, ks) → xh_T D g s R h H locs cells slots kc ks → xh_L ls 6 [(0, va_rf a0), (3, va_rf a3), (4, va_rf a4)] → W p l e R s m args below meth c H locs cells slots (MQ below (xh_Q D g (some (.int rv)) hF) args s R.cells R.slots (xh_A g)) (F0 m 61 ls [])
theorem w_X0_read_b95 (C : xh_C cX0_read 6 "SungSlides" D g p s m args meth c) (hr : meth.sig.returnType = (Option.some Jvm.ClassFile.FieldType.int)) (hR : 9 ≤ R.frames ∧ 238 ≤ R.locals) {rv : Int32} {hF : xh_H} (N : Nat) : ∀ (a0 : Option Nat) (a3 : Option Nat) (h : xh_H) (H : Heap) (locs : List Loc) (cells slots kc ks : Nat) (ls : Array Slot), f_X0_read_b95 N a0 a3 h = some (rv, hF, kc, ks) → xh_T D g s R h H locs cells slots kc ks → xh_L ls 6 [(0, va_rf a0), (3, va_rf a3)] → W p l e R s m args below meth c H locs cells slots (MQ below (xh_Q D g (some (.int rv)) hF) args s R.cells R.slots (xh_A g)) (F0 m 95 ls []) := by
  intro a0 a3 h H locs cells slots kc ks ls hf hS hl
  have hx := C.1
  have hb := C.2.1
  unfold f_X0_read_b95 at hf
  refine xr_aload_n C dX0_read_95 rfl (hl.at 0 rfl) ?_
  refine xr_aload_n C dX0_read_96 rfl (hl.at 1 rfl) ?_
  refine xr_aload_n C dX0_read_97 rfl (hl.at 0 rfl) ?_
  refine xr_getR C hS xf_X0 0 (by decide) q139 (fun _ h => h) hf dX0_read_98 (fun x98 hf => ?_)
  refine xr_V (V := fun v => some (.int v)) (n := 0) (fr := 1) (lo := 20) (As := []) C hS xf_X1 (lw_V q472 q346 q347 q56 q348) hdv_X1_many ⟨Nat.le_trans (Nat.le_of_ble_eq_true rfl) hR.1, Nat.le_trans (Nat.le_of_ble_eq_true rfl) hR.2⟩ rfl hl.1.1 rfl (xm_rc (va_rf_cat _) (xm_rc (va_rf_cat _) xm_r0)) hf (fun v h1 k1 n1 e1 => ct_X1_many l D N e1) dX0_read_101 (fun x101 h H locs cells slots kc ks hS hf => ?_)
  refine W.eq (g2 := F0 m 104 ls [.int x101, va_rf a3, va_rf a0]) rfl ?_
  refine xr_V (V := fun v => some (.int v)) (n := 2) (fr := 7) (lo := 191) (As := [va_rf a3, .int x101]) C hS xf_X0 (lw_V q476 q478 qs4 q55 q479) hdv_X0_changed ⟨Nat.le_trans (Nat.le_of_ble_eq_true rfl) hR.1, Nat.le_trans (Nat.le_of_ble_eq_true rfl) hR.2⟩ rfl hl.1.1 rfl xm_r0 hf (fun v h1 k1 n1 e1 => ct_X0_changed l D N e1) dX0_read_104 (fun x104 h H locs cells slots kc ks hS hf => ?_)
  refine W.eq (g2 := F0 m 107 ls [.int x104]) rfl ?_
  exact xr_iret C hS hr hf dX0_read_107
theorem w_X0_read_b61 (C : xh_C cX0_read 6 "SungSlides" D g p s m args meth c) (hr : meth.sig.returnType = (Option.some Jvm.ClassFile.FieldType.int)) (hR : 9 ≤ R.frames ∧ 238 ≤ R.locals) {rv : Int32} {hF : xh_H} (N : Nat) {k61 : Option Nat → Option Nat → Option Nat → xh_H → xh_R Int32} (hk61 : K_X0_read_61 p l e s m args below meth c D g R rv hF k61) : ∀ (a0 : Option Nat) (a3 : Option Nat) (a4 : Option Nat) (h : xh_H) (H : Heap) (locs : List Loc) (cells slots kc ks : Nat) (ls : Array Slot), f_X0_read_b61 N k61 a0 a3 a4 h = some (rv, hF, kc, ks) → xh_T D g s R h H locs cells slots kc ks → xh_L ls 6 [(0, va_rf a0), (3, va_rf a3), (4, va_rf a4)] → W p l e R s m args below meth c H locs cells slots (MQ below (xh_Q D g (some (.int rv)) hF) args s R.cells R.slots (xh_A g)) (F0 m 61 ls []) := by
  intro a0 a3 a4 h H locs cells slots kc ks ls hf hS hl
  have hx := C.1
  have hb := C.2.1
  unfold f_X0_read_b61 at hf
  refine xr_aload C dX0_read_61 (hl.at 2 rfl) ?_
  refine xr_F (V := fun v => some (.int v)) (n := 0) (fr := 0) (lo := 0) (As := []) C hS xf_J3 q563 q247 q249 q62 q251 xn_i0 hdi_J3_hasNext ⟨Nat.le_trans (Nat.le_of_ble_eq_true rfl) hR.1, Nat.le_trans (Nat.le_of_ble_eq_true rfl) hR.2⟩ rfl hl.1.1 rfl xm_r0 hf (fun v h1 k1 n1 e1 => ct_J3_hasNext l D N e1) dX0_read_63 (fun x63 h H locs cells slots kc ks hS hf => ?_)
  refine W.eq (g2 := F0 m 68 ls [.int x63]) rfl ?_
  refine lv_if_eq (tgt := 95) hx hb dX0_read_68 (by decide) (fun c68 => ?_) (fun c68 => ?_)
  · replace hf := xb_pos c68 hf
    exact w_X0_read_b95 C hr hR N a0 a3  h H locs cells slots kc ks ls hf hS (hl.sub [0, 1] rfl)
  · replace hf := xb_neg c68 hf
    refine xr_aload C dX0_read_71 (hl.at 2 rfl) ?_
    refine xr_F (V := fun v => some (va_rf v)) (n := 0) (fr := 1) (lo := 20) (As := []) C hS xf_J3 q565 q256 q258 q62 q260 xn_i1 hdi_J3_next ⟨Nat.le_trans (Nat.le_of_ble_eq_true rfl) hR.1, Nat.le_trans (Nat.le_of_ble_eq_true rfl) hR.2⟩ rfl hl.1.1 rfl xm_r0 hf (fun v h1 k1 n1 e1 => ct_J3_next l D N e1) dX0_read_73 (fun x73 h H locs cells slots kc ks hS hf => ?_)
    refine W.eq (g2 := F0 m 78 ls [va_rf x73]) rfl ?_
    refine xr_ccS C hS xf_X3 q163 hf dX0_read_78 (fun hf => ?_)
    refine xr_astore C dX0_read_81 hl (Nat.le_of_ble_eq_true rfl) (lv' := [(5, va_rf x73), (0, va_rf a0), (3, va_rf a3), (4, va_rf a4)]) rfl (fun ls hl => ?_)
    refine xr_aload_n C dX0_read_83 rfl (hl.at 1 rfl) ?_
    refine xr_getR C hS xf_X0 0 (by decide) q139 (fun _ h => h) hf dX0_read_84 (fun x84 hf => ?_)
    refine xr_aload C dX0_read_87 (hl.at 0 rfl) ?_
    refine xr_V (V := fun _ => none) (n := 1) (fr := 7) (lo := 191) (As := [va_rf x73]) C hS xf_X1 (lw_V q328 q329 q330 q56 q331) hdv_X1_add ⟨Nat.le_trans (Nat.le_of_ble_eq_true rfl) hR.1, Nat.le_trans (Nat.le_of_ble_eq_true rfl) hR.2⟩ rfl hl.1.1 rfl xm_r0 hf (fun v h1 k1 n1 e1 => ct_X1_add l D N e1) dX0_read_89 (fun _ h H locs cells slots kc ks hS hf => ?_)
    refine W.eq (g2 := F0 m 92 ls []) rfl ?_
    refine lv_goto (tgt := 61) hx hb dX0_read_92 (by decide) ?_
    exact hk61 a0 a3 a4  h H locs cells slots kc ks ls hf hS (hl.sub [1, 2, 3] rfl)
theorem w_X0_read_l61 (C : xh_C cX0_read 6 "SungSlides" D g p s m args meth c) (hr : meth.sig.returnType = (Option.some Jvm.ClassFile.FieldType.int)) (hR : 9 ≤ R.frames ∧ 238 ≤ R.locals) {rv : Int32} {hF : xh_H} (N : Nat) : ∀ n : Nat, K_X0_read_61 p l e s m args below meth c D g R rv hF (f_X0_read_l61 N n) := by
  intro n
  induction n with
  | zero => exact fun a0 a3 a4 h H locs cells slots kc ks ls hf => absurd (show (none : xh_R Int32) = some _ from hf) (by intro q; cases q)
  | succ n ih => exact fun a0 a3 a4 h H locs cells slots kc ks ls hf => w_X0_read_b61 C hr hR N ih a0 a3 a4 h H locs cells slots kc ks ls hf
/-- SungSlides.read()I -/
theorem w_X0_read (C : xh_C cX0_read 6 "SungSlides" D g p s m args meth c) (hr : meth.sig.returnType = (Option.some Jvm.ClassFile.FieldType.int)) (hR : 9 ≤ R.frames ∧ 238 ≤ R.locals) {rv : Int32} {hF : xh_H} (N : Nat) (a0 : Option Nat)  (h : xh_H) (H : Heap) (locs : List Loc) (cells slots kc ks : Nat) (ls : Array Slot) (hf : f_X0_read N a0 h = some (rv, hF, kc, ks)) (hS : xh_T D g s R h H locs cells slots kc ks) (hl : xh_L ls 6 [(0, va_rf a0)]) : W p l e R s m args below meth c H locs cells slots (MQ below (xh_Q D g (some (.int rv)) hF) args s R.cells R.slots (xh_A g)) (F0 m 0 ls []) := by
  have hx := C.1
  have hb := C.2.1
  unfold f_X0_read at hf
  refine xr_new C hS xf_X6 q508 q509 q73 (fs := [.null, .int 0, .null]) rfl xd_X6 hf dX0_read_0 (fun x0 h H cells slots kc ks hS hf => ?_)
  refine lv_dup hx hb dX0_read_3 (va_rf_cat _) ?_
  refine xr_aload_n C dX0_read_4 rfl (hl.at 0 rfl) ?_
  refine xr_IN (n := 1) (fr := 4) (lo := 80) (As := [va_rf a0]) C hS xn_q510 q511 q73 q512 rfl hd_X6_init ⟨Nat.le_trans (Nat.le_of_ble_eq_true rfl) hR.1, Nat.le_trans (Nat.le_of_ble_eq_true rfl) hR.2⟩ rfl hl.1.1 rfl (xm_rc (va_rf_cat _) xm_r0) (ci := 6) hf (fun v h1 k1 n1 e1 => ct_X6_init l D N e1) dX0_read_5 (fun _ h H locs cells slots kc ks hS hf => ?_)
  refine W.eq (g2 := F0 m 8 ls [va_rf x0]) rfl ?_
  refine xr_astore_n C dX0_read_8 rfl hl (Nat.le_of_ble_eq_true rfl) (lv' := [(1, va_rf x0), (0, va_rf a0)]) rfl (fun ls hl => ?_)
  refine xr_aload_n C dX0_read_9 rfl (hl.at 0 rfl) ?_
  refine xr_V (V := fun v => some (.int v)) (n := 0) (fr := 8) (lo := 216) (As := []) C hS xf_X6 (lw_V q527 q528 q529 q73 q530) hdv_X6_read ⟨Nat.le_trans (Nat.le_of_ble_eq_true rfl) hR.1, Nat.le_trans (Nat.le_of_ble_eq_true rfl) hR.2⟩ rfl hl.1.1 rfl xm_r0 hf (fun v h1 k1 n1 e1 => ct_X6_read l D N e1) dX0_read_10 (fun x10 h H locs cells slots kc ks hS hf => ?_)
  refine W.eq (g2 := F0 m 13 ls [.int x10]) rfl ?_
  refine xr_istore_n C dX0_read_13 rfl hl (Nat.le_of_ble_eq_true rfl) (lv' := [(2, .int x10), (1, va_rf x0), (0, va_rf a0)]) rfl (fun ls hl => ?_)
  refine lv_iload_n hx hb dX0_read_14 rfl (hl.at 0 rfl) ?_
  refine lv_bipush (v := -5) hx hb dX0_read_15 xi_bm5 ?_
  refine lv_icmp_eq (tgt := 25) hx hb dX0_read_17 (by decide) (fun c17 => ?_) (fun c17 => ?_)
  · replace hf := xb_pos c17 hf
    refine xr_aload_n C dX0_read_25 rfl (hl.at 2 rfl) ?_
    refine xr_getR C hS xf_X0 0 (by decide) q139 (fun _ h => h) hf dX0_read_26 (fun x26 hf => ?_)
    refine xr_astore_n C dX0_read_29 rfl hl (Nat.le_of_ble_eq_true rfl) (lv' := [(3, va_rf x26), (2, .int x10), (1, va_rf x0), (0, va_rf a0)]) rfl (fun ls hl => ?_)
    refine xr_aload_n C dX0_read_30 rfl (hl.at 3 rfl) ?_
    refine xr_aload_n C dX0_read_31 rfl (hl.at 0 rfl) ?_
    refine xr_V (V := fun v => some (va_rf v)) (n := 0) (fr := 7) (lo := 191) (As := []) C hS xf_X1 (lw_V q201 q202 q203 q56 q204) hdv_X1_copy ⟨Nat.le_trans (Nat.le_of_ble_eq_true rfl) hR.1, Nat.le_trans (Nat.le_of_ble_eq_true rfl) hR.2⟩ rfl hl.1.1 rfl (xm_rc (va_rf_cat _) xm_r0) hf (fun v h1 k1 n1 e1 => ct_X1_copy l D N e1) dX0_read_32 (fun x32 h H locs cells slots kc ks hS hf => ?_)
    refine W.eq (g2 := F0 m 35 ls [va_rf x32, va_rf a0]) rfl ?_
    refine xr_put C hS xf_X0 0 (by decide) q139 (fun _ h => h) rfl xv_obj hf dX0_read_35 (fun h H locs hS hf => ?_)
    refine xr_aload_n C dX0_read_38 rfl (hl.at 3 rfl) ?_
    refine xr_getR C hS xf_X0 0 (by decide) q139 (fun _ h => h) hf dX0_read_39 (fun x39 hf => ?_)
    refine xr_getNR C hS xf_X1 0 (by decide) xn_q124 rfl hf dX0_read_42 (fun x42 hf => ?_)
    refine xr_F (V := fun _ => none) (n := 0) (fr := 0) (lo := 0) (As := []) C hS xf_J2 q552 q555 q557 q59 q559 xn_i8 hdi_J2_clear ⟨Nat.le_trans (Nat.le_of_ble_eq_true rfl) hR.1, Nat.le_trans (Nat.le_of_ble_eq_true rfl) hR.2⟩ rfl hl.1.1 rfl xm_r0 hf (fun v h1 k1 n1 e1 => ct_J2_clear l D N e1) dX0_read_45 (fun _ h H locs cells slots kc ks hS hf => ?_)
    refine W.eq (g2 := F0 m 50 ls []) rfl ?_
    refine xr_aload_n C dX0_read_50 rfl (hl.at 2 rfl) ?_
    refine xr_getNR C hS xf_X6 0 (by decide) xn_q517 rfl hf dX0_read_51 (fun x51 hf => ?_)
    refine xr_F (V := fun v => some (va_rf v)) (n := 0) (fr := 2) (lo := 41) (As := []) C hS xf_J2 q561 q218 q220 q59 q222 xn_i2 hdi_J2_iterator ⟨Nat.le_trans (Nat.le_of_ble_eq_true rfl) hR.1, Nat.le_trans (Nat.le_of_ble_eq_true rfl) hR.2⟩ rfl hl.1.1 rfl xm_r0 hf (fun v h1 k1 n1 e1 => ct_J2_iterator l D N e1) dX0_read_54 (fun x54 h H locs cells slots kc ks hS hf => ?_)
    refine W.eq (g2 := F0 m 59 ls [va_rf x54]) rfl ?_
    refine xr_astore C dX0_read_59 hl (Nat.le_of_ble_eq_true rfl) (lv' := [(4, va_rf x54), (3, va_rf x26), (2, .int x10), (1, va_rf x0), (0, va_rf a0)]) rfl (fun ls hl => ?_)
    exact w_X0_read_l61 C hr hR N N a0 x26 x54  h H locs cells slots kc ks ls hf hS (hl.sub [4, 1, 0] rfl)
  · replace hf := xb_neg c17 hf
    refine lv_bipush (v := -100) hx hb dX0_read_20 xi_bm100 ?_
    refine lv_iload_n hx hb dX0_read_22 rfl (hl.at 0 rfl) ?_
    refine lv_isub hx hb dX0_read_23 ?_
    exact xr_iret C hS hr hf dX0_read_24
theorem ct_X0_read (l : Launch) (D : xh_D) {rv : Int32} {h hF : xh_H} {kc ks : Nat} (N : Nat) {a0 : Option Nat} (hf : f_X0_read N a0 h = some (rv, hF, kc, ks)) : xh_Ct l D yX0_read (ws_ yX0_read cX0_read 6 (Option.some Jvm.ClassFile.FieldType.int)) 9 238 [va_rf a0] h (some (.int rv)) hF kc ks :=
  xh_meth (cc := cX0_read) l (by decide) (Nat.le_of_ble_eq_true rfl) (List.forall_mem_cons.mpr ⟨va_rf_cat _, fun _ h => absurd h List.not_mem_nil⟩) fun p e s m below meth c ls C hr hnm hl hS => w_X0_read C hr ⟨Nat.le_refl _, Nat.le_refl _⟩ N a0 h _ _ _ _ _ _ _ hf hS hl
/-- SungSlides.isRight(II)Z -/
theorem w_X0_isRight (C : xh_C cX0_isRight 2 "SungSlides" D g p s m args meth c) (hr : meth.sig.returnType = (Option.some Jvm.ClassFile.FieldType.boolean)) (hR : 1 ≤ R.frames ∧ 22 ≤ R.locals) {rv : Int32} {hF : xh_H} (N : Nat) (a0 : Int32) (a1 : Int32)  (h : xh_H) (H : Heap) (locs : List Loc) (cells slots kc ks : Nat) (ls : Array Slot) (hf : f_X0_isRight N a0 a1 h = some (rv, hF, kc, ks)) (hS : xh_T D g s R h H locs cells slots kc ks) (hl : xh_L ls 2 [(0, .int a0), (1, .int a1)]) : W p l e R s m args below meth c H locs cells slots (MQ below (xh_Q D g (some (.int rv)) hF) args s R.cells R.slots (xh_A g)) (F0 m 0 ls []) := by
  have hx := C.1
  have hb := C.2.1
  unfold f_X0_isRight at hf
  refine lv_iload_n hx hb dX0_isRight_0 rfl (hl.at 1 rfl) ?_
  refine xr_gs2 C hS q576 dX0_isRight_1 ?_
  refine lv_iload_n hx hb dX0_isRight_4 rfl (hl.at 0 rfl) ?_
  refine xr_ld2 C hS hf dX0_isRight_5 (fun x5 hf => ?_)
  refine xr_gs3 C hS q578 dX0_isRight_6 ?_
  refine lv_iload_n hx hb dX0_isRight_9 rfl (hl.at 0 rfl) ?_
  refine xr_ld3 C hS hf dX0_isRight_10 (fun x10 hf => ?_)
  refine xr_S (V := fun v => some (.int v)) (n := 3) (fr := 0) (lo := 0) (As := [.int a1, .int x5, .int x10]) C hS (lw_S q200 q195 q55 q196) hd_X0_isBetween ⟨Nat.le_trans (Nat.le_of_ble_eq_true rfl) hR.1, Nat.le_trans (Nat.le_of_ble_eq_true rfl) hR.2⟩ rfl hl.1.1 rfl xm_r0 hf (fun v h1 k1 n1 e1 => ct_X0_isBetween l D N e1) dX0_isRight_11 (fun x11 h H locs cells slots kc ks hS hf => ?_)
  refine W.eq (g2 := F0 m 14 ls [.int x11]) rfl ?_
  exact xr_zret C hS hr hf dX0_isRight_14
theorem ct_X0_isRight (l : Launch) (D : xh_D) {rv : Int32} {h hF : xh_H} {kc ks : Nat} (N : Nat) {a0 : Int32} {a1 : Int32} (hf : f_X0_isRight N a0 a1 h = some (rv, hF, kc, ks)) : xh_Ct l D yX0_isRight (ws_ yX0_isRight cX0_isRight 2 (Option.some Jvm.ClassFile.FieldType.boolean)) 1 22 [.int a0, .int a1] h (some (.int rv)) hF kc ks :=
  xh_meth (cc := cX0_isRight) l (by decide) (Nat.le_of_ble_eq_true rfl) (List.forall_mem_cons.mpr ⟨rfl, List.forall_mem_cons.mpr ⟨rfl, fun _ h => absurd h List.not_mem_nil⟩⟩) fun p e s m below meth c ls C hr hnm hl hS => w_X0_isRight C hr ⟨Nat.le_refl _, Nat.le_refl _⟩ N a0 a1 h _ _ _ _ _ _ _ hf hS hl
/-- SungSlides.isSetting(I)Z -/
theorem w_X0_isSetting (C : xh_C cX0_isSetting 1 "SungSlides" D g p s m args meth c) (hr : meth.sig.returnType = (Option.some Jvm.ClassFile.FieldType.boolean)) (hR : 1 ≤ R.frames ∧ 22 ≤ R.locals) {rv : Int32} {hF : xh_H} (N : Nat) (a0 : Int32)  (h : xh_H) (H : Heap) (locs : List Loc) (cells slots kc ks : Nat) (ls : Array Slot) (hf : f_X0_isSetting N a0 h = some (rv, hF, kc, ks)) (hS : xh_T D g s R h H locs cells slots kc ks) (hl : xh_L ls 1 [(0, .int a0)]) : W p l e R s m args below meth c H locs cells slots (MQ below (xh_Q D g (some (.int rv)) hF) args s R.cells R.slots (xh_A g)) (F0 m 0 ls []) := by
  have hx := C.1
  have hb := C.2.1
  unfold f_X0_isSetting at hf
  refine lv_iload_n hx hb dX0_isSetting_0 rfl (hl.at 0 rfl) ?_
  refine lv_iconst (v := 0) hx hb dX0_isSetting_1 xi_c0 ?_
  refine lv_iconst (v := 4) hx hb dX0_isSetting_2 xi_c4 ?_
  refine xr_S (V := fun v => some (.int v)) (n := 3) (fr := 0) (lo := 0) (As := [.int a0, .int (0 : Int32), .int (4 : Int32)]) C hS (lw_S q200 q195 q55 q196) hd_X0_isBetween ⟨Nat.le_trans (Nat.le_of_ble_eq_true rfl) hR.1, Nat.le_trans (Nat.le_of_ble_eq_true rfl) hR.2⟩ rfl hl.1.1 rfl xm_r0 hf (fun v h1 k1 n1 e1 => ct_X0_isBetween l D N e1) dX0_isSetting_3 (fun x3 h H locs cells slots kc ks hS hf => ?_)
  refine W.eq (g2 := F0 m 6 ls [.int x3]) rfl ?_
  exact xr_zret C hS hr hf dX0_isSetting_6
theorem ct_X0_isSetting (l : Launch) (D : xh_D) {rv : Int32} {h hF : xh_H} {kc ks : Nat} (N : Nat) {a0 : Int32} (hf : f_X0_isSetting N a0 h = some (rv, hF, kc, ks)) : xh_Ct l D yX0_isSetting (ws_ yX0_isSetting cX0_isSetting 1 (Option.some Jvm.ClassFile.FieldType.boolean)) 1 22 [.int a0] h (some (.int rv)) hF kc ks :=
  xh_meth (cc := cX0_isSetting) l (by decide) (Nat.le_of_ble_eq_true rfl) (List.forall_mem_cons.mpr ⟨rfl, fun _ h => absurd h List.not_mem_nil⟩) fun p e s m below meth c ls C hr hnm hl hS => w_X0_isSetting C hr ⟨Nat.le_refl _, Nat.le_refl _⟩ N a0 h _ _ _ _ _ _ _ hf hS hl
/-- SungSlides.set(II)I -/
theorem w_X0_set (C : xh_C cX0_set 5 "SungSlides" D g p s m args meth c) (hr : meth.sig.returnType = (Option.some Jvm.ClassFile.FieldType.int)) (hR : 8 ≤ R.frames ∧ 214 ≤ R.locals) {rv : Int32} {hF : xh_H} (N : Nat) (a0 : Option Nat) (a1 : Int32) (a2 : Int32)  (h : xh_H) (H : Heap) (locs : List Loc) (cells slots kc ks : Nat) (ls : Array Slot) (hf : f_X0_set N a0 a1 a2 h = some (rv, hF, kc, ks)) (hS : xh_T D g s R h H locs cells slots kc ks) (hl : xh_L ls 5 [(0, va_rf a0), (1, .int a1), (2, .int a2)]) : W p l e R s m args below meth c H locs cells slots (MQ below (xh_Q D g (some (.int rv)) hF) args s R.cells R.slots (xh_A g)) (F0 m 0 ls []) := by
  have hx := C.1
  have hb := C.2.1
  unfold f_X0_set at hf
  refine lv_iload_n hx hb dX0_set_0 rfl (hl.at 1 rfl) ?_
  refine xr_S (V := fun v => some (.int v)) (n := 1) (fr := 1) (lo := 22) (As := [.int a1]) C hS (lw_S q570 q571 q55 q572) hd_X0_isSetting ⟨Nat.le_trans (Nat.le_of_ble_eq_true rfl) hR.1, Nat.le_trans (Nat.le_of_ble_eq_true rfl) hR.2⟩ rfl hl.1.1 rfl xm_r0 hf (fun v h1 k1 n1 e1 => ct_X0_isSetting l D N e1) dX0_set_1 (fun x1 h H locs cells slots kc ks hS hf => ?_)
  refine W.eq (g2 := F0 m 4 ls [.int x1]) rfl ?_
  refine lv_if_ne (tgt := 9) hx hb dX0_set_4 (by decide) (fun c4 => ?_) (fun c4 => ?_)
  · replace hf := xb_neg c4 hf
    refine lv_iload_n hx hb dX0_set_9 rfl (hl.at 1 rfl) ?_
    refine lv_iload_n hx hb dX0_set_10 rfl (hl.at 2 rfl) ?_
    refine xr_S (V := fun v => some (.int v)) (n := 2) (fr := 1) (lo := 22) (As := [.int a1, .int a2]) C hS (lw_S q573 q574 q55 q575) hd_X0_isRight ⟨Nat.le_trans (Nat.le_of_ble_eq_true rfl) hR.1, Nat.le_trans (Nat.le_of_ble_eq_true rfl) hR.2⟩ rfl hl.1.1 rfl xm_r0 hf (fun v h1 k1 n1 e1 => ct_X0_isRight l D N e1) dX0_set_11 (fun x11 h H locs cells slots kc ks hS hf => ?_)
    refine W.eq (g2 := F0 m 14 ls [.int x11]) rfl ?_
    refine lv_if_ne (tgt := 20) hx hb dX0_set_14 (by decide) (fun c14 => ?_) (fun c14 => ?_)
    · replace hf := xb_neg c14 hf
      refine xr_aload_n C dX0_set_20 rfl (hl.at 0 rfl) ?_
      refine xr_getR C hS xf_X0 0 (by decide) q139 (fun _ h => h) hf dX0_set_21 (fun x21 hf => ?_)
      refine xr_getNR C hS xf_X1 2 (by decide) xn_q129 rfl hf dX0_set_24 (fun x24 hf => ?_)
      refine lv_iload_n hx hb dX0_set_27 rfl (hl.at 1 rfl) ?_
      refine xr_iald C hS hf dX0_set_28 (fun x28 hf => ?_)
      refine xr_istore_n C dX0_set_29 rfl hl (Nat.le_of_ble_eq_true rfl) (lv' := [(3, .int x28), (0, va_rf a0), (1, .int a1), (2, .int a2)]) rfl (fun ls hl => ?_)
      refine lv_iload_n hx hb dX0_set_30 rfl (hl.at 0 rfl) ?_
      refine lv_iload_n hx hb dX0_set_31 rfl (hl.at 3 rfl) ?_
      refine lv_icmp_ne (tgt := 38) hx hb dX0_set_32 (by decide) (fun c32 => ?_) (fun c32 => ?_)
      · replace hf := xb_neg c32 hf
        refine xr_aload_n C dX0_set_38 rfl (hl.at 1 rfl) ?_
        refine xr_getR C hS xf_X0 0 (by decide) q139 (fun _ h => h) hf dX0_set_39 (fun x39 hf => ?_)
        refine xr_V (V := fun v => some (va_rf v)) (n := 0) (fr := 7) (lo := 191) (As := []) C hS xf_X1 (lw_V q201 q202 q203 q56 q204) hdv_X1_copy ⟨Nat.le_trans (Nat.le_of_ble_eq_true rfl) hR.1, Nat.le_trans (Nat.le_of_ble_eq_true rfl) hR.2⟩ rfl hl.1.1 rfl xm_r0 hf (fun v h1 k1 n1 e1 => ct_X1_copy l D N e1) dX0_set_42 (fun x42 h H locs cells slots kc ks hS hf => ?_)
        refine W.eq (g2 := F0 m 45 ls [va_rf x42]) rfl ?_
        refine xr_astore C dX0_set_45 hl (Nat.le_of_ble_eq_true rfl) (lv' := [(4, va_rf x42), (3, .int x28), (0, va_rf a0), (1, .int a1), (2, .int a2)]) rfl (fun ls hl => ?_)
        refine xr_aload_n C dX0_set_47 rfl (hl.at 2 rfl) ?_
        refine xr_getR C hS xf_X0 0 (by decide) q139 (fun _ h => h) hf dX0_set_48 (fun x48 hf => ?_)
        refine xr_getNR C hS xf_X1 2 (by decide) xn_q129 rfl hf dX0_set_51 (fun x51 hf => ?_)
        refine lv_iload_n hx hb dX0_set_54 rfl (hl.at 3 rfl) ?_
        refine lv_iload_n hx hb dX0_set_55 rfl (hl.at 4 rfl) ?_
        refine xr_iast C hS hf dX0_set_56 (fun h H locs hS hf => ?_)
        refine xr_aload_n C dX0_set_57 rfl (hl.at 2 rfl) ?_
        refine xr_aload C dX0_set_58 (hl.at 0 rfl) ?_
        refine lv_iload_n hx hb dX0_set_60 rfl (hl.at 1 rfl) ?_
        refine xr_V (V := fun v => some (.int v)) (n := 2) (fr := 7) (lo := 191) (As := [va_rf x42, .int x28]) C hS xf_X0 (lw_V q476 q478 qs4 q55 q479) hdv_X0_changed ⟨Nat.le_trans (Nat.le_of_ble_eq_true rfl) hR.1, Nat.le_trans (Nat.le_of_ble_eq_true rfl) hR.2⟩ rfl hl.1.1 rfl xm_r0 hf (fun v h1 k1 n1 e1 => ct_X0_changed l D N e1) dX0_set_61 (fun x61 h H locs cells slots kc ks hS hf => ?_)
        refine W.eq (g2 := F0 m 64 ls [.int x61]) rfl ?_
        exact xr_iret C hS hr hf dX0_set_64
      · replace hf := xb_pos c32 hf
        refine lv_bipush (v := -5) hx hb dX0_set_35 xi_bm5 ?_
        exact xr_iret C hS hr hf dX0_set_37
    · replace hf := xb_pos c14 hf
      refine lv_bipush (v := -2) hx hb dX0_set_17 xi_bm2 ?_
      exact xr_iret C hS hr hf dX0_set_19
  · replace hf := xb_pos c4 hf
    refine lv_iconst (v := -1) hx hb dX0_set_7 xi_cm1 ?_
    exact xr_iret C hS hr hf dX0_set_8
theorem ct_X0_set (l : Launch) (D : xh_D) {rv : Int32} {h hF : xh_H} {kc ks : Nat} (N : Nat) {a0 : Option Nat} {a1 : Int32} {a2 : Int32} (hf : f_X0_set N a0 a1 a2 h = some (rv, hF, kc, ks)) : xh_Ct l D yX0_set (ws_ yX0_set cX0_set 5 (Option.some Jvm.ClassFile.FieldType.int)) 8 214 [va_rf a0, .int a1, .int a2] h (some (.int rv)) hF kc ks :=
  xh_meth (cc := cX0_set) l (by decide) (Nat.le_of_ble_eq_true rfl) (List.forall_mem_cons.mpr ⟨va_rf_cat _, List.forall_mem_cons.mpr ⟨rfl, List.forall_mem_cons.mpr ⟨rfl, fun _ h => absurd h List.not_mem_nil⟩⟩⟩) fun p e s m below meth c ls C hr hnm hl hS => w_X0_set C hr ⟨Nat.le_refl _, Nat.le_refl _⟩ N a0 a1 a2 h _ _ _ _ _ _ _ hf hS hl
/-- SungSlides.isTick(I)Z -/
theorem w_X0_isTick (C : xh_C cX0_isTick 1 "SungSlides" D g p s m args meth c) (hr : meth.sig.returnType = (Option.some Jvm.ClassFile.FieldType.boolean)) (hR : 1 ≤ R.frames ∧ 22 ≤ R.locals) {rv : Int32} {hF : xh_H} (N : Nat) (a0 : Int32)  (h : xh_H) (H : Heap) (locs : List Loc) (cells slots kc ks : Nat) (ls : Array Slot) (hf : f_X0_isTick N a0 h = some (rv, hF, kc, ks)) (hS : xh_T D g s R h H locs cells slots kc ks) (hl : xh_L ls 1 [(0, .int a0)]) : W p l e R s m args below meth c H locs cells slots (MQ below (xh_Q D g (some (.int rv)) hF) args s R.cells R.slots (xh_A g)) (F0 m 0 ls []) := by
  have hx := C.1
  have hb := C.2.1
  unfold f_X0_isTick at hf
  refine lv_iload_n hx hb dX0_isTick_0 rfl (hl.at 0 rfl) ?_
  refine lv_iconst (v := 0) hx hb dX0_isTick_1 xi_c0 ?_
  refine lv_sipush (v := 599) hx hb dX0_isTick_2 xi_s599 ?_
  refine xr_S (V := fun v => some (.int v)) (n := 3) (fr := 0) (lo := 0) (As := [.int a0, .int (0 : Int32), .int (599 : Int32)]) C hS (lw_S q200 q195 q55 q196) hd_X0_isBetween ⟨Nat.le_trans (Nat.le_of_ble_eq_true rfl) hR.1, Nat.le_trans (Nat.le_of_ble_eq_true rfl) hR.2⟩ rfl hl.1.1 rfl xm_r0 hf (fun v h1 k1 n1 e1 => ct_X0_isBetween l D N e1) dX0_isTick_5 (fun x5 h H locs cells slots kc ks hS hf => ?_)
  refine W.eq (g2 := F0 m 8 ls [.int x5]) rfl ?_
  exact xr_zret C hS hr hf dX0_isTick_8
theorem ct_X0_isTick (l : Launch) (D : xh_D) {rv : Int32} {h hF : xh_H} {kc ks : Nat} (N : Nat) {a0 : Int32} (hf : f_X0_isTick N a0 h = some (rv, hF, kc, ks)) : xh_Ct l D yX0_isTick (ws_ yX0_isTick cX0_isTick 1 (Option.some Jvm.ClassFile.FieldType.boolean)) 1 22 [.int a0] h (some (.int rv)) hF kc ks :=
  xh_meth (cc := cX0_isTick) l (by decide) (Nat.le_of_ble_eq_true rfl) (List.forall_mem_cons.mpr ⟨rfl, fun _ h => absurd h List.not_mem_nil⟩) fun p e s m below meth c ls C hr hnm hl hS => w_X0_isTick C hr ⟨Nat.le_refl _, Nat.le_refl _⟩ N a0 h _ _ _ _ _ _ _ hf hS hl
theorem w_X0_areTicks_b29 (C : xh_C cX0_areTicks 3 "SungSlides" D g p s m args meth c) (hr : meth.sig.returnType = (Option.some Jvm.ClassFile.FieldType.boolean)) (hR : 2 ≤ R.frames ∧ 42 ≤ R.locals) {rv : Int32} {hF : xh_H} (N : Nat) : ∀ (h : xh_H) (H : Heap) (locs : List Loc) (cells slots kc ks : Nat) (ls : Array Slot), f_X0_areTicks_b29 N  h = some (rv, hF, kc, ks) → xh_T D g s R h H locs cells slots kc ks → xh_L ls 3 [] → W p l e R s m args below meth c H locs cells slots (MQ below (xh_Q D g (some (.int rv)) hF) args s R.cells R.slots (xh_A g)) (F0 m 29 ls []) := by
  intro  h H locs cells slots kc ks ls hf hS hl
  have hx := C.1
  have hb := C.2.1
  unfold f_X0_areTicks_b29 at hf
  refine lv_iconst (v := 0) hx hb dX0_areTicks_29 xi_c0 ?_
  exact xr_zret1 C hS hr (by decide) hf dX0_areTicks_30
/-- SungSlides.areTicks(III)Z -/
theorem w_X0_areTicks (C : xh_C cX0_areTicks 3 "SungSlides" D g p s m args meth c) (hr : meth.sig.returnType = (Option.some Jvm.ClassFile.FieldType.boolean)) (hR : 2 ≤ R.frames ∧ 42 ≤ R.locals) {rv : Int32} {hF : xh_H} (N : Nat) (a0 : Int32) (a1 : Int32) (a2 : Int32)  (h : xh_H) (H : Heap) (locs : List Loc) (cells slots kc ks : Nat) (ls : Array Slot) (hf : f_X0_areTicks N a0 a1 a2 h = some (rv, hF, kc, ks)) (hS : xh_T D g s R h H locs cells slots kc ks) (hl : xh_L ls 3 [(0, .int a0), (1, .int a1), (2, .int a2)]) : W p l e R s m args below meth c H locs cells slots (MQ below (xh_Q D g (some (.int rv)) hF) args s R.cells R.slots (xh_A g)) (F0 m 0 ls []) := by
  have hx := C.1
  have hb := C.2.1
  unfold f_X0_areTicks at hf
  refine lv_iload_n hx hb dX0_areTicks_0 rfl (hl.at 0 rfl) ?_
  refine xr_S (V := fun v => some (.int v)) (n := 1) (fr := 1) (lo := 22) (As := [.int a0]) C hS (lw_S q587 q588 q55 q589) hd_X0_isTick ⟨Nat.le_trans (Nat.le_of_ble_eq_true rfl) hR.1, Nat.le_trans (Nat.le_of_ble_eq_true rfl) hR.2⟩ rfl hl.1.1 rfl xm_r0 hf (fun v h1 k1 n1 e1 => ct_X0_isTick l D N e1) dX0_areTicks_1 (fun x1 h H locs cells slots kc ks hS hf => ?_)
  refine W.eq (g2 := F0 m 4 ls [.int x1]) rfl ?_
  refine lv_if_eq (tgt := 29) hx hb dX0_areTicks_4 (by decide) (fun c4 => ?_) (fun c4 => ?_)
  · replace hf := xb_pos c4 hf
    exact w_X0_areTicks_b29 C hr hR N  h H locs cells slots kc ks ls hf hS (hl.sub [] rfl)
  · replace hf := xb_neg c4 hf
    refine lv_iload_n hx hb dX0_areTicks_7 rfl (hl.at 1 rfl) ?_
    refine lv_iconst (v := 1) hx hb dX0_areTicks_8 xi_c1 ?_
    refine lv_iload_n hx hb dX0_areTicks_9 rfl (hl.at 2 rfl) ?_
    refine xr_S (V := fun v => some (.int v)) (n := 3) (fr := 0) (lo := 0) (As := [.int a1, .int (1 : Int32), .int a2]) C hS (lw_S q200 q195 q55 q196) hd_X0_isBetween ⟨Nat.le_trans (Nat.le_of_ble_eq_true rfl) hR.1, Nat.le_trans (Nat.le_of_ble_eq_true rfl) hR.2⟩ rfl hl.1.1 rfl xm_r0 hf (fun v h1 k1 n1 e1 => ct_X0_isBetween l D N e1) dX0_areTicks_10 (fun x10 h H locs cells slots kc ks hS hf => ?_)
    refine W.eq (g2 := F0 m 13 ls [.int x10]) rfl ?_
    refine lv_if_eq (tgt := 29) hx hb dX0_areTicks_13 (by decide) (fun c13 => ?_) (fun c13 => ?_)
    · replace hf := xb_pos c13 hf
      exact w_X0_areTicks_b29 C hr hR N  h H locs cells slots kc ks ls hf hS (hl.sub [] rfl)
    · replace hf := xb_neg c13 hf
      refine lv_iload_n hx hb dX0_areTicks_16 rfl (hl.at 0 rfl) ?_
      refine lv_iload_n hx hb dX0_areTicks_17 rfl (hl.at 1 rfl) ?_
      refine lv_iadd hx hb dX0_areTicks_18 ?_
      refine lv_sipush (v := 600) hx hb dX0_areTicks_19 xi_s600 ?_
      refine lv_icmp_gt (tgt := 29) hx hb dX0_areTicks_22 (by decide) (fun c22 => ?_) (fun c22 => ?_)
      · replace hf := xb_pos c22 hf
        exact w_X0_areTicks_b29 C hr hR N  h H locs cells slots kc ks ls hf hS (hl.sub [] rfl)
      · replace hf := xb_neg c22 hf
        refine lv_iconst (v := 1) hx hb dX0_areTicks_25 xi_c1 ?_
        refine lv_goto (tgt := 30) hx hb dX0_areTicks_26 (by decide) ?_
        exact xr_zret1 C hS hr (by decide) hf dX0_areTicks_30
theorem ct_X0_areTicks (l : Launch) (D : xh_D) {rv : Int32} {h hF : xh_H} {kc ks : Nat} (N : Nat) {a0 : Int32} {a1 : Int32} {a2 : Int32} (hf : f_X0_areTicks N a0 a1 a2 h = some (rv, hF, kc, ks)) : xh_Ct l D yX0_areTicks (ws_ yX0_areTicks cX0_areTicks 3 (Option.some Jvm.ClassFile.FieldType.boolean)) 2 42 [.int a0, .int a1, .int a2] h (some (.int rv)) hF kc ks :=
  xh_meth (cc := cX0_areTicks) l (by decide) (Nat.le_of_ble_eq_true rfl) (List.forall_mem_cons.mpr ⟨rfl, List.forall_mem_cons.mpr ⟨rfl, List.forall_mem_cons.mpr ⟨rfl, fun _ h => absurd h List.not_mem_nil⟩⟩⟩) fun p e s m below meth c ls C hr hnm hl hS => w_X0_areTicks C hr ⟨Nat.le_refl _, Nat.le_refl _⟩ N a0 a1 a2 h _ _ _ _ _ _ _ hf hS hl
/-- SungSlides$Judge.<init>(LSungSlides$Song;)V -/
theorem w_X7_init (C : xh_C cX7_init 2 "SungSlides$Judge" D g p s m args meth c) (hr : meth.sig.returnType = (Option.none : Option Jvm.ClassFile.FieldType)) (hnm : meth.name = "<init>") (hR : 1 ≤ R.frames ∧ 20 ≤ R.locals) {rv : Unit} {hF : xh_H} (N : Nat) (a0 : Option Nat) (a1 : Option Nat)  (h : xh_H) (H : Heap) (locs : List Loc) (cells slots kc ks : Nat) (ls : Array Slot) (hf : f_X7_init N a0 a1 h = some (rv, hF, kc, ks)) (hS : xh_T D g s R h H locs cells slots kc ks) (hl : xh_L ls 2 [(0, va_rf a0), (1, va_rf a1)]) : W p l e R s m args below meth c H locs cells slots (MQ below (xh_Q D g none hF) args s R.cells R.slots (xh_A g)) (F0 m 0 ls []) := by
  have hx := C.1
  have hb := C.2.1
  unfold f_X7_init at hf
  refine xr_aload_n C dX7_init_0 rfl (hl.at 0 rfl) ?_
  refine xr_oi C hS q600 q81 q82 hl.1.1 ⟨Nat.le_trans (Nat.le_of_ble_eq_true rfl) hR.1, Nat.le_trans (Nat.le_of_ble_eq_true rfl) hR.2⟩ xm_r0 hf dX7_init_1 (fun hf => ?_)
  refine xr_aload_n C dX7_init_4 rfl (hl.at 0 rfl) ?_
  refine lv_bipush (v := 40) hx hb dX7_init_5 xi_b40 ?_
  refine xr_na C hS (k := 0) (atype := .int) (ty := .int) rfl rfl (by decide) rfl (fun _ h => h) q121 hf dX7_init_7 (fun x7 h H cells slots kc ks hS hf => ?_)
  refine xr_putF C hS hnm xf_X7 1 (by decide) q602 rfl rfl rfl xv_arr hf dX7_init_9 (fun h H locs hS hf => ?_)
  refine xr_aload_n C dX7_init_12 rfl (hl.at 0 rfl) ?_
  refine lv_bipush (v := 40) hx hb dX7_init_13 xi_b40 ?_
  refine xr_na C hS (k := 0) (atype := .int) (ty := .int) rfl rfl (by decide) rfl (fun _ h => h) q121 hf dX7_init_15 (fun x15 h H cells slots kc ks hS hf => ?_)
  refine xr_putF C hS hnm xf_X7 2 (by decide) q604 rfl rfl rfl xv_arr hf dX7_init_17 (fun h H locs hS hf => ?_)
  refine xr_aload_n C dX7_init_20 rfl (hl.at 0 rfl) ?_
  refine lv_bipush (v := 40) hx hb dX7_init_21 xi_b40 ?_
  refine xr_na C hS (k := 0) (atype := .int) (ty := .int) rfl rfl (by decide) rfl (fun _ h => h) q121 hf dX7_init_23 (fun x23 h H cells slots kc ks hS hf => ?_)
  refine xr_putF C hS hnm xf_X7 3 (by decide) q606 rfl rfl rfl xv_arr hf dX7_init_25 (fun h H locs hS hf => ?_)
  refine xr_aload_n C dX7_init_28 rfl (hl.at 0 rfl) ?_
  refine lv_bipush (v := 40) hx hb dX7_init_29 xi_b40 ?_
  refine xr_na C hS (k := 0) (atype := .int) (ty := .int) rfl rfl (by decide) rfl (fun _ h => h) q121 hf dX7_init_31 (fun x31 h H cells slots kc ks hS hf => ?_)
  refine xr_putF C hS hnm xf_X7 4 (by decide) q608 rfl rfl rfl xv_arr hf dX7_init_33 (fun h H locs hS hf => ?_)
  refine xr_aload_n C dX7_init_36 rfl (hl.at 0 rfl) ?_
  refine lv_bipush (v := 40) hx hb dX7_init_37 xi_b40 ?_
  refine xr_na C hS (k := 0) (atype := .int) (ty := .int) rfl rfl (by decide) rfl (fun _ h => h) q121 hf dX7_init_39 (fun x39 h H cells slots kc ks hS hf => ?_)
  refine xr_putF C hS hnm xf_X7 5 (by decide) q610 rfl rfl rfl xv_arr hf dX7_init_41 (fun h H locs hS hf => ?_)
  refine xr_aload_n C dX7_init_44 rfl (hl.at 0 rfl) ?_
  refine xr_aload_n C dX7_init_45 rfl (hl.at 1 rfl) ?_
  refine xr_putF C hS hnm xf_X7 0 (by decide) q601 rfl rfl rfl xv_obj hf dX7_init_46 (fun h H locs hS hf => ?_)
  exact xr_vret C hS hr hf dX7_init_49
theorem ct_X7_init (l : Launch) (D : xh_D) {rv : Unit} {h hF : xh_H} {kc ks : Nat} (N : Nat) {a0 : Option Nat} {a1 : Option Nat} (hf : f_X7_init N a0 a1 h = some (rv, hF, kc, ks)) : xh_Ct l D yX7_init (ws_ yX7_init cX7_init 2 (Option.none : Option Jvm.ClassFile.FieldType)) 1 20 [va_rf a0, va_rf a1] h none hF kc ks :=
  xh_meth (cc := cX7_init) l (by decide) (Nat.le_of_ble_eq_true rfl) (List.forall_mem_cons.mpr ⟨va_rf_cat _, List.forall_mem_cons.mpr ⟨va_rf_cat _, fun _ h => absurd h List.not_mem_nil⟩⟩) fun p e s m below meth c ls C hr hnm hl hS => w_X7_init C hr hnm ⟨Nat.le_refl _, Nat.le_refl _⟩ N a0 a1 h _ _ _ _ _ _ _ hf hS hl
/-- SungSlides$Syllable.wanted(I)I -/
theorem w_X5_wanted (C : xh_C cX5_wanted 2 "SungSlides$Syllable" D g p s m args meth c) (hr : meth.sig.returnType = (Option.some Jvm.ClassFile.FieldType.int)) (hR : 0 ≤ R.frames ∧ 0 ≤ R.locals) {rv : Int32} {hF : xh_H} (N : Nat) (a0 : Option Nat) (a1 : Int32)  (h : xh_H) (H : Heap) (locs : List Loc) (cells slots kc ks : Nat) (ls : Array Slot) (hf : f_X5_wanted N a0 a1 h = some (rv, hF, kc, ks)) (hS : xh_T D g s R h H locs cells slots kc ks) (hl : xh_L ls 2 [(0, va_rf a0), (1, .int a1)]) : W p l e R s m args below meth c H locs cells slots (MQ below (xh_Q D g (some (.int rv)) hF) args s R.cells R.slots (xh_A g)) (F0 m 0 ls []) := by
  have hx := C.1
  have hb := C.2.1
  unfold f_X5_wanted at hf
  refine xr_aload_n C dX5_wanted_0 rfl (hl.at 0 rfl) ?_
  refine xr_getI C hS xf_X5 1 (by decide) q450 (fun _ h => h) hf dX5_wanted_1 (fun x1 hf => ?_)
  refine lv_iconst (v := 1) hx hb dX5_wanted_4 xi_c1 ?_
  refine lv_icmp_ne (tgt := 15) hx hb dX5_wanted_5 (by decide) (fun c5 => ?_) (fun c5 => ?_)
  · replace hf := xb_neg c5 hf
    refine xr_aload_n C dX5_wanted_15 rfl (hl.at 0 rfl) ?_
    refine xr_getI C hS xf_X5 2 (by decide) q453 (fun _ h => h) hf dX5_wanted_16 (fun x16 hf => ?_)
    refine xr_aload_n C dX5_wanted_19 rfl (hl.at 0 rfl) ?_
    refine xr_getI C hS xf_X5 3 (by decide) q455 (fun _ h => h) hf dX5_wanted_20 (fun x20 hf => ?_)
    refine xr_aload_n C dX5_wanted_23 rfl (hl.at 0 rfl) ?_
    refine xr_getI C hS xf_X5 2 (by decide) q453 (fun _ h => h) hf dX5_wanted_24 (fun x24 hf => ?_)
    refine lv_isub hx hb dX5_wanted_27 ?_
    refine lv_iload_n hx hb dX5_wanted_28 rfl (hl.at 1 rfl) ?_
    refine xr_aload_n C dX5_wanted_29 rfl (hl.at 0 rfl) ?_
    refine xr_getI C hS xf_X5 0 (by decide) q446 (fun _ h => h) hf dX5_wanted_30 (fun x30 hf => ?_)
    refine lv_isub hx hb dX5_wanted_33 ?_
    refine lv_imul hx hb dX5_wanted_34 ?_
    refine xr_aload_n C dX5_wanted_35 rfl (hl.at 0 rfl) ?_
    refine xr_getI C hS xf_X5 1 (by decide) q450 (fun _ h => h) hf dX5_wanted_36 (fun x36 hf => ?_)
    refine lv_iconst (v := 1) hx hb dX5_wanted_39 xi_c1 ?_
    refine lv_isub hx hb dX5_wanted_40 ?_
    obtain ⟨c41, hf⟩ := xb_nif hf
    refine lv_idiv hx hb dX5_wanted_41 c41 ?_
    refine lv_iadd hx hb dX5_wanted_42 ?_
    exact xr_iret C hS hr hf dX5_wanted_43
  · replace hf := xb_pos c5 hf
    refine xr_aload_n C dX5_wanted_8 rfl (hl.at 0 rfl) ?_
    refine xr_getI C hS xf_X5 2 (by decide) q453 (fun _ h => h) hf dX5_wanted_9 (fun x9 hf => ?_)
    refine lv_goto (tgt := 43) hx hb dX5_wanted_12 (by decide) ?_
    exact xr_iret C hS hr hf dX5_wanted_43
theorem ct_X5_wanted (l : Launch) (D : xh_D) {rv : Int32} {h hF : xh_H} {kc ks : Nat} (N : Nat) {a0 : Option Nat} {a1 : Int32} (hf : f_X5_wanted N a0 a1 h = some (rv, hF, kc, ks)) : xh_Ct l D yX5_wanted (ws_ yX5_wanted cX5_wanted 2 (Option.some Jvm.ClassFile.FieldType.int)) 0 0 [va_rf a0, .int a1] h (some (.int rv)) hF kc ks :=
  xh_meth (cc := cX5_wanted) l (by decide) (Nat.le_of_ble_eq_true rfl) (List.forall_mem_cons.mpr ⟨va_rf_cat _, List.forall_mem_cons.mpr ⟨rfl, fun _ h => absurd h List.not_mem_nil⟩⟩) fun p e s m below meth c ls C hr hnm hl hS => w_X5_wanted C hr ⟨Nat.le_refl _, Nat.le_refl _⟩ N a0 a1 h _ _ _ _ _ _ _ hf hS hl
theorem w_X7_matches_b56 (C : xh_C cX7_matches 4 "SungSlides$Judge" D g p s m args meth c) (hr : meth.sig.returnType = (Option.some Jvm.ClassFile.FieldType.boolean)) (hR : 1 ≤ R.frames ∧ 24 ≤ R.locals) {rv : Int32} {hF : xh_H} (N : Nat) : ∀ (a0 : Option Nat) (a3 : Int32) (h : xh_H) (H : Heap) (locs : List Loc) (cells slots kc ks : Nat) (ls : Array Slot), f_X7_matches_b56 N a0 a3 h = some (rv, hF, kc, ks) → xh_T D g s R h H locs cells slots kc ks → xh_L ls 4 [(0, va_rf a0), (3, .int a3)] → W p l e R s m args below meth c H locs cells slots (MQ below (xh_Q D g (some (.int rv)) hF) args s R.cells R.slots (xh_A g)) (F0 m 56 ls []) := by
  intro a0 a3 h H locs cells slots kc ks ls hf hS hl
  have hx := C.1
  have hb := C.2.1
  unfold f_X7_matches_b56 at hf
  refine lv_iload_n hx hb dX7_matches_56 rfl (hl.at 1 rfl) ?_
  refine xr_aload_n C dX7_matches_57 rfl (hl.at 0 rfl) ?_
  refine xr_getR C hS xf_X7 0 (by decide) q601 (fun _ h => h) hf dX7_matches_58 (fun x58 hf => ?_)
  refine xr_getNR C hS xf_X1 2 (by decide) xn_q128 rfl hf dX7_matches_61 (fun x61 hf => ?_)
  refine lv_iconst (v := 1) hx hb dX7_matches_64 xi_c1 ?_
  refine xr_iald C hS hf dX7_matches_65 (fun x65 hf => ?_)
  refine lv_icmp_gt (tgt := 73) hx hb dX7_matches_66 (by decide) (fun c66 => ?_) (fun c66 => ?_)
  · replace hf := xb_pos c66 hf
    refine lv_iconst (v := 0) hx hb dX7_matches_73 xi_c0 ?_
    exact xr_zret1 C hS hr (by decide) hf dX7_matches_74
  · replace hf := xb_neg c66 hf
    refine lv_iconst (v := 1) hx hb dX7_matches_69 xi_c1 ?_
    refine lv_goto (tgt := 74) hx hb dX7_matches_70 (by decide) ?_
    exact xr_zret1 C hS hr (by decide) hf dX7_matches_74
/-- SungSlides$Judge.matches(LSungSlides$Syllable;I)Z -/
theorem w_X7_matches (C : xh_C cX7_matches 4 "SungSlides$Judge" D g p s m args meth c) (hr : meth.sig.returnType = (Option.some Jvm.ClassFile.FieldType.boolean)) (hR : 1 ≤ R.frames ∧ 24 ≤ R.locals) {rv : Int32} {hF : xh_H} (N : Nat) (a0 : Option Nat) (a1 : Option Nat) (a2 : Int32)  (h : xh_H) (H : Heap) (locs : List Loc) (cells slots kc ks : Nat) (ls : Array Slot) (hf : f_X7_matches N a0 a1 a2 h = some (rv, hF, kc, ks)) (hS : xh_T D g s R h H locs cells slots kc ks) (hl : xh_L ls 4 [(0, va_rf a0), (1, va_rf a1), (2, .int a2)]) : W p l e R s m args below meth c H locs cells slots (MQ below (xh_Q D g (some (.int rv)) hF) args s R.cells R.slots (xh_A g)) (F0 m 0 ls []) := by
  have hx := C.1
  have hb := C.2.1
  unfold f_X7_matches at hf
  refine xr_aload_n C dX7_matches_0 rfl (hl.at 0 rfl) ?_
  refine xr_getR C hS xf_X7 6 (by decide) q612 (fun _ h => h) hf dX7_matches_1 (fun x1 hf => ?_)
  refine lv_iload_n hx hb dX7_matches_4 rfl (hl.at 2 rfl) ?_
  refine xr_iald C hS hf dX7_matches_5 (fun x5 hf => ?_)
  refine lv_iconst (v := -1) hx hb dX7_matches_6 xi_cm1 ?_
  refine lv_icmp_ne (tgt := 12) hx hb dX7_matches_7 (by decide) (fun c7 => ?_) (fun c7 => ?_)
  · replace hf := xb_neg c7 hf
    refine xr_aload_n C dX7_matches_12 rfl (hl.at 0 rfl) ?_
    refine xr_getR C hS xf_X7 6 (by decide) q612 (fun _ h => h) hf dX7_matches_13 (fun x13 hf => ?_)
    refine lv_iload_n hx hb dX7_matches_16 rfl (hl.at 2 rfl) ?_
    refine xr_iald C hS hf dX7_matches_17 (fun x17 hf => ?_)
    refine xr_aload_n C dX7_matches_18 rfl (hl.at 1 rfl) ?_
    refine lv_iload_n hx hb dX7_matches_19 rfl (hl.at 2 rfl) ?_
    refine xr_V (V := fun v => some (.int v)) (n := 1) (fr := 0) (lo := 0) (As := [.int a2]) C hS xf_X5 (lw_V q645 q646 q647 q72 q648) hdv_X5_wanted ⟨Nat.le_trans (Nat.le_of_ble_eq_true rfl) hR.1, Nat.le_trans (Nat.le_of_ble_eq_true rfl) hR.2⟩ rfl hl.1.1 rfl (xm_rc rfl xm_r0) hf (fun v h1 k1 n1 e1 => ct_X5_wanted l D N e1) dX7_matches_20 (fun x20 h H locs cells slots kc ks hS hf => ?_)
    refine W.eq (g2 := F0 m 23 ls [.int x20, .int x17]) rfl ?_
    refine lv_isub hx hb dX7_matches_23 ?_
    refine xr_ab C hS hl.1.1.symm q649 q650 q64 q651 (Nat.le_trans (Nat.le_of_ble_eq_true rfl) hR.1) (xm_m13 xm_r0 (Nat.le_trans (Nat.le_of_ble_eq_true rfl) hR.2)) dX7_matches_24 ?_
    refine xr_istore_n C dX7_matches_27 rfl hl (Nat.le_of_ble_eq_true rfl) (lv' := [(3, .int (xh_ab (x17 - x20))), (0, va_rf a0), (1, va_rf a1), (2, .int a2)]) rfl (fun ls hl => ?_)
    refine xr_aload_n C dX7_matches_28 rfl (hl.at 1 rfl) ?_
    refine xr_getR C hS xf_X7 0 (by decide) q601 (fun _ h => h) hf dX7_matches_29 (fun x29 hf => ?_)
    refine xr_getNR C hS xf_X1 2 (by decide) xn_q128 rfl hf dX7_matches_32 (fun x32 hf => ?_)
    refine lv_iconst (v := 3) hx hb dX7_matches_35 xi_c3 ?_
    refine xr_iald C hS hf dX7_matches_36 (fun x36 hf => ?_)
    refine lv_iconst (v := 1) hx hb dX7_matches_37 xi_c1 ?_
    refine lv_icmp_ne (tgt := 56) hx hb dX7_matches_38 (by decide) (fun c38 => ?_) (fun c38 => ?_)
    · replace hf := xb_neg c38 hf
      exact w_X7_matches_b56 C hr hR N a0 (xh_ab (x17 - x20))  h H locs cells slots kc ks ls hf hS (hl.sub [1, 0] rfl)
    · replace hf := xb_pos c38 hf
      refine lv_iload_n hx hb dX7_matches_41 rfl (hl.at 0 rfl) ?_
      refine lv_bipush (v := 12) hx hb dX7_matches_42 xi_b12 ?_
      refine lv_irem hx hb dX7_matches_44 (by decide) ?_
      refine lv_bipush (v := 12) hx hb dX7_matches_45 xi_b12 ?_
      refine lv_iload_n hx hb dX7_matches_47 rfl (hl.at 0 rfl) ?_
      refine lv_bipush (v := 12) hx hb dX7_matches_48 xi_b12 ?_
      refine lv_irem hx hb dX7_matches_50 (by decide) ?_
      refine lv_isub hx hb dX7_matches_51 ?_
      refine xr_mn C hS hl.1.1.symm q652 q321 q64 q322 (Nat.le_trans (Nat.le_of_ble_eq_true rfl) hR.1) (xm_m13 xm_r0 (Nat.le_trans (Nat.le_of_ble_eq_true rfl) hR.2)) dX7_matches_52 ?_
      refine xr_istore_n C dX7_matches_55 rfl hl (Nat.le_of_ble_eq_true rfl) (lv' := [(3, .int (xh_mn ((xh_ab (x17 - x20)) - (xh_ab (x17 - x20)) / (12 : Int32) * (12 : Int32)) ((12 : Int32) - ((xh_ab (x17 - x20)) - (xh_ab (x17 - x20)) / (12 : Int32) * (12 : Int32))))), (0, va_rf a0), (1, va_rf a1), (2, .int a2)]) rfl (fun ls hl => ?_)
      exact w_X7_matches_b56 C hr hR N a0 (xh_mn ((xh_ab (x17 - x20)) - (xh_ab (x17 - x20)) / (12 : Int32) * (12 : Int32)) ((12 : Int32) - ((xh_ab (x17 - x20)) - (xh_ab (x17 - x20)) / (12 : Int32) * (12 : Int32))))  h H locs cells slots kc ks ls hf hS (hl.sub [1, 0] rfl)
  · replace hf := xb_pos c7 hf
    refine lv_iconst (v := 0) hx hb dX7_matches_10 xi_c0 ?_
    exact xr_zret1 C hS hr (by decide) hf dX7_matches_11
theorem ct_X7_matches (l : Launch) (D : xh_D) {rv : Int32} {h hF : xh_H} {kc ks : Nat} (N : Nat) {a0 : Option Nat} {a1 : Option Nat} {a2 : Int32} (hf : f_X7_matches N a0 a1 a2 h = some (rv, hF, kc, ks)) : xh_Ct l D yX7_matches (ws_ yX7_matches cX7_matches 4 (Option.some Jvm.ClassFile.FieldType.boolean)) 1 24 [va_rf a0, va_rf a1, .int a2] h (some (.int rv)) hF kc ks :=
  xh_meth (cc := cX7_matches) l (by decide) (Nat.le_of_ble_eq_true rfl) (List.forall_mem_cons.mpr ⟨va_rf_cat _, List.forall_mem_cons.mpr ⟨va_rf_cat _, List.forall_mem_cons.mpr ⟨rfl, fun _ h => absurd h List.not_mem_nil⟩⟩⟩) fun p e s m below meth c ls C hr hnm hl hS => w_X7_matches C hr ⟨Nat.le_refl _, Nat.le_refl _⟩ N a0 a1 a2 h _ _ _ _ _ _ _ hf hS hl
def K_X7_bars_10 (p : Program) (l : Launch) (e : Env) (s : State) (m : MethodId) (args : Array Value) (below : List Frame) (meth : Method) (c : Code) (D : xh_D) (g : Nat → Nat) (R : Room) (rv : Int32) (hF : xh_H) (k : Option Nat → Option Nat → Int32 → Int32 → Int32 → xh_H → xh_R Int32) : Prop := ∀ (a0 : Option Nat) (a1 : Option Nat) (a2 : Int32) (a3 : Int32) (a4 : Int32) (h : xh_H) (H : Heap) (locs : List Loc) (cells slots kc ks : Nat) (ls : Array Slot), k a0 a1 a2 a3 a4 h = some (rv, hF, kc, ks) → xh_T D g s R h H locs cells slots kc ks → xh_L ls 6 [(0, va_rf a0), (1, va_rf a1), (2, .int a2), (3, .int a3), (4, .int a4)] → W p l e R s m args below meth c H locs cells slots (MQ below (xh_Q D g (some (.int rv)) hF) args s R.cells R.slots (xh_A g)) (F0 m 10 ls [])
theorem w_X7_bars_b86 (C : xh_C cX7_bars 6 "SungSlides$Judge" D g p s m args meth c) (hr : meth.sig.returnType = (Option.some Jvm.ClassFile.FieldType.int)) (hR : 2 ≤ R.frames ∧ 47 ≤ R.locals) {rv : Int32} {hF : xh_H} (N : Nat) : ∀ (a3 : Int32) (h : xh_H) (H : Heap) (locs : List Loc) (cells slots kc ks : Nat) (ls : Array Slot), f_X7_bars_b86 N a3 h = some (rv, hF, kc, ks) → xh_T D g s R h H locs cells slots kc ks → xh_L ls 6 [(3, .int a3)] → W p l e R s m args below meth c H locs cells slots (MQ below (xh_Q D g (some (.int rv)) hF) args s R.cells R.slots (xh_A g)) (F0 m 86 ls []) := by
  intro a3 h H locs cells slots kc ks ls hf hS hl
  have hx := C.1
  have hb := C.2.1
  unfold f_X7_bars_b86 at hf
  refine lv_iload_n hx hb dX7_bars_86 rfl (hl.at 0 rfl) ?_
  exact xr_iret C hS hr hf dX7_bars_87
theorem w_X7_bars_b78 (C : xh_C cX7_bars 6 "SungSlides$Judge" D g p s m args meth c) (hr : meth.sig.returnType = (Option.some Jvm.ClassFile.FieldType.int)) (hR : 2 ≤ R.frames ∧ 47 ≤ R.locals) {rv : Int32} {hF : xh_H} (N : Nat) {k10 : Option Nat → Option Nat → Int32 → Int32 → Int32 → xh_H → xh_R Int32} (hk10 : K_X7_bars_10 p l e s m args below meth c D g R rv hF k10) : ∀ (a0 : Option Nat) (a1 : Option Nat) (a2 : Int32) (a4 : Int32) (t0 : Int32) (t1 : Int32) (h : xh_H) (H : Heap) (locs : List Loc) (cells slots kc ks : Nat) (ls : Array Slot), f_X7_bars_b78 N k10 a0 a1 a2 a4 t0 t1 h = some (rv, hF, kc, ks) → xh_T D g s R h H locs cells slots kc ks → xh_L ls 6 [(0, va_rf a0), (1, va_rf a1), (2, .int a2), (4, .int a4)] → W p l e R s m args below meth c H locs cells slots (MQ below (xh_Q D g (some (.int rv)) hF) args s R.cells R.slots (xh_A g)) (F0 m 78 ls [.int t1, .int t0]) := by
  intro a0 a1 a2 a4 t0 t1 h H locs cells slots kc ks ls hf hS hl
  have hx := C.1
  have hb := C.2.1
  unfold f_X7_bars_b78 at hf
  refine lv_iadd hx hb dX7_bars_78 ?_
  refine xr_istore_n C dX7_bars_79 rfl hl (Nat.le_of_ble_eq_true rfl) (lv' := [(3, .int (t0 + t1)), (0, va_rf a0), (1, va_rf a1), (2, .int a2), (4, .int a4)]) rfl (fun ls hl => ?_)
  refine xr_iinc C dX7_bars_80 hl (k := 4) rfl (xi_inc xi_c1) (Nat.le_of_ble_eq_true rfl) (lv' := [(4, .int (a4 + (1 : Int32))), (3, .int (t0 + t1)), (0, va_rf a0), (1, va_rf a1), (2, .int a2)]) rfl (fun ls hl => ?_)
  refine lv_goto (tgt := 10) hx hb dX7_bars_83 (by decide) ?_
  exact hk10 a0 a1 a2 (t0 + t1) (a4 + (1 : Int32))  h H locs cells slots kc ks ls hf hS (hl.sub [2, 3, 4, 1, 0] rfl)
theorem w_X7_bars_b77 (C : xh_C cX7_bars 6 "SungSlides$Judge" D g p s m args meth c) (hr : meth.sig.returnType = (Option.some Jvm.ClassFile.FieldType.int)) (hR : 2 ≤ R.frames ∧ 47 ≤ R.locals) {rv : Int32} {hF : xh_H} (N : Nat) {k10 : Option Nat → Option Nat → Int32 → Int32 → Int32 → xh_H → xh_R Int32} (hk10 : K_X7_bars_10 p l e s m args below meth c D g R rv hF k10) : ∀ (a0 : Option Nat) (a1 : Option Nat) (a2 : Int32) (a4 : Int32) (t0 : Int32) (h : xh_H) (H : Heap) (locs : List Loc) (cells slots kc ks : Nat) (ls : Array Slot), f_X7_bars_b77 N k10 a0 a1 a2 a4 t0 h = some (rv, hF, kc, ks) → xh_T D g s R h H locs cells slots kc ks → xh_L ls 6 [(0, va_rf a0), (1, va_rf a1), (2, .int a2), (4, .int a4)] → W p l e R s m args below meth c H locs cells slots (MQ below (xh_Q D g (some (.int rv)) hF) args s R.cells R.slots (xh_A g)) (F0 m 77 ls [.int t0]) := by
  intro a0 a1 a2 a4 t0 h H locs cells slots kc ks ls hf hS hl
  have hx := C.1
  have hb := C.2.1
  unfold f_X7_bars_b77 at hf
  refine lv_iconst (v := 0) hx hb dX7_bars_77 xi_c0 ?_
  exact w_X7_bars_b78 C hr hR N hk10 a0 a1 a2 a4 t0 (0 : Int32) h H locs cells slots kc ks ls hf hS (hl.sub [0, 1, 2, 3] rfl)
theorem w_X7_bars_b73 (C : xh_C cX7_bars 6 "SungSlides$Judge" D g p s m args meth c) (hr : meth.sig.returnType = (Option.some Jvm.ClassFile.FieldType.int)) (hR : 2 ≤ R.frames ∧ 47 ≤ R.locals) {rv : Int32} {hF : xh_H} (N : Nat) {k10 : Option Nat → Option Nat → Int32 → Int32 → Int32 → xh_H → xh_R Int32} (hk10 : K_X7_bars_10 p l e s m args below meth c D g R rv hF k10) : ∀ (a0 : Option Nat) (a1 : Option Nat) (a2 : Int32) (a4 : Int32) (t0 : Int32) (h : xh_H) (H : Heap) (locs : List Loc) (cells slots kc ks : Nat) (ls : Array Slot), f_X7_bars_b73 N k10 a0 a1 a2 a4 t0 h = some (rv, hF, kc, ks) → xh_T D g s R h H locs cells slots kc ks → xh_L ls 6 [(0, va_rf a0), (1, va_rf a1), (2, .int a2), (4, .int a4)] → W p l e R s m args below meth c H locs cells slots (MQ below (xh_Q D g (some (.int rv)) hF) args s R.cells R.slots (xh_A g)) (F0 m 73 ls [.int t0]) := by
  intro a0 a1 a2 a4 t0 h H locs cells slots kc ks ls hf hS hl
  have hx := C.1
  have hb := C.2.1
  unfold f_X7_bars_b73 at hf
  refine lv_iconst (v := 1) hx hb dX7_bars_73 xi_c1 ?_
  refine lv_goto (tgt := 78) hx hb dX7_bars_74 (by decide) ?_
  exact w_X7_bars_b78 C hr hR N hk10 a0 a1 a2 a4 t0 (1 : Int32) h H locs cells slots kc ks ls hf hS (hl.sub [0, 1, 2, 3] rfl)
theorem w_X7_bars_b39 (C : xh_C cX7_bars 6 "SungSlides$Judge" D g p s m args meth c) (hr : meth.sig.returnType = (Option.some Jvm.ClassFile.FieldType.int)) (hR : 2 ≤ R.frames ∧ 47 ≤ R.locals) {rv : Int32} {hF : xh_H} (N : Nat) {k10 : Option Nat → Option Nat → Int32 → Int32 → Int32 → xh_H → xh_R Int32} (hk10 : K_X7_bars_10 p l e s m args below meth c D g R rv hF k10) : ∀ (a0 : Option Nat) (a1 : Option Nat) (a2 : Int32) (a3 : Int32) (a4 : Int32) (t0 : Int32) (h : xh_H) (H : Heap) (locs : List Loc) (cells slots kc ks : Nat) (ls : Array Slot), f_X7_bars_b39 N k10 a0 a1 a2 a3 a4 t0 h = some (rv, hF, kc, ks) → xh_T D g s R h H locs cells slots kc ks → xh_L ls 6 [(0, va_rf a0), (1, va_rf a1), (2, .int a2), (3, .int a3), (4, .int a4)] → W p l e R s m args below meth c H locs cells slots (MQ below (xh_Q D g (some (.int rv)) hF) args s R.cells R.slots (xh_A g)) (F0 m 39 ls [.int t0]) := by
  intro a0 a1 a2 a3 a4 t0 h H locs cells slots kc ks ls hf hS hl
  have hx := C.1
  have hb := C.2.1
  unfold f_X7_bars_b39 at hf
  refine xr_istore C dX7_bars_39 hl (Nat.le_of_ble_eq_true rfl) (lv' := [(5, .int t0), (0, va_rf a0), (1, va_rf a1), (2, .int a2), (3, .int a3), (4, .int a4)]) rfl (fun ls hl => ?_)
  refine lv_iload_n hx hb dX7_bars_41 rfl (hl.at 4 rfl) ?_
  refine lv_iload hx hb dX7_bars_42 (hl.at 0 rfl) ?_
  refine lv_if_eq (tgt := 77) hx hb dX7_bars_44 (by decide) (fun c44 => ?_) (fun c44 => ?_)
  · replace hf := xb_pos c44 hf
    exact w_X7_bars_b77 C hr hR N hk10 a0 a1 a2 a4 a3 h H locs cells slots kc ks ls hf hS (hl.sub [1, 2, 3, 5] rfl)
  · replace hf := xb_neg c44 hf
    refine lv_iload_n hx hb dX7_bars_47 rfl (hl.at 3 rfl) ?_
    refine lv_if_eq (tgt := 73) hx hb dX7_bars_48 (by decide) (fun c48 => ?_) (fun c48 => ?_)
    · replace hf := xb_pos c48 hf
      exact w_X7_bars_b73 C hr hR N hk10 a0 a1 a2 a4 a3 h H locs cells slots kc ks ls hf hS (hl.sub [1, 2, 3, 5] rfl)
    · replace hf := xb_neg c48 hf
      refine xr_aload_n C dX7_bars_51 rfl (hl.at 1 rfl) ?_
      refine xr_aload_n C dX7_bars_52 rfl (hl.at 2 rfl) ?_
      refine lv_iload hx hb dX7_bars_53 (hl.at 5 rfl) ?_
      refine xr_V (V := fun v => some (.int v)) (n := 2) (fr := 1) (lo := 24) (As := [va_rf a1, .int a4]) C hS xf_X7 (lw_V q641 q643 qs12 q74 q644) hdv_X7_matches ⟨Nat.le_trans (Nat.le_of_ble_eq_true rfl) hR.1, Nat.le_trans (Nat.le_of_ble_eq_true rfl) hR.2⟩ rfl hl.1.1 rfl (xm_rc rfl xm_r0) hf (fun v h1 k1 n1 e1 => ct_X7_matches l D N e1) dX7_bars_55 (fun x55 h H locs cells slots kc ks hS hf => ?_)
      refine W.eq (g2 := F0 m 58 ls [.int x55, .int a3]) rfl ?_
      refine lv_if_eq (tgt := 77) hx hb dX7_bars_58 (by decide) (fun c58 => ?_) (fun c58 => ?_)
      · replace hf := xb_pos c58 hf
        exact w_X7_bars_b77 C hr hR N hk10 a0 a1 a2 a4 a3 h H locs cells slots kc ks ls hf hS (hl.sub [1, 2, 3, 5] rfl)
      · replace hf := xb_neg c58 hf
        refine xr_aload_n C dX7_bars_61 rfl (hl.at 1 rfl) ?_
        refine xr_aload_n C dX7_bars_62 rfl (hl.at 2 rfl) ?_
        refine lv_iload hx hb dX7_bars_63 (hl.at 5 rfl) ?_
        refine lv_iconst (v := 1) hx hb dX7_bars_65 xi_c1 ?_
        refine lv_isub hx hb dX7_bars_66 ?_
        refine xr_V (V := fun v => some (.int v)) (n := 2) (fr := 1) (lo := 24) (As := [va_rf a1, .int (a4 - (1 : Int32))]) C hS xf_X7 (lw_V q641 q643 qs12 q74 q644) hdv_X7_matches ⟨Nat.le_trans (Nat.le_of_ble_eq_true rfl) hR.1, Nat.le_trans (Nat.le_of_ble_eq_true rfl) hR.2⟩ rfl hl.1.1 rfl (xm_rc rfl xm_r0) hf (fun v h1 k1 n1 e1 => ct_X7_matches l D N e1) dX7_bars_67 (fun x67 h H locs cells slots kc ks hS hf => ?_)
        refine W.eq (g2 := F0 m 70 ls [.int x67, .int a3]) rfl ?_
        refine lv_if_eq (tgt := 77) hx hb dX7_bars_70 (by decide) (fun c70 => ?_) (fun c70 => ?_)
        · replace hf := xb_pos c70 hf
          exact w_X7_bars_b77 C hr hR N hk10 a0 a1 a2 a4 a3 h H locs cells slots kc ks ls hf hS (hl.sub [1, 2, 3, 5] rfl)
        · replace hf := xb_neg c70 hf
          exact w_X7_bars_b73 C hr hR N hk10 a0 a1 a2 a4 a3 h H locs cells slots kc ks ls hf hS (hl.sub [1, 2, 3, 5] rfl)
theorem w_X7_bars_b10 (C : xh_C cX7_bars 6 "SungSlides$Judge" D g p s m args meth c) (hr : meth.sig.returnType = (Option.some Jvm.ClassFile.FieldType.int)) (hR : 2 ≤ R.frames ∧ 47 ≤ R.locals) {rv : Int32} {hF : xh_H} (N : Nat) {k10 : Option Nat → Option Nat → Int32 → Int32 → Int32 → xh_H → xh_R Int32} (hk10 : K_X7_bars_10 p l e s m args below meth c D g R rv hF k10) : ∀ (a0 : Option Nat) (a1 : Option Nat) (a2 : Int32) (a3 : Int32) (a4 : Int32) (h : xh_H) (H : Heap) (locs : List Loc) (cells slots kc ks : Nat) (ls : Array Slot), f_X7_bars_b10 N k10 a0 a1 a2 a3 a4 h = some (rv, hF, kc, ks) → xh_T D g s R h H locs cells slots kc ks → xh_L ls 6 [(0, va_rf a0), (1, va_rf a1), (2, .int a2), (3, .int a3), (4, .int a4)] → W p l e R s m args below meth c H locs cells slots (MQ below (xh_Q D g (some (.int rv)) hF) args s R.cells R.slots (xh_A g)) (F0 m 10 ls []) := by
  intro a0 a1 a2 a3 a4 h H locs cells slots kc ks ls hf hS hl
  have hx := C.1
  have hb := C.2.1
  unfold f_X7_bars_b10 at hf
  refine lv_iload hx hb dX7_bars_10 (hl.at 4 rfl) ?_
  refine xr_aload_n C dX7_bars_12 rfl (hl.at 1 rfl) ?_
  refine xr_V (V := fun v => some (.int v)) (n := 0) (fr := 0) (lo := 0) (As := []) C hS xf_X5 (lw_V q640 q378 q379 q72 q380) hdv_X5_end ⟨Nat.le_trans (Nat.le_of_ble_eq_true rfl) hR.1, Nat.le_trans (Nat.le_of_ble_eq_true rfl) hR.2⟩ rfl hl.1.1 rfl (xm_rc rfl xm_r0) hf (fun v h1 k1 n1 e1 => ct_X5_end l D N e1) dX7_bars_13 (fun x13 h H locs cells slots kc ks hS hf => ?_)
  refine W.eq (g2 := F0 m 16 ls [.int x13, .int a4]) rfl ?_
  refine lv_icmp_ge (tgt := 86) hx hb dX7_bars_16 (by decide) (fun c16 => ?_) (fun c16 => ?_)
  · replace hf := xb_pos c16 hf
    exact w_X7_bars_b86 C hr hR N a3  h H locs cells slots kc ks ls hf hS (hl.sub [3] rfl)
  · replace hf := xb_neg c16 hf
    refine lv_iload hx hb dX7_bars_19 (hl.at 4 rfl) ?_
    refine xr_aload_n C dX7_bars_21 rfl (hl.at 0 rfl) ?_
    refine xr_getR C hS xf_X7 0 (by decide) q601 (fun _ h => h) hf dX7_bars_22 (fun x22 hf => ?_)
    refine xr_getNR C hS xf_X1 2 (by decide) xn_q128 rfl hf dX7_bars_25 (fun x25 hf => ?_)
    refine lv_iconst (v := 0) hx hb dX7_bars_28 xi_c0 ?_
    refine xr_iald C hS hf dX7_bars_29 (fun x29 hf => ?_)
    obtain ⟨c30, hf⟩ := xb_nif hf
    refine lv_irem hx hb dX7_bars_30 c30 ?_
    refine lv_if_ne (tgt := 38) hx hb dX7_bars_31 (by decide) (fun c31 => ?_) (fun c31 => ?_)
    · replace hf := xb_neg c31 hf
      refine lv_iconst (v := 0) hx hb dX7_bars_38 xi_c0 ?_
      exact w_X7_bars_b39 C hr hR N hk10 a0 a1 a2 a3 a4 (0 : Int32) h H locs cells slots kc ks ls hf hS (hl.sub [0, 1, 2, 3, 4] rfl)
    · replace hf := xb_pos c31 hf
      refine lv_iconst (v := 1) hx hb dX7_bars_34 xi_c1 ?_
      refine lv_goto (tgt := 39) hx hb dX7_bars_35 (by decide) ?_
      exact w_X7_bars_b39 C hr hR N hk10 a0 a1 a2 a3 a4 (1 : Int32) h H locs cells slots kc ks ls hf hS (hl.sub [0, 1, 2, 3, 4] rfl)
theorem w_X7_bars_l10 (C : xh_C cX7_bars 6 "SungSlides$Judge" D g p s m args meth c) (hr : meth.sig.returnType = (Option.some Jvm.ClassFile.FieldType.int)) (hR : 2 ≤ R.frames ∧ 47 ≤ R.locals) {rv : Int32} {hF : xh_H} (N : Nat) : ∀ n : Nat, K_X7_bars_10 p l e s m args below meth c D g R rv hF (f_X7_bars_l10 N n) := by
  intro n
  induction n with
  | zero => exact fun a0 a1 a2 a3 a4 h H locs cells slots kc ks ls hf => absurd (show (none : xh_R Int32) = some _ from hf) (by intro q; cases q)
  | succ n ih => exact fun a0 a1 a2 a3 a4 h H locs cells slots kc ks ls hf => w_X7_bars_b10 C hr hR N ih a0 a1 a2 a3 a4 h H locs cells slots kc ks ls hf
/-- SungSlides$Judge.bars(LSungSlides$Syllable;Z)I -/
theorem w_X7_bars (C : xh_C cX7_bars 6 "SungSlides$Judge" D g p s m args meth c) (hr : meth.sig.returnType = (Option.some Jvm.ClassFile.FieldType.int)) (hR : 2 ≤ R.frames ∧ 47 ≤ R.locals) {rv : Int32} {hF : xh_H} (N : Nat) (a0 : Option Nat) (a1 : Option Nat) (a2 : Int32)  (h : xh_H) (H : Heap) (locs : List Loc) (cells slots kc ks : Nat) (ls : Array Slot) (hf : f_X7_bars N a0 a1 a2 h = some (rv, hF, kc, ks)) (hS : xh_T D g s R h H locs cells slots kc ks) (hl : xh_L ls 6 [(0, va_rf a0), (1, va_rf a1), (2, .int a2)]) : W p l e R s m args below meth c H locs cells slots (MQ below (xh_Q D g (some (.int rv)) hF) args s R.cells R.slots (xh_A g)) (F0 m 0 ls []) := by
  have hx := C.1
  have hb := C.2.1
  unfold f_X7_bars at hf
  refine lv_iconst (v := 0) hx hb dX7_bars_0 xi_c0 ?_
  refine xr_istore_n C dX7_bars_1 rfl hl (Nat.le_of_ble_eq_true rfl) (lv' := [(3, .int (0 : Int32)), (0, va_rf a0), (1, va_rf a1), (2, .int a2)]) rfl (fun ls hl => ?_)
  refine xr_aload_n C dX7_bars_2 rfl (hl.at 2 rfl) ?_
  refine xr_getNI C hS xf_X5 0 (by decide) xn_q447 rfl hf dX7_bars_3 (fun x3 hf => ?_)
  refine lv_iconst (v := 1) hx hb dX7_bars_6 xi_c1 ?_
  refine lv_iadd hx hb dX7_bars_7 ?_
  refine xr_istore C dX7_bars_8 hl (Nat.le_of_ble_eq_true rfl) (lv' := [(4, .int (x3 + (1 : Int32))), (3, .int (0 : Int32)), (0, va_rf a0), (1, va_rf a1), (2, .int a2)]) rfl (fun ls hl => ?_)
  exact w_X7_bars_l10 C hr hR N N a0 a1 a2 (0 : Int32) (x3 + (1 : Int32))  h H locs cells slots kc ks ls hf hS (hl.sub [2, 3, 4, 1, 0] rfl)
theorem ct_X7_bars (l : Launch) (D : xh_D) {rv : Int32} {h hF : xh_H} {kc ks : Nat} (N : Nat) {a0 : Option Nat} {a1 : Option Nat} {a2 : Int32} (hf : f_X7_bars N a0 a1 a2 h = some (rv, hF, kc, ks)) : xh_Ct l D yX7_bars (ws_ yX7_bars cX7_bars 6 (Option.some Jvm.ClassFile.FieldType.int)) 2 47 [va_rf a0, va_rf a1, .int a2] h (some (.int rv)) hF kc ks :=
  xh_meth (cc := cX7_bars) l (by decide) (Nat.le_of_ble_eq_true rfl) (List.forall_mem_cons.mpr ⟨va_rf_cat _, List.forall_mem_cons.mpr ⟨va_rf_cat _, List.forall_mem_cons.mpr ⟨rfl, fun _ h => absurd h List.not_mem_nil⟩⟩⟩) fun p e s m below meth c ls C hr hnm hl hS => w_X7_bars C hr ⟨Nat.le_refl _, Nat.le_refl _⟩ N a0 a1 a2 h _ _ _ _ _ _ _ hf hS hl
theorem w_X7_isOnset_b42 (C : xh_C cX7_isOnset 2 "SungSlides$Judge" D g p s m args meth c) (hr : meth.sig.returnType = (Option.some Jvm.ClassFile.FieldType.boolean)) (hR : 2 ≤ R.frames ∧ 42 ≤ R.locals) {rv : Int32} {hF : xh_H} (N : Nat) : ∀ (h : xh_H) (H : Heap) (locs : List Loc) (cells slots kc ks : Nat) (ls : Array Slot), f_X7_isOnset_b42 N  h = some (rv, hF, kc, ks) → xh_T D g s R h H locs cells slots kc ks → xh_L ls 2 [] → W p l e R s m args below meth c H locs cells slots (MQ below (xh_Q D g (some (.int rv)) hF) args s R.cells R.slots (xh_A g)) (F0 m 42 ls []) := by
  intro  h H locs cells slots kc ks ls hf hS hl
  have hx := C.1
  have hb := C.2.1
  unfold f_X7_isOnset_b42 at hf
  refine lv_iconst (v := 0) hx hb dX7_isOnset_42 xi_c0 ?_
  exact xr_zret1 C hS hr (by decide) hf dX7_isOnset_43
theorem w_X7_isOnset_b38 (C : xh_C cX7_isOnset 2 "SungSlides$Judge" D g p s m args meth c) (hr : meth.sig.returnType = (Option.some Jvm.ClassFile.FieldType.boolean)) (hR : 2 ≤ R.frames ∧ 42 ≤ R.locals) {rv : Int32} {hF : xh_H} (N : Nat) : ∀ (h : xh_H) (H : Heap) (locs : List Loc) (cells slots kc ks : Nat) (ls : Array Slot), f_X7_isOnset_b38 N  h = some (rv, hF, kc, ks) → xh_T D g s R h H locs cells slots kc ks → xh_L ls 2 [] → W p l e R s m args below meth c H locs cells slots (MQ below (xh_Q D g (some (.int rv)) hF) args s R.cells R.slots (xh_A g)) (F0 m 38 ls []) := by
  intro  h H locs cells slots kc ks ls hf hS hl
  have hx := C.1
  have hb := C.2.1
  unfold f_X7_isOnset_b38 at hf
  refine lv_iconst (v := 1) hx hb dX7_isOnset_38 xi_c1 ?_
  refine lv_goto (tgt := 43) hx hb dX7_isOnset_39 (by decide) ?_
  exact xr_zret1 C hS hr (by decide) hf dX7_isOnset_43
/-- SungSlides$Judge.isOnset(I)Z -/
theorem w_X7_isOnset (C : xh_C cX7_isOnset 2 "SungSlides$Judge" D g p s m args meth c) (hr : meth.sig.returnType = (Option.some Jvm.ClassFile.FieldType.boolean)) (hR : 2 ≤ R.frames ∧ 42 ≤ R.locals) {rv : Int32} {hF : xh_H} (N : Nat) (a0 : Option Nat) (a1 : Int32)  (h : xh_H) (H : Heap) (locs : List Loc) (cells slots kc ks : Nat) (ls : Array Slot) (hf : f_X7_isOnset N a0 a1 h = some (rv, hF, kc, ks)) (hS : xh_T D g s R h H locs cells slots kc ks) (hl : xh_L ls 2 [(0, va_rf a0), (1, .int a1)]) : W p l e R s m args below meth c H locs cells slots (MQ below (xh_Q D g (some (.int rv)) hF) args s R.cells R.slots (xh_A g)) (F0 m 0 ls []) := by
  have hx := C.1
  have hb := C.2.1
  unfold f_X7_isOnset at hf
  refine lv_iload_n hx hb dX7_isOnset_0 rfl (hl.at 1 rfl) ?_
  refine xr_SN (V := fun v => some (.int v)) (n := 1) (fr := 1) (lo := 22) (As := [.int a1]) C hS xn_q661 q588 q55 q589 hd_X0_isTick ⟨Nat.le_trans (Nat.le_of_ble_eq_true rfl) hR.1, Nat.le_trans (Nat.le_of_ble_eq_true rfl) hR.2⟩ rfl hl.1.1 rfl xm_r0 hf (fun v h1 k1 n1 e1 => ct_X0_isTick l D N e1) dX7_isOnset_1 (fun x1 h H locs cells slots kc ks hS hf => ?_)
  refine W.eq (g2 := F0 m 4 ls [.int x1]) rfl ?_
  refine lv_if_eq (tgt := 42) hx hb dX7_isOnset_4 (by decide) (fun c4 => ?_) (fun c4 => ?_)
  · replace hf := xb_pos c4 hf
    exact w_X7_isOnset_b42 C hr hR N  h H locs cells slots kc ks ls hf hS (hl.sub [] rfl)
  · replace hf := xb_neg c4 hf
    refine xr_aload_n C dX7_isOnset_7 rfl (hl.at 0 rfl) ?_
    refine xr_getR C hS xf_X7 6 (by decide) q612 (fun _ h => h) hf dX7_isOnset_8 (fun x8 hf => ?_)
    refine lv_iload_n hx hb dX7_isOnset_11 rfl (hl.at 1 rfl) ?_
    refine xr_iald C hS hf dX7_isOnset_12 (fun x12 hf => ?_)
    refine lv_iconst (v := -1) hx hb dX7_isOnset_13 xi_cm1 ?_
    refine lv_icmp_eq (tgt := 42) hx hb dX7_isOnset_14 (by decide) (fun c14 => ?_) (fun c14 => ?_)
    · replace hf := xb_pos c14 hf
      exact w_X7_isOnset_b42 C hr hR N  h H locs cells slots kc ks ls hf hS (hl.sub [] rfl)
    · replace hf := xb_neg c14 hf
      refine lv_iload_n hx hb dX7_isOnset_17 rfl (hl.at 1 rfl) ?_
      refine lv_if_eq (tgt := 38) hx hb dX7_isOnset_18 (by decide) (fun c18 => ?_) (fun c18 => ?_)
      · replace hf := xb_pos c18 hf
        exact w_X7_isOnset_b38 C hr hR N  h H locs cells slots kc ks ls hf hS (hl.sub [] rfl)
      · replace hf := xb_neg c18 hf
        refine xr_aload_n C dX7_isOnset_21 rfl (hl.at 0 rfl) ?_
        refine xr_getR C hS xf_X7 6 (by decide) q612 (fun _ h => h) hf dX7_isOnset_22 (fun x22 hf => ?_)
        refine lv_iload_n hx hb dX7_isOnset_25 rfl (hl.at 1 rfl) ?_
        refine lv_iconst (v := 1) hx hb dX7_isOnset_26 xi_c1 ?_
        refine lv_isub hx hb dX7_isOnset_27 ?_
        refine xr_iald C hS hf dX7_isOnset_28 (fun x28 hf => ?_)
        refine xr_aload_n C dX7_isOnset_29 rfl (hl.at 0 rfl) ?_
        refine xr_getR C hS xf_X7 6 (by decide) q612 (fun _ h => h) hf dX7_isOnset_30 (fun x30 hf => ?_)
        refine lv_iload_n hx hb dX7_isOnset_33 rfl (hl.at 1 rfl) ?_
        refine xr_iald C hS hf dX7_isOnset_34 (fun x34 hf => ?_)
        refine lv_icmp_eq (tgt := 42) hx hb dX7_isOnset_35 (by decide) (fun c35 => ?_) (fun c35 => ?_)
        · replace hf := xb_pos c35 hf
          exact w_X7_isOnset_b42 C hr hR N  h H locs cells slots kc ks ls hf hS (hl.sub [] rfl)
        · replace hf := xb_neg c35 hf
          exact w_X7_isOnset_b38 C hr hR N  h H locs cells slots kc ks ls hf hS (hl.sub [] rfl)
theorem ct_X7_isOnset (l : Launch) (D : xh_D) {rv : Int32} {h hF : xh_H} {kc ks : Nat} (N : Nat) {a0 : Option Nat} {a1 : Int32} (hf : f_X7_isOnset N a0 a1 h = some (rv, hF, kc, ks)) : xh_Ct l D yX7_isOnset (ws_ yX7_isOnset cX7_isOnset 2 (Option.some Jvm.ClassFile.FieldType.boolean)) 2 42 [va_rf a0, .int a1] h (some (.int rv)) hF kc ks :=
  xh_meth (cc := cX7_isOnset) l (by decide) (Nat.le_of_ble_eq_true rfl) (List.forall_mem_cons.mpr ⟨va_rf_cat _, List.forall_mem_cons.mpr ⟨rfl, fun _ h => absurd h List.not_mem_nil⟩⟩) fun p e s m below meth c ls C hr hnm hl hS => w_X7_isOnset C hr ⟨Nat.le_refl _, Nat.le_refl _⟩ N a0 a1 h _ _ _ _ _ _ _ hf hS hl
def K_X7_onset_2 (p : Program) (l : Launch) (e : Env) (s : State) (m : MethodId) (args : Array Value) (below : List Frame) (meth : Method) (c : Code) (D : xh_D) (g : Nat → Nat) (R : Room) (rv : Int32) (hF : xh_H) (k : Option Nat → Option Nat → Int32 → xh_H → xh_R Int32) : Prop := ∀ (a0 : Option Nat) (a1 : Option Nat) (a2 : Int32) (h : xh_H) (H : Heap) (locs : List Loc) (cells slots kc ks : Nat) (ls : Array Slot), k a0 a1 a2 h = some (rv, hF, kc, ks) → xh_T D g s R h H locs cells slots kc ks → xh_L ls 3 [(0, va_rf a0), (1, va_rf a1), (2, .int a2)] → W p l e R s m args below meth c H locs cells slots (MQ below (xh_Q D g (some (.int rv)) hF) args s R.cells R.slots (xh_A g)) (F0 m 2 ls [])
theorem w_X7_onset_b61 (C : xh_C cX7_onset 3 "SungSlides$Judge" D g p s m args meth c) (hr : meth.sig.returnType = (Option.some Jvm.ClassFile.FieldType.int)) (hR : 3 ≤ R.frames ∧ 63 ≤ R.locals) {rv : Int32} {hF : xh_H} (N : Nat) : ∀ (h : xh_H) (H : Heap) (locs : List Loc) (cells slots kc ks : Nat) (ls : Array Slot), f_X7_onset_b61 N  h = some (rv, hF, kc, ks) → xh_T D g s R h H locs cells slots kc ks → xh_L ls 3 [] → W p l e R s m args below meth c H locs cells slots (MQ below (xh_Q D g (some (.int rv)) hF) args s R.cells R.slots (xh_A g)) (F0 m 61 ls []) := by
  intro  h H locs cells slots kc ks ls hf hS hl
  have hx := C.1
  have hb := C.2.1
  unfold f_X7_onset_b61 at hf
  refine lv_bipush (v := -5) hx hb dX7_onset_61 xi_bm5 ?_
  exact xr_iret C hS hr hf dX7_onset_63
theorem w_X7_onset_b48 (C : xh_C cX7_onset 3 "SungSlides$Judge" D g p s m args meth c) (hr : meth.sig.returnType = (Option.some Jvm.ClassFile.FieldType.int)) (hR : 3 ≤ R.frames ∧ 63 ≤ R.locals) {rv : Int32} {hF : xh_H} (N : Nat) : ∀ (a1 : Option Nat) (a2 : Int32) (h : xh_H) (H : Heap) (locs : List Loc) (cells slots kc ks : Nat) (ls : Array Slot), f_X7_onset_b48 N a1 a2 h = some (rv, hF, kc, ks) → xh_T D g s R h H locs cells slots kc ks → xh_L ls 3 [(1, va_rf a1), (2, .int a2)] → W p l e R s m args below meth c H locs cells slots (MQ below (xh_Q D g (some (.int rv)) hF) args s R.cells R.slots (xh_A g)) (F0 m 48 ls []) := by
  intro a1 a2 h H locs cells slots kc ks ls hf hS hl
  have hx := C.1
  have hb := C.2.1
  unfold f_X7_onset_b48 at hf
  refine xr_aload_n C dX7_onset_48 rfl (hl.at 0 rfl) ?_
  refine xr_getNI C hS xf_X5 0 (by decide) xn_q447 rfl hf dX7_onset_49 (fun x49 hf => ?_)
  refine lv_iload_n hx hb dX7_onset_52 rfl (hl.at 1 rfl) ?_
  refine lv_iadd hx hb dX7_onset_53 ?_
  exact xr_iret C hS hr hf dX7_onset_54
theorem w_X7_onset_b28 (C : xh_C cX7_onset 3 "SungSlides$Judge" D g p s m args meth c) (hr : meth.sig.returnType = (Option.some Jvm.ClassFile.FieldType.int)) (hR : 3 ≤ R.frames ∧ 63 ≤ R.locals) {rv : Int32} {hF : xh_H} (N : Nat) : ∀ (a1 : Option Nat) (a2 : Int32) (h : xh_H) (H : Heap) (locs : List Loc) (cells slots kc ks : Nat) (ls : Array Slot), f_X7_onset_b28 N a1 a2 h = some (rv, hF, kc, ks) → xh_T D g s R h H locs cells slots kc ks → xh_L ls 3 [(1, va_rf a1), (2, .int a2)] → W p l e R s m args below meth c H locs cells slots (MQ below (xh_Q D g (some (.int rv)) hF) args s R.cells R.slots (xh_A g)) (F0 m 28 ls []) := by
  intro a1 a2 h H locs cells slots kc ks ls hf hS hl
  have hx := C.1
  have hb := C.2.1
  unfold f_X7_onset_b28 at hf
  refine xr_aload_n C dX7_onset_28 rfl (hl.at 0 rfl) ?_
  refine xr_getNI C hS xf_X5 0 (by decide) xn_q447 rfl hf dX7_onset_29 (fun x29 hf => ?_)
  refine lv_iload_n hx hb dX7_onset_32 rfl (hl.at 1 rfl) ?_
  refine lv_isub hx hb dX7_onset_33 ?_
  exact xr_iret C hS hr hf dX7_onset_34
theorem w_X7_onset_b2 (C : xh_C cX7_onset 3 "SungSlides$Judge" D g p s m args meth c) (hr : meth.sig.returnType = (Option.some Jvm.ClassFile.FieldType.int)) (hR : 3 ≤ R.frames ∧ 63 ≤ R.locals) {rv : Int32} {hF : xh_H} (N : Nat) {k2 : Option Nat → Option Nat → Int32 → xh_H → xh_R Int32} (hk2 : K_X7_onset_2 p l e s m args below meth c D g R rv hF k2) : ∀ (a0 : Option Nat) (a1 : Option Nat) (a2 : Int32) (h : xh_H) (H : Heap) (locs : List Loc) (cells slots kc ks : Nat) (ls : Array Slot), f_X7_onset_b2 N k2 a0 a1 a2 h = some (rv, hF, kc, ks) → xh_T D g s R h H locs cells slots kc ks → xh_L ls 3 [(0, va_rf a0), (1, va_rf a1), (2, .int a2)] → W p l e R s m args below meth c H locs cells slots (MQ below (xh_Q D g (some (.int rv)) hF) args s R.cells R.slots (xh_A g)) (F0 m 2 ls []) := by
  intro a0 a1 a2 h H locs cells slots kc ks ls hf hS hl
  have hx := C.1
  have hb := C.2.1
  unfold f_X7_onset_b2 at hf
  refine lv_iload_n hx hb dX7_onset_2 rfl (hl.at 2 rfl) ?_
  refine xr_aload_n C dX7_onset_3 rfl (hl.at 0 rfl) ?_
  refine xr_getR C hS xf_X7 0 (by decide) q601 (fun _ h => h) hf dX7_onset_4 (fun x4 hf => ?_)
  refine xr_getNR C hS xf_X1 2 (by decide) xn_q128 rfl hf dX7_onset_7 (fun x7 hf => ?_)
  refine lv_iconst (v := 2) hx hb dX7_onset_10 xi_c2 ?_
  refine xr_iald C hS hf dX7_onset_11 (fun x11 hf => ?_)
  refine lv_icmp_gt (tgt := 61) hx hb dX7_onset_12 (by decide) (fun c12 => ?_) (fun c12 => ?_)
  · replace hf := xb_pos c12 hf
    exact w_X7_onset_b61 C hr hR N  h H locs cells slots kc ks ls hf hS (hl.sub [] rfl)
  · replace hf := xb_neg c12 hf
    refine xr_aload_n C dX7_onset_15 rfl (hl.at 0 rfl) ?_
    refine xr_aload_n C dX7_onset_16 rfl (hl.at 1 rfl) ?_
    refine xr_getNI C hS xf_X5 0 (by decide) xn_q447 rfl hf dX7_onset_17 (fun x17 hf => ?_)
    refine lv_iload_n hx hb dX7_onset_20 rfl (hl.at 2 rfl) ?_
    refine lv_isub hx hb dX7_onset_21 ?_
    refine xr_V (V := fun v => some (.int v)) (n := 1) (fr := 2) (lo := 42) (As := [.int (x17 - a2)]) C hS xf_X7 (lw_V q657 q659 qs14 q74 q660) hdv_X7_isOnset ⟨Nat.le_trans (Nat.le_of_ble_eq_true rfl) hR.1, Nat.le_trans (Nat.le_of_ble_eq_true rfl) hR.2⟩ rfl hl.1.1 rfl xm_r0 hf (fun v h1 k1 n1 e1 => ct_X7_isOnset l D N e1) dX7_onset_22 (fun x22 h H locs cells slots kc ks hS hf => ?_)
    refine W.eq (g2 := F0 m 25 ls [.int x22]) rfl ?_
    refine lv_if_eq (tgt := 35) hx hb dX7_onset_25 (by decide) (fun c25 => ?_) (fun c25 => ?_)
    · replace hf := xb_pos c25 hf
      refine xr_aload_n C dX7_onset_35 rfl (hl.at 0 rfl) ?_
      refine xr_aload_n C dX7_onset_36 rfl (hl.at 1 rfl) ?_
      refine xr_getNI C hS xf_X5 0 (by decide) xn_q447 rfl hf dX7_onset_37 (fun x37 hf => ?_)
      refine lv_iload_n hx hb dX7_onset_40 rfl (hl.at 2 rfl) ?_
      refine lv_iadd hx hb dX7_onset_41 ?_
      refine xr_V (V := fun v => some (.int v)) (n := 1) (fr := 2) (lo := 42) (As := [.int (x37 + a2)]) C hS xf_X7 (lw_V q657 q659 qs14 q74 q660) hdv_X7_isOnset ⟨Nat.le_trans (Nat.le_of_ble_eq_true rfl) hR.1, Nat.le_trans (Nat.le_of_ble_eq_true rfl) hR.2⟩ rfl hl.1.1 rfl xm_r0 hf (fun v h1 k1 n1 e1 => ct_X7_isOnset l D N e1) dX7_onset_42 (fun x42 h H locs cells slots kc ks hS hf => ?_)
      refine W.eq (g2 := F0 m 45 ls [.int x42]) rfl ?_
      refine lv_if_eq (tgt := 55) hx hb dX7_onset_45 (by decide) (fun c45 => ?_) (fun c45 => ?_)
      · replace hf := xb_pos c45 hf
        refine xr_iinc C dX7_onset_55 hl (k := 2) rfl (xi_inc xi_c1) (Nat.le_of_ble_eq_true rfl) (lv' := [(2, .int (a2 + (1 : Int32))), (0, va_rf a0), (1, va_rf a1)]) rfl (fun ls hl => ?_)
        refine lv_goto (tgt := 2) hx hb dX7_onset_58 (by decide) ?_
        exact hk2 a0 a1 (a2 + (1 : Int32))  h H locs cells slots kc ks ls hf hS (hl.sub [1, 2, 0] rfl)
      · replace hf := xb_neg c45 hf
        exact w_X7_onset_b48 C hr hR N a1 a2  h H locs cells slots kc ks ls hf hS (hl.sub [1, 2] rfl)
    · replace hf := xb_neg c25 hf
      exact w_X7_onset_b28 C hr hR N a1 a2  h H locs cells slots kc ks ls hf hS (hl.sub [1, 2] rfl)
theorem w_X7_onset_l2 (C : xh_C cX7_onset 3 "SungSlides$Judge" D g p s m args meth c) (hr : meth.sig.returnType = (Option.some Jvm.ClassFile.FieldType.int)) (hR : 3 ≤ R.frames ∧ 63 ≤ R.locals) {rv : Int32} {hF : xh_H} (N : Nat) : ∀ n : Nat, K_X7_onset_2 p l e s m args below meth c D g R rv hF (f_X7_onset_l2 N n) := by
  intro n
  induction n with
  | zero => exact fun a0 a1 a2 h H locs cells slots kc ks ls hf => absurd (show (none : xh_R Int32) = some _ from hf) (by intro q; cases q)
  | succ n ih => exact fun a0 a1 a2 h H locs cells slots kc ks ls hf => w_X7_onset_b2 C hr hR N ih a0 a1 a2 h H locs cells slots kc ks ls hf
/-- SungSlides$Judge.onset(LSungSlides$Syllable;)I -/
theorem w_X7_onset (C : xh_C cX7_onset 3 "SungSlides$Judge" D g p s m args meth c) (hr : meth.sig.returnType = (Option.some Jvm.ClassFile.FieldType.int)) (hR : 3 ≤ R.frames ∧ 63 ≤ R.locals) {rv : Int32} {hF : xh_H} (N : Nat) (a0 : Option Nat) (a1 : Option Nat)  (h : xh_H) (H : Heap) (locs : List Loc) (cells slots kc ks : Nat) (ls : Array Slot) (hf : f_X7_onset N a0 a1 h = some (rv, hF, kc, ks)) (hS : xh_T D g s R h H locs cells slots kc ks) (hl : xh_L ls 3 [(0, va_rf a0), (1, va_rf a1)]) : W p l e R s m args below meth c H locs cells slots (MQ below (xh_Q D g (some (.int rv)) hF) args s R.cells R.slots (xh_A g)) (F0 m 0 ls []) := by
  have hx := C.1
  have hb := C.2.1
  unfold f_X7_onset at hf
  refine lv_iconst (v := 0) hx hb dX7_onset_0 xi_c0 ?_
  refine xr_istore_n C dX7_onset_1 rfl hl (Nat.le_of_ble_eq_true rfl) (lv' := [(2, .int (0 : Int32)), (0, va_rf a0), (1, va_rf a1)]) rfl (fun ls hl => ?_)
  exact w_X7_onset_l2 C hr hR N N a0 a1 (0 : Int32)  h H locs cells slots kc ks ls hf hS (hl.sub [1, 2, 0] rfl)
theorem ct_X7_onset (l : Launch) (D : xh_D) {rv : Int32} {h hF : xh_H} {kc ks : Nat} (N : Nat) {a0 : Option Nat} {a1 : Option Nat} (hf : f_X7_onset N a0 a1 h = some (rv, hF, kc, ks)) : xh_Ct l D yX7_onset (ws_ yX7_onset cX7_onset 3 (Option.some Jvm.ClassFile.FieldType.int)) 3 63 [va_rf a0, va_rf a1] h (some (.int rv)) hF kc ks :=
  xh_meth (cc := cX7_onset) l (by decide) (Nat.le_of_ble_eq_true rfl) (List.forall_mem_cons.mpr ⟨va_rf_cat _, List.forall_mem_cons.mpr ⟨va_rf_cat _, fun _ h => absurd h List.not_mem_nil⟩⟩) fun p e s m below meth c ls C hr hnm hl hS => w_X7_onset C hr ⟨Nat.le_refl _, Nat.le_refl _⟩ N a0 a1 h _ _ _ _ _ _ _ hf hS hl
end WALK
