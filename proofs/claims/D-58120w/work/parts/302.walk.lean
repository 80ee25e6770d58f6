/-! WALKS, printed by gen/walk.py -/
set_option maxRecDepth 100000
section WALK
variable {p : Program} {l : Launch} {e : Env} {s : State} {m : MethodId} {args : Array Value} {below : List Frame} {meth : Method} {c : Code} {D : xh_D} {g : Nat → Nat} {R : Room}
/-- java/util/ArrayList$Itr.next()Ljava/lang/Object; -/
theorem w_J3_next (C : xh_C cJ3_next 3 "java/util/ArrayList$Itr" D g p s m args meth c) (hr : meth.sig.returnType = (Option.some (Jvm.ClassFile.FieldType.object "java/lang/Object"))) (hR : 1 ≤ R.frames ∧ 20 ≤ R.locals) {rv : Option Nat} {hF : xh_H} (N : Nat) (a0 : Option Nat)  (h : xh_H) (H : Heap) (locs : List Loc) (cells slots kc ks : Nat) (ls : Array Slot) (hf : f_J3_next N a0 h = some (rv, hF, kc, ks)) (hS : xh_T D g s R h H locs cells slots kc ks) (hl : xh_L ls 3 [(0, va_rf a0)]) : W p l e R s m args below meth c H locs cells slots (MQ below (xh_Q D g (some (va_rf rv)) hF) args s R.cells R.slots (xh_A g)) (F0 m 0 ls []) := by
  have hx := C.1
  have hb := C.2.1
  unfold f_J3_next at hf
  refine xr_aload_n C dJ3_next_0 rfl (hl.at 0 rfl) ?_
  refine xr_V (V := fun _ => none) (n := 0) (fr := 0) (lo := 0) (As := []) C hS xf_J3 (lw_V q261 q262 q263 q62 q264) hdv_J3_checkForComodification ⟨Nat.le_trans (Nat.le_of_ble_eq_true rfl) hR.1, Nat.le_trans (Nat.le_of_ble_eq_true rfl) hR.2⟩ rfl hl.1.1 rfl xm_r0 hf (fun v h1 k1 n1 e1 => ct_J3_checkForComodification l D N e1) dJ3_next_1 (fun _ h H locs cells slots kc ks hS hf => ?_)
  refine W.eq (g2 := F0 m 4 ls []) rfl ?_
  refine xr_aload_n C dJ3_next_4 rfl (hl.at 0 rfl) ?_
  refine xr_getI C hS xf_J3 0 (by decide) q229 (fun _ h => h) hf dJ3_next_5 (fun x5 hf => ?_)
  refine xr_istore_n C dJ3_next_8 rfl hl (Nat.le_of_ble_eq_true rfl) (lv' := [(1, .int x5), (0, va_rf a0)]) rfl (fun ls hl => ?_)
  refine lv_iload_n hx hb dJ3_next_9 rfl (hl.at 0 rfl) ?_
  refine xr_aload_n C dJ3_next_10 rfl (hl.at 1 rfl) ?_
  refine xr_getR C hS xf_J3 3 (by decide) q232 (fun _ h => h) hf dJ3_next_11 (fun x11 hf => ?_)
  refine xr_getNI C hS xf_J2 2 (by decide) xn_q108 rfl hf dJ3_next_14 (fun x14 hf => ?_)
  refine lv_icmp_lt (tgt := 28) hx hb dJ3_next_17 (by decide) (fun c17 => ?_) (fun c17 => ?_)
  · replace hf := xb_pos c17 hf
    refine xr_aload_n C dJ3_next_28 rfl (hl.at 1 rfl) ?_
    refine xr_getR C hS xf_J3 3 (by decide) q232 (fun _ h => h) hf dJ3_next_29 (fun x29 hf => ?_)
    refine xr_getR C hS xf_J2 1 (by decide) q107 (fun _ h => h) hf dJ3_next_32 (fun x32 hf => ?_)
    refine xr_astore_n C dJ3_next_35 rfl hl (Nat.le_of_ble_eq_true rfl) (lv' := [(2, va_rf x32), (1, .int x5), (0, va_rf a0)]) rfl (fun ls hl => ?_)
    refine lv_iload_n hx hb dJ3_next_36 rfl (hl.at 1 rfl) ?_
    refine xr_aload_n C dJ3_next_37 rfl (hl.at 0 rfl) ?_
    refine xr_lq C hS hf dJ3_next_38 (fun x38 hf => ?_)
    refine lv_icmp_lt (tgt := 50) hx hb dJ3_next_39 (by decide) (fun c39 => ?_) (fun c39 => ?_)
    · replace hf := xb_pos c39 hf
      refine xr_aload_n C dJ3_next_50 rfl (hl.at 2 rfl) ?_
      refine lv_iload_n hx hb dJ3_next_51 rfl (hl.at 1 rfl) ?_
      refine lv_iconst (v := 1) hx hb dJ3_next_52 xi_c1 ?_
      refine lv_iadd hx hb dJ3_next_53 ?_
      refine xr_put C hS xf_J3 0 (by decide) q229 (fun _ h => h) rfl xv_int hf dJ3_next_54 (fun h H locs hS hf => ?_)
      refine xr_aload_n C dJ3_next_57 rfl (hl.at 0 rfl) ?_
      refine xr_aload_n C dJ3_next_58 rfl (hl.at 2 rfl) ?_
      refine lv_iload_n hx hb dJ3_next_59 rfl (hl.at 1 rfl) ?_
      refine lv_dup_x1 hx hb dJ3_next_60 rfl (va_rf_cat _) ?_
      refine xr_put C hS xf_J3 1 (by decide) q230 (fun _ h => h) rfl xv_int hf dJ3_next_61 (fun h H locs hS hf => ?_)
      refine xr_aald C hS hf dJ3_next_64 (fun x64 hf => ?_)
      exact xr_aret C hS hr (Or.inl ⟨_, rfl⟩) hf dJ3_next_65
    · replace hf := xb_neg c39 hf
      cases hf
  · replace hf := xb_neg c17 hf
    cases hf
theorem ct_J3_next (l : Launch) (D : xh_D) {rv : Option Nat} {h hF : xh_H} {kc ks : Nat} (N : Nat) {a0 : Option Nat} (hf : f_J3_next N a0 h = some (rv, hF, kc, ks)) : xh_Ct l D yJ3_next (ws_ yJ3_next cJ3_next 3 (Option.some (Jvm.ClassFile.FieldType.object "java/lang/Object"))) 1 20 [va_rf a0] h (some (va_rf rv)) hF kc ks :=
  xh_meth (cc := cJ3_next) l (by decide) (Nat.le_of_ble_eq_true rfl) (List.forall_mem_cons.mpr ⟨va_rf_cat _, fun _ h => absurd h List.not_mem_nil⟩) fun p e s m below meth c ls C hr hnm hl hS => w_J3_next C hr ⟨Nat.le_refl _, Nat.le_refl _⟩ N a0 h _ _ _ _ _ _ _ hf hS hl
/-- SungSlides$Song.<init>([I[I)V -/
theorem w_X1_init_2 (C : xh_C cX1_init_2 3 "SungSlides$Song" D g p s m args meth c) (hr : meth.sig.returnType = (Option.none : Option Jvm.ClassFile.FieldType)) (hnm : meth.name = "<init>") (hR : 4 ≤ R.frames ∧ 80 ≤ R.locals) {rv : Unit} {hF : xh_H} (N : Nat) (a0 : Option Nat) (a1 : Option Nat) (a2 : Option Nat)  (h : xh_H) (H : Heap) (locs : List Loc) (cells slots kc ks : Nat) (ls : Array Slot) (hf : f_X1_init_2 N a0 a1 a2 h = some (rv, hF, kc, ks)) (hS : xh_T D g s R h H locs cells slots kc ks) (hl : xh_L ls 3 [(0, va_rf a0), (1, va_rf a1), (2, va_rf a2)]) : W p l e R s m args below meth c H locs cells slots (MQ below (xh_Q D g none hF) args s R.cells R.slots (xh_A g)) (F0 m 0 ls []) := by
  have hx := C.1
  have hb := C.2.1
  unfold f_X1_init_2 at hf
  refine xr_aload_n C dX1_init_2_0 rfl (hl.at 0 rfl) ?_
  refine xr_oi C hS q91 q81 q82 hl.1.1 ⟨Nat.le_trans (Nat.le_of_ble_eq_true rfl) hR.1, Nat.le_trans (Nat.le_of_ble_eq_true rfl) hR.2⟩ xm_r0 hf dX1_init_2_1 (fun hf => ?_)
  refine xr_aload_n C dX1_init_2_4 rfl (hl.at 0 rfl) ?_
  refine xr_new C hS xf_J2 q92 q93 q59 (fs := [.int 0, .null, .int 0]) rfl xd_J2 hf dX1_init_2_5 (fun x5 h H cells slots kc ks hS hf => ?_)
  refine lv_dup hx hb dX1_init_2_8 (va_rf_cat _) ?_
  refine xr_I (n := 0) (fr := 3) (lo := 60) (As := []) C hS q94 q95 q59 q96 rfl hd_J2_init ⟨Nat.le_trans (Nat.le_of_ble_eq_true rfl) hR.1, Nat.le_trans (Nat.le_of_ble_eq_true rfl) hR.2⟩ rfl hl.1.1 rfl (xm_rc (va_rf_cat _) (xm_rc (va_rf_cat _) xm_r0)) (ci := 8) hf (fun v h1 k1 n1 e1 => ct_J2_init l D N e1) dX1_init_2_9 (fun _ h H locs cells slots kc ks hS hf => ?_)
  refine W.eq (g2 := F0 m 12 ls [va_rf x5, va_rf a0]) rfl ?_
  refine xr_putF C hS hnm xf_X1 0 (by decide) q122 rfl rfl rfl xv_obj hf dX1_init_2_12 (fun h H locs hS hf => ?_)
  refine xr_aload_n C dX1_init_2_15 rfl (hl.at 0 rfl) ?_
  refine xr_aload_n C dX1_init_2_16 rfl (hl.at 1 rfl) ?_
  refine xr_putF C hS hnm xf_X1 1 (by decide) q125 rfl rfl rfl xv_arr hf dX1_init_2_17 (fun h H locs hS hf => ?_)
  refine xr_aload_n C dX1_init_2_20 rfl (hl.at 0 rfl) ?_
  refine xr_aload_n C dX1_init_2_21 rfl (hl.at 2 rfl) ?_
  refine xr_putF C hS hnm xf_X1 2 (by decide) q127 rfl rfl rfl xv_arr hf dX1_init_2_22 (fun h H locs hS hf => ?_)
  exact xr_vret C hS hr hf dX1_init_2_25
theorem ct_X1_init_2 (l : Launch) (D : xh_D) {rv : Unit} {h hF : xh_H} {kc ks : Nat} (N : Nat) {a0 : Option Nat} {a1 : Option Nat} {a2 : Option Nat} (hf : f_X1_init_2 N a0 a1 a2 h = some (rv, hF, kc, ks)) : xh_Ct l D yX1_init_2 (ws_ yX1_init_2 cX1_init_2 3 (Option.none : Option Jvm.ClassFile.FieldType)) 4 80 [va_rf a0, va_rf a1, va_rf a2] h none hF kc ks :=
  xh_meth (cc := cX1_init_2) l (by decide) (Nat.le_of_ble_eq_true rfl) (List.forall_mem_cons.mpr ⟨va_rf_cat _, List.forall_mem_cons.mpr ⟨va_rf_cat _, List.forall_mem_cons.mpr ⟨va_rf_cat _, fun _ h => absurd h List.not_mem_nil⟩⟩⟩) fun p e s m below meth c ls C hr hnm hl hS => w_X1_init_2 C hr hnm ⟨Nat.le_refl _, Nat.le_refl _⟩ N a0 a1 a2 h _ _ _ _ _ _ _ hf hS hl
def K_X1_init_36 (p : Program) (l : Launch) (e : Env) (s : State) (m : MethodId) (args : Array Value) (below : List Frame) (meth : Method) (c : Code) (D : xh_D) (g : Nat → Nat) (R : Room) (rv : Unit) (hF : xh_H) (k : Option Nat → Int32 → xh_H → xh_R Unit) : Prop := ∀ (a0 : Option Nat) (a1 : Int32) (h : xh_H) (H : Heap) (locs : List Loc) (cells slots kc ks : Nat) (ls : Array Slot), k a0 a1 h = some (rv, hF, kc, ks) → xh_T D g s R h H locs cells slots kc ks → xh_L ls 2 [(0, va_rf a0), (1, .int a1)] → W p l e R s m args below meth c H locs cells slots (MQ below (xh_Q D g none hF) args s R.cells R.slots (xh_A g)) (F0 m 36 ls [])
theorem w_X1_init_b36 (C : xh_C cX1_init 2 "SungSlides$Song" D g p s m args meth c) (hr : meth.sig.returnType = (Option.none : Option Jvm.ClassFile.FieldType)) (hnm : meth.name = "<init>") (hR : 5 ≤ R.frames ∧ 102 ≤ R.locals) {rv : Unit} {hF : xh_H} (N : Nat) {k36 : Option Nat → Int32 → xh_H → xh_R Unit} (hk36 : K_X1_init_36 p l e s m args below meth c D g R rv hF k36) : ∀ (a0 : Option Nat) (a1 : Int32) (h : xh_H) (H : Heap) (locs : List Loc) (cells slots kc ks : Nat) (ls : Array Slot), f_X1_init_b36 N k36 a0 a1 h = some (rv, hF, kc, ks) → xh_T D g s R h H locs cells slots kc ks → xh_L ls 2 [(0, va_rf a0), (1, .int a1)] → W p l e R s m args below meth c H locs cells slots (MQ below (xh_Q D g none hF) args s R.cells R.slots (xh_A g)) (F0 m 36 ls []) := by
  intro a0 a1 h H locs cells slots kc ks ls hf hS hl
  have hx := C.1
  have hb := C.2.1
  unfold f_X1_init_b36 at hf
  refine lv_iload_n hx hb dX1_init_36 rfl (hl.at 1 rfl) ?_
  refine lv_sipush (v := 600) hx hb dX1_init_37 xi_s600 ?_
  refine lv_icmp_ge (tgt := 56) hx hb dX1_init_40 (by decide) (fun c40 => ?_) (fun c40 => ?_)
  · replace hf := xb_pos c40 hf
    exact xr_vret C hS hr hf dX1_init_56
  · replace hf := xb_neg c40 hf
    refine xr_aload_n C dX1_init_43 rfl (hl.at 0 rfl) ?_
    refine xr_getR C hS xf_X1 1 (by decide) q125 (fun _ h => h) hf dX1_init_44 (fun x44 hf => ?_)
    refine lv_iload_n hx hb dX1_init_47 rfl (hl.at 1 rfl) ?_
    refine lv_iconst (v := -1) hx hb dX1_init_48 xi_cm1 ?_
    refine xr_iast C hS hf dX1_init_49 (fun h H locs hS hf => ?_)
    refine xr_iinc C dX1_init_50 hl (k := 1) rfl (xi_inc xi_c1) (Nat.le_of_ble_eq_true rfl) (lv' := [(1, .int (a1 + (1 : Int32))), (0, va_rf a0)]) rfl (fun ls hl => ?_)
    refine lv_goto (tgt := 36) hx hb dX1_init_53 (by decide) ?_
    exact hk36 a0 (a1 + (1 : Int32))  h H locs cells slots kc ks ls hf hS (hl.sub [1, 0] rfl)
theorem w_X1_init_l36 (C : xh_C cX1_init 2 "SungSlides$Song" D g p s m args meth c) (hr : meth.sig.returnType = (Option.none : Option Jvm.ClassFile.FieldType)) (hnm : meth.name = "<init>") (hR : 5 ≤ R.frames ∧ 102 ≤ R.locals) {rv : Unit} {hF : xh_H} (N : Nat) : ∀ n : Nat, K_X1_init_36 p l e s m args below meth c D g R rv hF (f_X1_init_l36 N n) := by
  intro n
  induction n with
  | zero => exact fun a0 a1 h H locs cells slots kc ks ls hf => absurd (show (none : xh_R Unit) = some _ from hf) (by intro q; cases q)
  | succ n ih => exact fun a0 a1 h H locs cells slots kc ks ls hf => w_X1_init_b36 C hr hnm hR N ih a0 a1 h H locs cells slots kc ks ls hf
/-- SungSlides$Song.<init>()V -/
theorem w_X1_init (C : xh_C cX1_init 2 "SungSlides$Song" D g p s m args meth c) (hr : meth.sig.returnType = (Option.none : Option Jvm.ClassFile.FieldType)) (hnm : meth.name = "<init>") (hR : 5 ≤ R.frames ∧ 102 ≤ R.locals) {rv : Unit} {hF : xh_H} (N : Nat) (a0 : Option Nat)  (h : xh_H) (H : Heap) (locs : List Loc) (cells slots kc ks : Nat) (ls : Array Slot) (hf : f_X1_init N a0 h = some (rv, hF, kc, ks)) (hS : xh_T D g s R h H locs cells slots kc ks) (hl : xh_L ls 2 [(0, va_rf a0)]) : W p l e R s m args below meth c H locs cells slots (MQ below (xh_Q D g none hF) args s R.cells R.slots (xh_A g)) (F0 m 0 ls []) := by
  have hx := C.1
  have hb := C.2.1
  unfold f_X1_init at hf
  refine xr_aload_n C dX1_init_0 rfl (hl.at 0 rfl) ?_
  refine lv_sipush (v := 600) hx hb dX1_init_1 xi_s600 ?_
  refine xr_na C hS (k := 0) (atype := .int) (ty := .int) rfl rfl (by decide) rfl (fun _ h => h) q121 hf dX1_init_4 (fun x4 h H cells slots kc ks hS hf => ?_)
  refine lv_iconst (v := 5) hx hb dX1_init_6 xi_c5 ?_
  refine xr_na C hS (k := 0) (atype := .int) (ty := .int) rfl rfl (by decide) rfl (fun _ h => h) q121 hf dX1_init_7 (fun x7 h H cells slots kc ks hS hf => ?_)
  refine lv_dup hx hb dX1_init_9 (va_rf_cat _) ?_
  refine lv_iconst (v := 0) hx hb dX1_init_10 xi_c0 ?_
  refine lv_bipush (v := 16) hx hb dX1_init_11 xi_b16 ?_
  refine xr_iast C hS hf dX1_init_13 (fun h H locs hS hf => ?_)
  refine lv_dup hx hb dX1_init_14 (va_rf_cat _) ?_
  refine lv_iconst (v := 1) hx hb dX1_init_15 xi_c1 ?_
  refine lv_iconst (v := 1) hx hb dX1_init_16 xi_c1 ?_
  refine xr_iast C hS hf dX1_init_17 (fun h H locs hS hf => ?_)
  refine lv_dup hx hb dX1_init_18 (va_rf_cat _) ?_
  refine lv_iconst (v := 2) hx hb dX1_init_19 xi_c2 ?_
  refine lv_iconst (v := 2) hx hb dX1_init_20 xi_c2 ?_
  refine xr_iast C hS hf dX1_init_21 (fun h H locs hS hf => ?_)
  refine lv_dup hx hb dX1_init_22 (va_rf_cat _) ?_
  refine lv_iconst (v := 3) hx hb dX1_init_23 xi_c3 ?_
  refine lv_iconst (v := 0) hx hb dX1_init_24 xi_c0 ?_
  refine xr_iast C hS hf dX1_init_25 (fun h H locs hS hf => ?_)
  refine lv_dup hx hb dX1_init_26 (va_rf_cat _) ?_
  refine lv_iconst (v := 4) hx hb dX1_init_27 xi_c4 ?_
  refine lv_bipush (v := 50) hx hb dX1_init_28 xi_b50 ?_
  refine xr_iast C hS hf dX1_init_30 (fun h H locs hS hf => ?_)
  refine xr_I (n := 2) (fr := 4) (lo := 80) (As := [va_rf x4, va_rf x7]) C hS q88 q89 q56 q90 rfl hd_X1_init_2 ⟨Nat.le_trans (Nat.le_of_ble_eq_true rfl) hR.1, Nat.le_trans (Nat.le_of_ble_eq_true rfl) hR.2⟩ rfl hl.1.1 rfl xm_r0 (ci := 1) hf (fun v h1 k1 n1 e1 => ct_X1_init_2 l D N e1) dX1_init_31 (fun _ h H locs cells slots kc ks hS hf => ?_)
  refine W.eq (g2 := F0 m 34 ls []) rfl ?_
  refine lv_iconst (v := 0) hx hb dX1_init_34 xi_c0 ?_
  refine xr_istore_n C dX1_init_35 rfl hl (Nat.le_of_ble_eq_true rfl) (lv' := [(1, .int (0 : Int32)), (0, va_rf a0)]) rfl (fun ls hl => ?_)
  exact w_X1_init_l36 C hr hnm hR N N a0 (0 : Int32)  h H locs cells slots kc ks ls hf hS (hl.sub [1, 0] rfl)
theorem ct_X1_init (l : Launch) (D : xh_D) {rv : Unit} {h hF : xh_H} {kc ks : Nat} (N : Nat) {a0 : Option Nat} (hf : f_X1_init N a0 h = some (rv, hF, kc, ks)) : xh_Ct l D yX1_init (ws_ yX1_init cX1_init 2 (Option.none : Option Jvm.ClassFile.FieldType)) 5 102 [va_rf a0] h none hF kc ks :=
  xh_meth (cc := cX1_init) l (by decide) (Nat.le_of_ble_eq_true rfl) (List.forall_mem_cons.mpr ⟨va_rf_cat _, fun _ h => absurd h List.not_mem_nil⟩) fun p e s m below meth c ls C hr hnm hl hS => w_X1_init C hr hnm ⟨Nat.le_refl _, Nat.le_refl _⟩ N a0 h _ _ _ _ _ _ _ hf hS hl
/-- SungSlides.<init>()V -/
theorem w_X0_init (C : xh_C cX0_init 1 "SungSlides" D g p s m args meth c) (hr : meth.sig.returnType = (Option.none : Option Jvm.ClassFile.FieldType)) (hnm : meth.name = "<init>") (hR : 6 ≤ R.frames ∧ 123 ≤ R.locals) {rv : Unit} {hF : xh_H} (N : Nat) (a0 : Option Nat)  (h : xh_H) (H : Heap) (locs : List Loc) (cells slots kc ks : Nat) (ls : Array Slot) (hf : f_X0_init N a0 h = some (rv, hF, kc, ks)) (hS : xh_T D g s R h H locs cells slots kc ks) (hl : xh_L ls 1 [(0, va_rf a0)]) : W p l e R s m args below meth c H locs cells slots (MQ below (xh_Q D g none hF) args s R.cells R.slots (xh_A g)) (F0 m 0 ls []) := by
  have hx := C.1
  have hb := C.2.1
  unfold f_X0_init at hf
  refine xr_aload_n C dX0_init_0 rfl (hl.at 0 rfl) ?_
  refine xr_oi C hS q80 q81 q82 hl.1.1 ⟨Nat.le_trans (Nat.le_of_ble_eq_true rfl) hR.1, Nat.le_trans (Nat.le_of_ble_eq_true rfl) hR.2⟩ xm_r0 hf dX0_init_1 (fun hf => ?_)
  refine xr_aload_n C dX0_init_4 rfl (hl.at 0 rfl) ?_
  refine xr_new C hS xf_X1 q83 q84 q56 (fs := [.null, .null, .null]) rfl xd_X1 hf dX0_init_5 (fun x5 h H cells slots kc ks hS hf => ?_)
  refine lv_dup hx hb dX0_init_8 (va_rf_cat _) ?_
  refine xr_I (n := 0) (fr := 5) (lo := 102) (As := []) C hS q85 q86 q56 q87 rfl hd_X1_init ⟨Nat.le_trans (Nat.le_of_ble_eq_true rfl) hR.1, Nat.le_trans (Nat.le_of_ble_eq_true rfl) hR.2⟩ rfl hl.1.1 rfl (xm_rc (va_rf_cat _) (xm_rc (va_rf_cat _) xm_r0)) (ci := 1) hf (fun v h1 k1 n1 e1 => ct_X1_init l D N e1) dX0_init_9 (fun _ h H locs cells slots kc ks hS hf => ?_)
  refine W.eq (g2 := F0 m 12 ls [va_rf x5, va_rf a0]) rfl ?_
  refine xr_put C hS xf_X0 0 (by decide) q139 (fun _ h => h) rfl xv_obj hf dX0_init_12 (fun h H locs hS hf => ?_)
  refine xr_aload_n C dX0_init_15 rfl (hl.at 0 rfl) ?_
  refine xr_new C hS xf_J2 q137 q93 q59 (fs := [.int 0, .null, .int 0]) rfl xd_J2 hf dX0_init_16 (fun x16 h H cells slots kc ks hS hf => ?_)
  refine lv_dup hx hb dX0_init_19 (va_rf_cat _) ?_
  refine xr_I (n := 0) (fr := 3) (lo := 60) (As := []) C hS q138 q95 q59 q96 rfl hd_J2_init ⟨Nat.le_trans (Nat.le_of_ble_eq_true rfl) hR.1, Nat.le_trans (Nat.le_of_ble_eq_true rfl) hR.2⟩ rfl hl.1.1 rfl (xm_rc (va_rf_cat _) (xm_rc (va_rf_cat _) xm_r0)) (ci := 8) hf (fun v h1 k1 n1 e1 => ct_J2_init l D N e1) dX0_init_20 (fun _ h H locs cells slots kc ks hS hf => ?_)
  refine W.eq (g2 := F0 m 23 ls [va_rf x16, va_rf a0]) rfl ?_
  refine xr_putF C hS hnm xf_X0 1 (by decide) q140 rfl rfl rfl xv_obj hf dX0_init_23 (fun h H locs hS hf => ?_)
  refine xr_aload_n C dX0_init_26 rfl (hl.at 0 rfl) ?_
  refine lv_bipush (v := 60) hx hb dX0_init_27 xi_b60 ?_
  refine xr_na C hS (k := 1) (atype := .char) (ty := .char) rfl rfl (by decide) rfl (fun _ h => h) q157 hf dX0_init_29 (fun x29 h H cells slots kc ks hS hf => ?_)
  refine xr_putF C hS hnm xf_X0 3 (by decide) q143 rfl rfl rfl xv_arr hf dX0_init_31 (fun h H locs hS hf => ?_)
  exact xr_vret C hS hr hf dX0_init_34
theorem ct_X0_init (l : Launch) (D : xh_D) {rv : Unit} {h hF : xh_H} {kc ks : Nat} (N : Nat) {a0 : Option Nat} (hf : f_X0_init N a0 h = some (rv, hF, kc, ks)) : xh_Ct l D yX0_init (ws_ yX0_init cX0_init 1 (Option.none : Option Jvm.ClassFile.FieldType)) 6 123 [va_rf a0] h none hF kc ks :=
  xh_meth (cc := cX0_init) l (by decide) (Nat.le_of_ble_eq_true rfl) (List.forall_mem_cons.mpr ⟨va_rf_cat _, fun _ h => absurd h List.not_mem_nil⟩) fun p e s m below meth c ls C hr hnm hl hS => w_X0_init C hr hnm ⟨Nat.le_refl _, Nat.le_refl _⟩ N a0 h _ _ _ _ _ _ _ hf hS hl
theorem w_X0_changed_b24 (C : xh_C cX0_changed 3 "SungSlides" D g p s m args meth c) (hr : meth.sig.returnType = (Option.some Jvm.ClassFile.FieldType.int)) (hR : 7 ≤ R.frames ∧ 191 ≤ R.locals) {rv : Int32} {hF : xh_H} (N : Nat) : ∀ (a0 : Option Nat) (a1 : Option Nat) (a2 : Int32) (h : xh_H) (H : Heap) (locs : List Loc) (cells slots kc ks : Nat) (ls : Array Slot), f_X0_changed_b24 N a0 a1 a2 h = some (rv, hF, kc, ks) → xh_T D g s R h H locs cells slots kc ks → xh_L ls 3 [(0, va_rf a0), (1, va_rf a1), (2, .int a2)] → W p l e R s m args below meth c H locs cells slots (MQ below (xh_Q D g (some (.int rv)) hF) args s R.cells R.slots (xh_A g)) (F0 m 24 ls []) := by
  intro a0 a1 a2 h H locs cells slots kc ks ls hf hS hl
  have hx := C.1
  have hb := C.2.1
  unfold f_X0_changed_b24 at hf
  refine xr_aload_n C dX0_changed_24 rfl (hl.at 0 rfl) ?_
  refine xr_getR C hS xf_X0 1 (by decide) q140 (fun _ h => h) hf dX0_changed_25 (fun x25 hf => ?_)
  refine xr_aload_n C dX0_changed_28 rfl (hl.at 1 rfl) ?_
  refine xr_F (V := fun v => some (.int v)) (n := 1) (fr := 6) (lo := 170) (As := [va_rf a1]) C hS xf_J2 q497 q270 q272 q59 q274 xn_i3 hdi_J2_add ⟨Nat.le_trans (Nat.le_of_ble_eq_true rfl) hR.1, Nat.le_trans (Nat.le_of_ble_eq_true rfl) hR.2⟩ rfl hl.1.1 rfl xm_r0 hf (fun v h1 k1 n1 e1 => ct_J2_add l D N e1) dX0_changed_29 (fun x29 h H locs cells slots kc ks hS hf => ?_)
  refine W.eq (g2 := F0 m 34 ls [.int x29]) rfl ?_
  refine lv_pop hx hb dX0_changed_34 rfl ?_
  refine lv_iload_n hx hb dX0_changed_35 rfl (hl.at 2 rfl) ?_
  exact xr_iret C hS hr hf dX0_changed_36
/-- SungSlides.changed(LSungSlides$Song;I)I -/
theorem w_X0_changed (C : xh_C cX0_changed 3 "SungSlides" D g p s m args meth c) (hr : meth.sig.returnType = (Option.some Jvm.ClassFile.FieldType.int)) (hR : 7 ≤ R.frames ∧ 191 ≤ R.locals) {rv : Int32} {hF : xh_H} (N : Nat) (a0 : Option Nat) (a1 : Option Nat) (a2 : Int32)  (h : xh_H) (H : Heap) (locs : List Loc) (cells slots kc ks : Nat) (ls : Array Slot) (hf : f_X0_changed N a0 a1 a2 h = some (rv, hF, kc, ks)) (hS : xh_T D g s R h H locs cells slots kc ks) (hl : xh_L ls 3 [(0, va_rf a0), (1, va_rf a1), (2, .int a2)]) : W p l e R s m args below meth c H locs cells slots (MQ below (xh_Q D g (some (.int rv)) hF) args s R.cells R.slots (xh_A g)) (F0 m 0 ls []) := by
  have hx := C.1
  have hb := C.2.1
  unfold f_X0_changed at hf
  refine xr_aload_n C dX0_changed_0 rfl (hl.at 0 rfl) ?_
  refine xr_getR C hS xf_X0 1 (by decide) q140 (fun _ h => h) hf dX0_changed_1 (fun x1 hf => ?_)
  refine xr_F (V := fun v => some (.int v)) (n := 0) (fr := 0) (lo := 0) (As := []) C hS xf_J2 q481 q353 q355 q59 q357 xn_i5 hdi_J2_size ⟨Nat.le_trans (Nat.le_of_ble_eq_true rfl) hR.1, Nat.le_trans (Nat.le_of_ble_eq_true rfl) hR.2⟩ rfl hl.1.1 rfl xm_r0 hf (fun v h1 k1 n1 e1 => ct_J2_size l D N e1) dX0_changed_4 (fun x4 h H locs cells slots kc ks hS hf => ?_)
  refine W.eq (g2 := F0 m 9 ls [.int x4]) rfl ?_
  refine lv_iconst (v := 4) hx hb dX0_changed_9 xi_c4 ?_
  refine lv_icmp_ne (tgt := 24) hx hb dX0_changed_10 (by decide) (fun c10 => ?_) (fun c10 => ?_)
  · replace hf := xb_neg c10 hf
    exact w_X0_changed_b24 C hr hR N a0 a1 a2  h H locs cells slots kc ks ls hf hS (hl.sub [0, 1, 2] rfl)
  · replace hf := xb_pos c10 hf
    refine xr_aload_n C dX0_changed_13 rfl (hl.at 0 rfl) ?_
    refine xr_getR C hS xf_X0 1 (by decide) q140 (fun _ h => h) hf dX0_changed_14 (fun x14 hf => ?_)
    refine lv_iconst (v := 0) hx hb dX0_changed_17 xi_c0 ?_
    refine xr_F (V := fun v => some (va_rf v)) (n := 1) (fr := 2) (lo := 83) (As := [.int (0 : Int32)]) C hS xf_J2 q483 q486 q488 q59 q490 xn_i7 hdi_J2_remove ⟨Nat.le_trans (Nat.le_of_ble_eq_true rfl) hR.1, Nat.le_trans (Nat.le_of_ble_eq_true rfl) hR.2⟩ rfl hl.1.1 rfl xm_r0 hf (fun v h1 k1 n1 e1 => ct_J2_remove l D N e1) dX0_changed_18 (fun x18 h H locs cells slots kc ks hS hf => ?_)
    refine W.eq (g2 := F0 m 23 ls [va_rf x18]) rfl ?_
    refine lv_pop hx hb dX0_changed_23 (va_rf_cat _) ?_
    exact w_X0_changed_b24 C hr hR N a0 a1 a2  h H locs cells slots kc ks ls hf hS (hl.sub [0, 1, 2] rfl)
theorem ct_X0_changed (l : Launch) (D : xh_D) {rv : Int32} {h hF : xh_H} {kc ks : Nat} (N : Nat) {a0 : Option Nat} {a1 : Option Nat} {a2 : Int32} (hf : f_X0_changed N a0 a1 a2 h = some (rv, hF, kc, ks)) : xh_Ct l D yX0_changed (ws_ yX0_changed cX0_changed 3 (Option.some Jvm.ClassFile.FieldType.int)) 7 191 [va_rf a0, va_rf a1, .int a2] h (some (.int rv)) hF kc ks :=
  xh_meth (cc := cX0_changed) l (by decide) (Nat.le_of_ble_eq_true rfl) (List.forall_mem_cons.mpr ⟨va_rf_cat _, List.forall_mem_cons.mpr ⟨va_rf_cat _, List.forall_mem_cons.mpr ⟨rfl, fun _ h => absurd h List.not_mem_nil⟩⟩⟩) fun p e s m below meth c ls C hr hnm hl hS => w_X0_changed C hr ⟨Nat.le_refl _, Nat.le_refl _⟩ N a0 a1 a2 h _ _ _ _ _ _ _ hf hS hl
/-- SungSlides$Song.many()I -/
theorem w_X1_many (C : xh_C cX1_many 1 "SungSlides$Song" D g p s m args meth c) (hr : meth.sig.returnType = (Option.some Jvm.ClassFile.FieldType.int)) (hR : 1 ≤ R.frames ∧ 20 ≤ R.locals) {rv : Int32} {hF : xh_H} (N : Nat) (a0 : Option Nat)  (h : xh_H) (H : Heap) (locs : List Loc) (cells slots kc ks : Nat) (ls : Array Slot) (hf : f_X1_many N a0 h = some (rv, hF, kc, ks)) (hS : xh_T D g s R h H locs cells slots kc ks) (hl : xh_L ls 1 [(0, va_rf a0)]) : W p l e R s m args below meth c H locs cells slots (MQ below (xh_Q D g (some (.int rv)) hF) args s R.cells R.slots (xh_A g)) (F0 m 0 ls []) := by
  have hx := C.1
  have hb := C.2.1
  unfold f_X1_many at hf
  refine xr_aload_n C dX1_many_0 rfl (hl.at 0 rfl) ?_
  refine xr_getR C hS xf_X1 0 (by decide) q122 (fun _ h => h) hf dX1_many_1 (fun x1 hf => ?_)
  refine xr_F (V := fun v => some (.int v)) (n := 0) (fr := 0) (lo := 0) (As := []) C hS xf_J2 q350 q353 q355 q59 q357 xn_i5 hdi_J2_size ⟨Nat.le_trans (Nat.le_of_ble_eq_true rfl) hR.1, Nat.le_trans (Nat.le_of_ble_eq_true rfl) hR.2⟩ rfl hl.1.1 rfl xm_r0 hf (fun v h1 k1 n1 e1 => ct_J2_size l D N e1) dX1_many_4 (fun x4 h H locs cells slots kc ks hS hf => ?_)
  refine W.eq (g2 := F0 m 9 ls [.int x4]) rfl ?_
  exact xr_iret C hS hr hf dX1_many_9
theorem ct_X1_many (l : Launch) (D : xh_D) {rv : Int32} {h hF : xh_H} {kc ks : Nat} (N : Nat) {a0 : Option Nat} (hf : f_X1_many N a0 h = some (rv, hF, kc, ks)) : xh_Ct l D yX1_many (ws_ yX1_many cX1_many 1 (Option.some Jvm.ClassFile.FieldType.int)) 1 20 [va_rf a0] h (some (.int rv)) hF kc ks :=
  xh_meth (cc := cX1_many) l (by decide) (Nat.le_of_ble_eq_true rfl) (List.forall_mem_cons.mpr ⟨va_rf_cat _, fun _ h => absurd h List.not_mem_nil⟩) fun p e s m below meth c ls C hr hnm hl hS => w_X1_many C hr ⟨Nat.le_refl _, Nat.le_refl _⟩ N a0 h _ _ _ _ _ _ _ hf hS hl
/-- SungSlides$Syllable.end()I -/
theorem w_X5_end (C : xh_C cX5_end 1 "SungSlides$Syllable" D g p s m args meth c) (hr : meth.sig.returnType = (Option.some Jvm.ClassFile.FieldType.int)) (hR : 0 ≤ R.frames ∧ 0 ≤ R.locals) {rv : Int32} {hF : xh_H} (N : Nat) (a0 : Option Nat)  (h : xh_H) (H : Heap) (locs : List Loc) (cells slots kc ks : Nat) (ls : Array Slot) (hf : f_X5_end N a0 h = some (rv, hF, kc, ks)) (hS : xh_T D g s R h H locs cells slots kc ks) (hl : xh_L ls 1 [(0, va_rf a0)]) : W p l e R s m args below meth c H locs cells slots (MQ below (xh_Q D g (some (.int rv)) hF) args s R.cells R.slots (xh_A g)) (F0 m 0 ls []) := by
  have hx := C.1
  have hb := C.2.1
  unfold f_X5_end at hf
  refine xr_aload_n C dX5_end_0 rfl (hl.at 0 rfl) ?_
  refine xr_getI C hS xf_X5 0 (by decide) q446 (fun _ h => h) hf dX5_end_1 (fun x1 hf => ?_)
  refine xr_aload_n C dX5_end_4 rfl (hl.at 0 rfl) ?_
  refine xr_getI C hS xf_X5 1 (by decide) q450 (fun _ h => h) hf dX5_end_5 (fun x5 hf => ?_)
  refine lv_iadd hx hb dX5_end_8 ?_
  exact xr_iret C hS hr hf dX5_end_9
theorem ct_X5_end (l : Launch) (D : xh_D) {rv : Int32} {h hF : xh_H} {kc ks : Nat} (N : Nat) {a0 : Option Nat} (hf : f_X5_end N a0 h = some (rv, hF, kc, ks)) : xh_Ct l D yX5_end (ws_ yX5_end cX5_end 1 (Option.some Jvm.ClassFile.FieldType.int)) 0 0 [va_rf a0] h (some (.int rv)) hF kc ks :=
  xh_meth (cc := cX5_end) l (by decide) (Nat.le_of_ble_eq_true rfl) (List.forall_mem_cons.mpr ⟨va_rf_cat _, fun _ h => absurd h List.not_mem_nil⟩) fun p e s m below meth c ls C hr hnm hl hS => w_X5_end C hr ⟨Nat.le_refl _, Nat.le_refl _⟩ N a0 h _ _ _ _ _ _ _ hf hS hl
/-- SungSlides$Song.end()I -/
theorem w_X1_end (C : xh_C cX1_end 1 "SungSlides$Song" D g p s m args meth c) (hr : meth.sig.returnType = (Option.some Jvm.ClassFile.FieldType.int)) (hR : 3 ≤ R.frames ∧ 64 ≤ R.locals) {rv : Int32} {hF : xh_H} (N : Nat) (a0 : Option Nat)  (h : xh_H) (H : Heap) (locs : List Loc) (cells slots kc ks : Nat) (ls : Array Slot) (hf : f_X1_end N a0 h = some (rv, hF, kc, ks)) (hS : xh_T D g s R h H locs cells slots kc ks) (hl : xh_L ls 1 [(0, va_rf a0)]) : W p l e R s m args below meth c H locs cells slots (MQ below (xh_Q D g (some (.int rv)) hF) args s R.cells R.slots (xh_A g)) (F0 m 0 ls []) := by
  have hx := C.1
  have hb := C.2.1
  unfold f_X1_end at hf
  refine xr_aload_n C dX1_end_0 rfl (hl.at 0 rfl) ?_
  refine xr_getR C hS xf_X1 0 (by decide) q122 (fun _ h => h) hf dX1_end_1 (fun x1 hf => ?_)
  refine xr_F (V := fun v => some (.int v)) (n := 0) (fr := 0) (lo := 0) (As := []) C hS xf_J2 q337 q340 q342 q59 q344 xn_i4 hdi_J2_isEmpty ⟨Nat.le_trans (Nat.le_of_ble_eq_true rfl) hR.1, Nat.le_trans (Nat.le_of_ble_eq_true rfl) hR.2⟩ rfl hl.1.1 rfl xm_r0 hf (fun v h1 k1 n1 e1 => ct_J2_isEmpty l D N e1) dX1_end_4 (fun x4 h H locs cells slots kc ks hS hf => ?_)
  refine W.eq (g2 := F0 m 9 ls [.int x4]) rfl ?_
  refine lv_if_eq (tgt := 16) hx hb dX1_end_9 (by decide) (fun c9 => ?_) (fun c9 => ?_)
  · replace hf := xb_pos c9 hf
    refine xr_aload_n C dX1_end_16 rfl (hl.at 0 rfl) ?_
    refine xr_getR C hS xf_X1 0 (by decide) q122 (fun _ h => h) hf dX1_end_17 (fun x17 hf => ?_)
    refine xr_aload_n C dX1_end_20 rfl (hl.at 0 rfl) ?_
    refine xr_V (V := fun v => some (.int v)) (n := 0) (fr := 1) (lo := 20) (As := []) C hS xf_X1 (lw_V q345 q346 q347 q56 q348) hdv_X1_many ⟨Nat.le_trans (Nat.le_of_ble_eq_true rfl) hR.1, Nat.le_trans (Nat.le_of_ble_eq_true rfl) hR.2⟩ rfl hl.1.1 rfl (xm_rc (va_rf_cat _) xm_r0) hf (fun v h1 k1 n1 e1 => ct_X1_many l D N e1) dX1_end_21 (fun x21 h H locs cells slots kc ks hS hf => ?_)
    refine W.eq (g2 := F0 m 24 ls [.int x21, va_rf x17]) rfl ?_
    refine lv_iconst (v := 1) hx hb dX1_end_24 xi_c1 ?_
    refine lv_isub hx hb dX1_end_25 ?_
    refine xr_F (V := fun v => some (va_rf v)) (n := 1) (fr := 2) (lo := 43) (As := [.int (x21 - (1 : Int32))]) C hS xf_J2 q359 q362 q364 q59 q366 xn_i6 hdi_J2_get ⟨Nat.le_trans (Nat.le_of_ble_eq_true rfl) hR.1, Nat.le_trans (Nat.le_of_ble_eq_true rfl) hR.2⟩ rfl hl.1.1 rfl xm_r0 hf (fun v h1 k1 n1 e1 => ct_J2_get l D N e1) dX1_end_26 (fun x26 h H locs cells slots kc ks hS hf => ?_)
    refine W.eq (g2 := F0 m 31 ls [va_rf x26]) rfl ?_
    refine xr_ccS C hS xf_X5 q265 hf dX1_end_31 (fun hf => ?_)
    refine xr_V (V := fun v => some (.int v)) (n := 0) (fr := 0) (lo := 0) (As := []) C hS xf_X5 (lw_V q377 q378 q379 q72 q380) hdv_X5_end ⟨Nat.le_trans (Nat.le_of_ble_eq_true rfl) hR.1, Nat.le_trans (Nat.le_of_ble_eq_true rfl) hR.2⟩ rfl hl.1.1 rfl xm_r0 hf (fun v h1 k1 n1 e1 => ct_X5_end l D N e1) dX1_end_34 (fun x34 h H locs cells slots kc ks hS hf => ?_)
    refine W.eq (g2 := F0 m 37 ls [.int x34]) rfl ?_
    exact xr_iret C hS hr hf dX1_end_37
  · replace hf := xb_neg c9 hf
    refine lv_iconst (v := 0) hx hb dX1_end_12 xi_c0 ?_
    refine lv_goto (tgt := 37) hx hb dX1_end_13 (by decide) ?_
    exact xr_iret C hS hr hf dX1_end_37
theorem ct_X1_end (l : Launch) (D : xh_D) {rv : Int32} {h hF : xh_H} {kc ks : Nat} (N : Nat) {a0 : Option Nat} (hf : f_X1_end N a0 h = some (rv, hF, kc, ks)) : xh_Ct l D yX1_end (ws_ yX1_end cX1_end 1 (Option.some Jvm.ClassFile.FieldType.int)) 3 64 [va_rf a0] h (some (.int rv)) hF kc ks :=
  xh_meth (cc := cX1_end) l (by decide) (Nat.le_of_ble_eq_true rfl) (List.forall_mem_cons.mpr ⟨va_rf_cat _, fun _ h => absurd h List.not_mem_nil⟩) fun p e s m below meth c ls C hr hnm hl hS => w_X1_end C hr ⟨Nat.le_refl _, Nat.le_refl _⟩ N a0 h _ _ _ _ _ _ _ hf hS hl
/-- SungSlides$Song.phrases()I -/
theorem w_X1_phrases (C : xh_C cX1_phrases 1 "SungSlides$Song" D g p s m args meth c) (hr : meth.sig.returnType = (Option.some Jvm.ClassFile.FieldType.int)) (hR : 3 ≤ R.frames ∧ 64 ≤ R.locals) {rv : Int32} {hF : xh_H} (N : Nat) (a0 : Option Nat)  (h : xh_H) (H : Heap) (locs : List Loc) (cells slots kc ks : Nat) (ls : Array Slot) (hf : f_X1_phrases N a0 h = some (rv, hF, kc, ks)) (hS : xh_T D g s R h H locs cells slots kc ks) (hl : xh_L ls 1 [(0, va_rf a0)]) : W p l e R s m args below meth c H locs cells slots (MQ below (xh_Q D g (some (.int rv)) hF) args s R.cells R.slots (xh_A g)) (F0 m 0 ls []) := by
  have hx := C.1
  have hb := C.2.1
  unfold f_X1_phrases at hf
  refine xr_aload_n C dX1_phrases_0 rfl (hl.at 0 rfl) ?_
  refine xr_getR C hS xf_X1 0 (by decide) q122 (fun _ h => h) hf dX1_phrases_1 (fun x1 hf => ?_)
  refine xr_F (V := fun v => some (.int v)) (n := 0) (fr := 0) (lo := 0) (As := []) C hS xf_J2 q337 q340 q342 q59 q344 xn_i4 hdi_J2_isEmpty ⟨Nat.le_trans (Nat.le_of_ble_eq_true rfl) hR.1, Nat.le_trans (Nat.le_of_ble_eq_true rfl) hR.2⟩ rfl hl.1.1 rfl xm_r0 hf (fun v h1 k1 n1 e1 => ct_J2_isEmpty l D N e1) dX1_phrases_4 (fun x4 h H locs cells slots kc ks hS hf => ?_)
  refine W.eq (g2 := F0 m 9 ls [.int x4]) rfl ?_
  refine lv_if_eq (tgt := 16) hx hb dX1_phrases_9 (by decide) (fun c9 => ?_) (fun c9 => ?_)
  · replace hf := xb_pos c9 hf
    refine xr_aload_n C dX1_phrases_16 rfl (hl.at 0 rfl) ?_
    refine xr_getR C hS xf_X1 0 (by decide) q122 (fun _ h => h) hf dX1_phrases_17 (fun x17 hf => ?_)
    refine xr_aload_n C dX1_phrases_20 rfl (hl.at 0 rfl) ?_
    refine xr_V (V := fun v => some (.int v)) (n := 0) (fr := 1) (lo := 20) (As := []) C hS xf_X1 (lw_V q345 q346 q347 q56 q348) hdv_X1_many ⟨Nat.le_trans (Nat.le_of_ble_eq_true rfl) hR.1, Nat.le_trans (Nat.le_of_ble_eq_true rfl) hR.2⟩ rfl hl.1.1 rfl (xm_rc (va_rf_cat _) xm_r0) hf (fun v h1 k1 n1 e1 => ct_X1_many l D N e1) dX1_phrases_21 (fun x21 h H locs cells slots kc ks hS hf => ?_)
    refine W.eq (g2 := F0 m 24 ls [.int x21, va_rf x17]) rfl ?_
    refine lv_iconst (v := 1) hx hb dX1_phrases_24 xi_c1 ?_
    refine lv_isub hx hb dX1_phrases_25 ?_
    refine xr_F (V := fun v => some (va_rf v)) (n := 1) (fr := 2) (lo := 43) (As := [.int (x21 - (1 : Int32))]) C hS xf_J2 q359 q362 q364 q59 q366 xn_i6 hdi_J2_get ⟨Nat.le_trans (Nat.le_of_ble_eq_true rfl) hR.1, Nat.le_trans (Nat.le_of_ble_eq_true rfl) hR.2⟩ rfl hl.1.1 rfl xm_r0 hf (fun v h1 k1 n1 e1 => ct_J2_get l D N e1) dX1_phrases_26 (fun x26 h H locs cells slots kc ks hS hf => ?_)
    refine W.eq (g2 := F0 m 31 ls [va_rf x26]) rfl ?_
    refine xr_ccS C hS xf_X5 q265 hf dX1_phrases_31 (fun hf => ?_)
    refine xr_getNI C hS xf_X5 4 (by decide) xn_q458 rfl hf dX1_phrases_34 (fun x34 hf => ?_)
    refine lv_iconst (v := 1) hx hb dX1_phrases_37 xi_c1 ?_
    refine lv_iadd hx hb dX1_phrases_38 ?_
    exact xr_iret C hS hr hf dX1_phrases_39
  · replace hf := xb_neg c9 hf
    refine lv_iconst (v := 0) hx hb dX1_phrases_12 xi_c0 ?_
    refine lv_goto (tgt := 39) hx hb dX1_phrases_13 (by decide) ?_
    exact xr_iret C hS hr hf dX1_phrases_39
theorem ct_X1_phrases (l : Launch) (D : xh_D) {rv : Int32} {h hF : xh_H} {kc ks : Nat} (N : Nat) {a0 : Option Nat} (hf : f_X1_phrases N a0 h = some (rv, hF, kc, ks)) : xh_Ct l D yX1_phrases (ws_ yX1_phrases cX1_phrases 1 (Option.some Jvm.ClassFile.FieldType.int)) 3 64 [va_rf a0] h (some (.int rv)) hF kc ks :=
  xh_meth (cc := cX1_phrases) l (by decide) (Nat.le_of_ble_eq_true rfl) (List.forall_mem_cons.mpr ⟨va_rf_cat _, fun _ h => absurd h List.not_mem_nil⟩) fun p e s m below meth c ls C hr hnm hl hS => w_X1_phrases C hr ⟨Nat.le_refl _, Nat.le_refl _⟩ N a0 h _ _ _ _ _ _ _ hf hS hl
/-- SungSlides$Syllable.<init>(IIIII)V -/
theorem w_X5_init (C : xh_C cX5_init 6 "SungSlides$Syllable" D g p s m args meth c) (hr : meth.sig.returnType = (Option.none : Option Jvm.ClassFile.FieldType)) (hnm : meth.name = "<init>") (hR : 1 ≤ R.frames ∧ 20 ≤ R.locals) {rv : Unit} {hF : xh_H} (N : Nat) (a0 : Option Nat) (a1 : Int32) (a2 : Int32) (a3 : Int32) (a4 : Int32) (a5 : Int32)  (h : xh_H) (H : Heap) (locs : List Loc) (cells slots kc ks : Nat) (ls : Array Slot) (hf : f_X5_init N a0 a1 a2 a3 a4 a5 h = some (rv, hF, kc, ks)) (hS : xh_T D g s R h H locs cells slots kc ks) (hl : xh_L ls 6 [(0, va_rf a0), (1, .int a1), (2, .int a2), (3, .int a3), (4, .int a4), (5, .int a5)]) : W p l e R s m args below meth c H locs cells slots (MQ below (xh_Q D g none hF) args s R.cells R.slots (xh_A g)) (F0 m 0 ls []) := by
  have hx := C.1
  have hb := C.2.1
  unfold f_X5_init at hf
  refine xr_aload_n C dX5_init_0 rfl (hl.at 0 rfl) ?_
  refine xr_oi C hS q445 q81 q82 hl.1.1 ⟨Nat.le_trans (Nat.le_of_ble_eq_true rfl) hR.1, Nat.le_trans (Nat.le_of_ble_eq_true rfl) hR.2⟩ xm_r0 hf dX5_init_1 (fun hf => ?_)
  refine xr_aload_n C dX5_init_4 rfl (hl.at 0 rfl) ?_
  refine lv_iload_n hx hb dX5_init_5 rfl (hl.at 1 rfl) ?_
  refine xr_putF C hS hnm xf_X5 0 (by decide) q446 rfl rfl rfl xv_int hf dX5_init_6 (fun h H locs hS hf => ?_)
  refine xr_aload_n C dX5_init_9 rfl (hl.at 0 rfl) ?_
  refine lv_iload_n hx hb dX5_init_10 rfl (hl.at 2 rfl) ?_
  refine xr_putF C hS hnm xf_X5 1 (by decide) q450 rfl rfl rfl xv_int hf dX5_init_11 (fun h H locs hS hf => ?_)
  refine xr_aload_n C dX5_init_14 rfl (hl.at 0 rfl) ?_
  refine lv_iload_n hx hb dX5_init_15 rfl (hl.at 3 rfl) ?_
  refine xr_putF C hS hnm xf_X5 2 (by decide) q453 rfl rfl rfl xv_int hf dX5_init_16 (fun h H locs hS hf => ?_)
  refine xr_aload_n C dX5_init_19 rfl (hl.at 0 rfl) ?_
  refine lv_iload hx hb dX5_init_20 (hl.at 4 rfl) ?_
  refine xr_putF C hS hnm xf_X5 3 (by decide) q455 rfl rfl rfl xv_int hf dX5_init_22 (fun h H locs hS hf => ?_)
  refine xr_aload_n C dX5_init_25 rfl (hl.at 0 rfl) ?_
  refine lv_iload hx hb dX5_init_26 (hl.at 5 rfl) ?_
  refine xr_putF C hS hnm xf_X5 4 (by decide) q457 rfl rfl rfl xv_int hf dX5_init_28 (fun h H locs hS hf => ?_)
  exact xr_vret C hS hr hf dX5_init_31
theorem ct_X5_init (l : Launch) (D : xh_D) {rv : Unit} {h hF : xh_H} {kc ks : Nat} (N : Nat) {a0 : Option Nat} {a1 : Int32} {a2 : Int32} {a3 : Int32} {a4 : Int32} {a5 : Int32} (hf : f_X5_init N a0 a1 a2 a3 a4 a5 h = some (rv, hF, kc, ks)) : xh_Ct l D yX5_init (ws_ yX5_init cX5_init 6 (Option.none : Option Jvm.ClassFile.FieldType)) 1 20 [va_rf a0, .int a1, .int a2, .int a3, .int a4, .int a5] h none hF kc ks :=
  xh_meth (cc := cX5_init) l (by decide) (Nat.le_of_ble_eq_true rfl) (List.forall_mem_cons.mpr ⟨va_rf_cat _, List.forall_mem_cons.mpr ⟨rfl, List.forall_mem_cons.mpr ⟨rfl, List.forall_mem_cons.mpr ⟨rfl, List.forall_mem_cons.mpr ⟨rfl, List.forall_mem_cons.mpr ⟨rfl, fun _ h => absurd h List.not_mem_nil⟩⟩⟩⟩⟩⟩) fun p e s m below meth c ls C hr hnm hl hS => w_X5_init C hr hnm ⟨Nat.le_refl _, Nat.le_refl _⟩ N a0 a1 a2 a3 a4 a5 h _ _ _ _ _ _ _ hf hS hl
theorem w_X1_add_b71 (C : xh_C cX1_add 4 "SungSlides$Song" D g p s m args meth c) (hr : meth.sig.returnType = (Option.none : Option Jvm.ClassFile.FieldType)) (hR : 7 ≤ R.frames ∧ 191 ≤ R.locals) {rv : Unit} {hF : xh_H} (N : Nat) : ∀ (a0 : Option Nat) (a1 : Option Nat) (a2 : Int32) (t0 : Int32) (h : xh_H) (H : Heap) (locs : List Loc) (cells slots kc ks : Nat) (ls : Array Slot), f_X1_add_b71 N a0 a1 a2 t0 h = some (rv, hF, kc, ks) → xh_T D g s R h H locs cells slots kc ks → xh_L ls 4 [(0, va_rf a0), (1, va_rf a1), (2, .int a2)] → W p l e R s m args below meth c H locs cells slots (MQ below (xh_Q D g none hF) args s R.cells R.slots (xh_A g)) (F0 m 71 ls [.int t0]) := by
  intro a0 a1 a2 t0 h H locs cells slots kc ks ls hf hS hl
  have hx := C.1
  have hb := C.2.1
  unfold f_X1_add_b71 at hf
  refine xr_istore_n C dX1_add_71 rfl hl (Nat.le_of_ble_eq_true rfl) (lv' := [(3, .int t0), (0, va_rf a0), (1, va_rf a1), (2, .int a2)]) rfl (fun ls hl => ?_)
  refine xr_aload_n C dX1_add_72 rfl (hl.at 1 rfl) ?_
  refine xr_getR C hS xf_X1 0 (by decide) q122 (fun _ h => h) hf dX1_add_73 (fun x73 hf => ?_)
  refine xr_new C hS xf_X5 q265 q441 q72 (fs := [.int 0, .int 0, .int 0, .int 0, .int 0]) rfl xd_X5 hf dX1_add_76 (fun x76 h H cells slots kc ks hS hf => ?_)
  refine lv_dup hx hb dX1_add_79 (va_rf_cat _) ?_
  refine lv_iload_n hx hb dX1_add_80 rfl (hl.at 3 rfl) ?_
  refine xr_aload_n C dX1_add_81 rfl (hl.at 2 rfl) ?_
  refine xr_getNI C hS xf_X3 3 (by decide) xn_q176 rfl hf dX1_add_82 (fun x82 hf => ?_)
  refine xr_aload_n C dX1_add_85 rfl (hl.at 2 rfl) ?_
  refine xr_getNI C hS xf_X3 1 (by decide) xn_q172 rfl hf dX1_add_86 (fun x86 hf => ?_)
  refine xr_aload_n C dX1_add_89 rfl (hl.at 2 rfl) ?_
  refine xr_getNI C hS xf_X3 2 (by decide) xn_q174 rfl hf dX1_add_90 (fun x90 hf => ?_)
  refine lv_iload_n hx hb dX1_add_93 rfl (hl.at 0 rfl) ?_
  refine xr_I (n := 5) (fr := 1) (lo := 20) (As := [.int a2, .int x82, .int x86, .int x90, .int t0]) C hS q442 q443 q72 q444 rfl hd_X5_init ⟨Nat.le_trans (Nat.le_of_ble_eq_true rfl) hR.1, Nat.le_trans (Nat.le_of_ble_eq_true rfl) hR.2⟩ rfl hl.1.1 rfl (xm_rc (va_rf_cat _) (xm_rc (va_rf_cat _) xm_r0)) (ci := 5) hf (fun v h1 k1 n1 e1 => ct_X5_init l D N e1) dX1_add_94 (fun _ h H locs cells slots kc ks hS hf => ?_)
  refine W.eq (g2 := F0 m 97 ls [va_rf x76, va_rf x73]) rfl ?_
  refine xr_F (V := fun v => some (.int v)) (n := 1) (fr := 6) (lo := 170) (As := [va_rf x76]) C hS xf_J2 q267 q270 q272 q59 q274 xn_i3 hdi_J2_add ⟨Nat.le_trans (Nat.le_of_ble_eq_true rfl) hR.1, Nat.le_trans (Nat.le_of_ble_eq_true rfl) hR.2⟩ rfl hl.1.1 rfl xm_r0 hf (fun v h1 k1 n1 e1 => ct_J2_add l D N e1) dX1_add_97 (fun x97 h H locs cells slots kc ks hS hf => ?_)
  refine W.eq (g2 := F0 m 102 ls [.int x97]) rfl ?_
  refine lv_pop hx hb dX1_add_102 rfl ?_
  exact xr_vret C hS hr hf dX1_add_103
theorem w_X1_add_b58 (C : xh_C cX1_add 4 "SungSlides$Song" D g p s m args meth c) (hr : meth.sig.returnType = (Option.none : Option Jvm.ClassFile.FieldType)) (hR : 7 ≤ R.frames ∧ 191 ≤ R.locals) {rv : Unit} {hF : xh_H} (N : Nat) : ∀ (a0 : Option Nat) (a1 : Option Nat) (a2 : Int32) (h : xh_H) (H : Heap) (locs : List Loc) (cells slots kc ks : Nat) (ls : Array Slot), f_X1_add_b58 N a0 a1 a2 h = some (rv, hF, kc, ks) → xh_T D g s R h H locs cells slots kc ks → xh_L ls 4 [(0, va_rf a0), (1, va_rf a1), (2, .int a2)] → W p l e R s m args below meth c H locs cells slots (MQ below (xh_Q D g none hF) args s R.cells R.slots (xh_A g)) (F0 m 58 ls []) := by
  intro a0 a1 a2 h H locs cells slots kc ks ls hf hS hl
  have hx := C.1
  have hb := C.2.1
  unfold f_X1_add_b58 at hf
  refine xr_aload_n C dX1_add_58 rfl (hl.at 0 rfl) ?_
  refine xr_V (V := fun v => some (.int v)) (n := 0) (fr := 3) (lo := 64) (As := []) C hS xf_X1 (lw_V q437 q438 q439 q56 q440) hdv_X1_phrases ⟨Nat.le_trans (Nat.le_of_ble_eq_true rfl) hR.1, Nat.le_trans (Nat.le_of_ble_eq_true rfl) hR.2⟩ rfl hl.1.1 rfl xm_r0 hf (fun v h1 k1 n1 e1 => ct_X1_phrases l D N e1) dX1_add_59 (fun x59 h H locs cells slots kc ks hS hf => ?_)
  refine W.eq (g2 := F0 m 62 ls [.int x59]) rfl ?_
  refine lv_goto (tgt := 71) hx hb dX1_add_62 (by decide) ?_
  exact w_X1_add_b71 C hr hR N a0 a1 a2 x59 h H locs cells slots kc ks ls hf hS (hl.sub [0, 1, 2] rfl)
theorem w_X1_add_b31 (C : xh_C cX1_add 4 "SungSlides$Song" D g p s m args meth c) (hr : meth.sig.returnType = (Option.none : Option Jvm.ClassFile.FieldType)) (hR : 7 ≤ R.frames ∧ 191 ≤ R.locals) {rv : Unit} {hF : xh_H} (N : Nat) : ∀ (h : xh_H) (H : Heap) (locs : List Loc) (cells slots kc ks : Nat) (ls : Array Slot), f_X1_add_b31 N  h = some (rv, hF, kc, ks) → xh_T D g s R h H locs cells slots kc ks → xh_L ls 4 [] → W p l e R s m args below meth c H locs cells slots (MQ below (xh_Q D g none hF) args s R.cells R.slots (xh_A g)) (F0 m 31 ls []) := by
  intro  h H locs cells slots kc ks ls hf hS hl
  have hx := C.1
  have hb := C.2.1
  unfold f_X1_add_b31 at hf
  cases hf
/-- SungSlides$Song.add(LSungSlides$Plan;)V -/
theorem w_X1_add (C : xh_C cX1_add 4 "SungSlides$Song" D g p s m args meth c) (hr : meth.sig.returnType = (Option.none : Option Jvm.ClassFile.FieldType)) (hR : 7 ≤ R.frames ∧ 191 ≤ R.locals) {rv : Unit} {hF : xh_H} (N : Nat) (a0 : Option Nat) (a1 : Option Nat)  (h : xh_H) (H : Heap) (locs : List Loc) (cells slots kc ks : Nat) (ls : Array Slot) (hf : f_X1_add N a0 a1 h = some (rv, hF, kc, ks)) (hS : xh_T D g s R h H locs cells slots kc ks) (hl : xh_L ls 4 [(0, va_rf a0), (1, va_rf a1)]) : W p l e R s m args below meth c H locs cells slots (MQ below (xh_Q D g none hF) args s R.cells R.slots (xh_A g)) (F0 m 0 ls []) := by
  have hx := C.1
  have hb := C.2.1
  unfold f_X1_add at hf
  refine xr_aload_n C dX1_add_0 rfl (hl.at 0 rfl) ?_
  refine xr_V (V := fun v => some (.int v)) (n := 0) (fr := 3) (lo := 64) (As := []) C hS xf_X1 (lw_V q332 q333 q334 q56 q335) hdv_X1_end ⟨Nat.le_trans (Nat.le_of_ble_eq_true rfl) hR.1, Nat.le_trans (Nat.le_of_ble_eq_true rfl) hR.2⟩ rfl hl.1.1 rfl xm_r0 hf (fun v h1 k1 n1 e1 => ct_X1_end l D N e1) dX1_add_1 (fun x1 h H locs cells slots kc ks hS hf => ?_)
  refine W.eq (g2 := F0 m 4 ls [.int x1]) rfl ?_
  refine xr_aload_n C dX1_add_4 rfl (hl.at 1 rfl) ?_
  refine xr_getNI C hS xf_X3 0 (by decide) xn_q170 rfl hf dX1_add_5 (fun x5 hf => ?_)
  refine lv_iadd hx hb dX1_add_8 ?_
  refine xr_istore_n C dX1_add_9 rfl hl (Nat.le_of_ble_eq_true rfl) (lv' := [(2, .int (x1 + x5)), (0, va_rf a0), (1, va_rf a1)]) rfl (fun ls hl => ?_)
  refine xr_aload_n C dX1_add_10 rfl (hl.at 1 rfl) ?_
  refine xr_V (V := fun v => some (.int v)) (n := 0) (fr := 1) (lo := 20) (As := []) C hS xf_X1 (lw_V q345 q346 q347 q56 q348) hdv_X1_many ⟨Nat.le_trans (Nat.le_of_ble_eq_true rfl) hR.1, Nat.le_trans (Nat.le_of_ble_eq_true rfl) hR.2⟩ rfl hl.1.1 rfl xm_r0 hf (fun v h1 k1 n1 e1 => ct_X1_many l D N e1) dX1_add_11 (fun x11 h H locs cells slots kc ks hS hf => ?_)
  refine W.eq (g2 := F0 m 14 ls [.int x11]) rfl ?_
  refine lv_bipush (v := 40) hx hb dX1_add_14 xi_b40 ?_
  refine lv_icmp_eq (tgt := 31) hx hb dX1_add_16 (by decide) (fun c16 => ?_) (fun c16 => ?_)
  · replace hf := xb_pos c16 hf
    exact w_X1_add_b31 C hr hR N  h H locs cells slots kc ks ls hf hS (hl.sub [] rfl)
  · replace hf := xb_neg c16 hf
    refine lv_iload_n hx hb dX1_add_19 rfl (hl.at 0 rfl) ?_
    refine xr_aload_n C dX1_add_20 rfl (hl.at 2 rfl) ?_
    refine xr_getNI C hS xf_X3 3 (by decide) xn_q176 rfl hf dX1_add_21 (fun x21 hf => ?_)
    refine lv_iadd hx hb dX1_add_24 ?_
    refine lv_sipush (v := 600) hx hb dX1_add_25 xi_s600 ?_
    refine lv_icmp_le (tgt := 39) hx hb dX1_add_28 (by decide) (fun c28 => ?_) (fun c28 => ?_)
    · replace hf := xb_pos c28 hf
      refine xr_aload_n C dX1_add_39 rfl (hl.at 2 rfl) ?_
      refine xr_getNI C hS xf_X3 4 (by decide) xn_q178 rfl hf dX1_add_40 (fun x40 hf => ?_)
      refine lv_if_ne (tgt := 58) hx hb dX1_add_43 (by decide) (fun c43 => ?_) (fun c43 => ?_)
      · replace hf := xb_neg c43 hf
        exact w_X1_add_b58 C hr hR N a0 a1 (x1 + x5)  h H locs cells slots kc ks ls hf hS (hl.sub [1, 2, 0] rfl)
      · replace hf := xb_pos c43 hf
        refine xr_aload_n C dX1_add_46 rfl (hl.at 1 rfl) ?_
        refine xr_getR C hS xf_X1 0 (by decide) q122 (fun _ h => h) hf dX1_add_47 (fun x47 hf => ?_)
        refine xr_F (V := fun v => some (.int v)) (n := 0) (fr := 0) (lo := 0) (As := []) C hS xf_J2 q337 q340 q342 q59 q344 xn_i4 hdi_J2_isEmpty ⟨Nat.le_trans (Nat.le_of_ble_eq_true rfl) hR.1, Nat.le_trans (Nat.le_of_ble_eq_true rfl) hR.2⟩ rfl hl.1.1 rfl xm_r0 hf (fun v h1 k1 n1 e1 => ct_J2_isEmpty l D N e1) dX1_add_50 (fun x50 h H locs cells slots kc ks hS hf => ?_)
        refine W.eq (g2 := F0 m 55 ls [.int x50]) rfl ?_
        refine lv_if_eq (tgt := 65) hx hb dX1_add_55 (by decide) (fun c55 => ?_) (fun c55 => ?_)
        · replace hf := xb_pos c55 hf
          refine xr_aload_n C dX1_add_65 rfl (hl.at 1 rfl) ?_
          refine xr_V (V := fun v => some (.int v)) (n := 0) (fr := 3) (lo := 64) (As := []) C hS xf_X1 (lw_V q437 q438 q439 q56 q440) hdv_X1_phrases ⟨Nat.le_trans (Nat.le_of_ble_eq_true rfl) hR.1, Nat.le_trans (Nat.le_of_ble_eq_true rfl) hR.2⟩ rfl hl.1.1 rfl xm_r0 hf (fun v h1 k1 n1 e1 => ct_X1_phrases l D N e1) dX1_add_66 (fun x66 h H locs cells slots kc ks hS hf => ?_)
          refine W.eq (g2 := F0 m 69 ls [.int x66]) rfl ?_
          refine lv_iconst (v := 1) hx hb dX1_add_69 xi_c1 ?_
          refine lv_isub hx hb dX1_add_70 ?_
          exact w_X1_add_b71 C hr hR N a0 a1 (x1 + x5) (x66 - (1 : Int32)) h H locs cells slots kc ks ls hf hS (hl.sub [1, 2, 0] rfl)
        · replace hf := xb_neg c55 hf
          exact w_X1_add_b58 C hr hR N a0 a1 (x1 + x5)  h H locs cells slots kc ks ls hf hS (hl.sub [1, 2, 0] rfl)
    · replace hf := xb_neg c28 hf
      exact w_X1_add_b31 C hr hR N  h H locs cells slots kc ks ls hf hS (hl.sub [] rfl)
theorem ct_X1_add (l : Launch) (D : xh_D) {rv : Unit} {h hF : xh_H} {kc ks : Nat} (N : Nat) {a0 : Option Nat} {a1 : Option Nat} (hf : f_X1_add N a0 a1 h = some (rv, hF, kc, ks)) : xh_Ct l D yX1_add (ws_ yX1_add cX1_add 4 (Option.none : Option Jvm.ClassFile.FieldType)) 7 191 [va_rf a0, va_rf a1] h none hF kc ks :=
  xh_meth (cc := cX1_add) l (by decide) (Nat.le_of_ble_eq_true rfl) (List.forall_mem_cons.mpr ⟨va_rf_cat _, List.forall_mem_cons.mpr ⟨va_rf_cat _, fun _ h => absurd h List.not_mem_nil⟩⟩) fun p e s m below meth c ls C hr hnm hl hS => w_X1_add C hr ⟨Nat.le_refl _, Nat.le_refl _⟩ N a0 a1 h _ _ _ _ _ _ _ hf hS hl
def K_X1_copy_38 (p : Program) (l : Launch) (e : Env) (s : State) (m : MethodId) (args : Array Value) (below : List Frame) (meth : Method) (c : Code) (D : xh_D) (g : Nat → Nat) (R : Room) (rv : Option Nat) (hF : xh_H) (k : Option Nat → Option Nat → xh_H → xh_R (Option Nat)) : Prop := ∀ (a1 : Option Nat) (a2 : Option Nat) (h : xh_H) (H : Heap) (locs : List Loc) (cells slots kc ks : Nat) (ls : Array Slot), k a1 a2 h = some (rv, hF, kc, ks) → xh_T D g s R h H locs cells slots kc ks → xh_L ls 4 [(1, va_rf a1), (2, va_rf a2)] → W p l e R s m args below meth c H locs cells slots (MQ below (xh_Q D g (some (va_rf rv)) hF) args s R.cells R.slots (xh_A g)) (F0 m 38 ls [])
theorem w_X1_copy_b71 (C : xh_C cX1_copy 4 "SungSlides$Song" D g p s m args meth c) (hr : meth.sig.returnType = (Option.some (Jvm.ClassFile.FieldType.object "SungSlides$Song"))) (hR : 7 ≤ R.frames ∧ 191 ≤ R.locals) {rv : Option Nat} {hF : xh_H} (N : Nat) : ∀ (a1 : Option Nat) (h : xh_H) (H : Heap) (locs : List Loc) (cells slots kc ks : Nat) (ls : Array Slot), f_X1_copy_b71 N a1 h = some (rv, hF, kc, ks) → xh_T D g s R h H locs cells slots kc ks → xh_L ls 4 [(1, va_rf a1)] → W p l e R s m args below meth c H locs cells slots (MQ below (xh_Q D g (some (va_rf rv)) hF) args s R.cells R.slots (xh_A g)) (F0 m 71 ls []) := by
  intro a1 h H locs cells slots kc ks ls hf hS hl
  have hx := C.1
  have hb := C.2.1
  unfold f_X1_copy_b71 at hf
  refine xr_aload_n C dX1_copy_71 rfl (hl.at 0 rfl) ?_
  exact xr_aret C hS hr (Or.inl ⟨_, rfl⟩) hf dX1_copy_72
theorem w_X1_copy_b38 (C : xh_C cX1_copy 4 "SungSlides$Song" D g p s m args meth c) (hr : meth.sig.returnType = (Option.some (Jvm.ClassFile.FieldType.object "SungSlides$Song"))) (hR : 7 ≤ R.frames ∧ 191 ≤ R.locals) {rv : Option Nat} {hF : xh_H} (N : Nat) {k38 : Option Nat → Option Nat → xh_H → xh_R (Option Nat)} (hk38 : K_X1_copy_38 p l e s m args below meth c D g R rv hF k38) : ∀ (a1 : Option Nat) (a2 : Option Nat) (h : xh_H) (H : Heap) (locs : List Loc) (cells slots kc ks : Nat) (ls : Array Slot), f_X1_copy_b38 N k38 a1 a2 h = some (rv, hF, kc, ks) → xh_T D g s R h H locs cells slots kc ks → xh_L ls 4 [(1, va_rf a1), (2, va_rf a2)] → W p l e R s m args below meth c H locs cells slots (MQ below (xh_Q D g (some (va_rf rv)) hF) args s R.cells R.slots (xh_A g)) (F0 m 38 ls []) := by
  intro a1 a2 h H locs cells slots kc ks ls hf hS hl
  have hx := C.1
  have hb := C.2.1
  unfold f_X1_copy_b38 at hf
  refine xr_aload_n C dX1_copy_38 rfl (hl.at 1 rfl) ?_
  refine xr_F (V := fun v => some (.int v)) (n := 0) (fr := 0) (lo := 0) (As := []) C hS xf_J3 q243 q247 q249 q62 q251 xn_i0 hdi_J3_hasNext ⟨Nat.le_trans (Nat.le_of_ble_eq_true rfl) hR.1, Nat.le_trans (Nat.le_of_ble_eq_true rfl) hR.2⟩ rfl hl.1.1 rfl xm_r0 hf (fun v h1 k1 n1 e1 => ct_J3_hasNext l D N e1) dX1_copy_39 (fun x39 h H locs cells slots kc ks hS hf => ?_)
  refine W.eq (g2 := F0 m 44 ls [.int x39]) rfl ?_
  refine lv_if_eq (tgt := 71) hx hb dX1_copy_44 (by decide) (fun c44 => ?_) (fun c44 => ?_)
  · replace hf := xb_pos c44 hf
    exact w_X1_copy_b71 C hr hR N a1  h H locs cells slots kc ks ls hf hS (hl.sub [0] rfl)
  · replace hf := xb_neg c44 hf
    refine xr_aload_n C dX1_copy_47 rfl (hl.at 1 rfl) ?_
    refine xr_F (V := fun v => some (va_rf v)) (n := 0) (fr := 1) (lo := 20) (As := []) C hS xf_J3 q253 q256 q258 q62 q260 xn_i1 hdi_J3_next ⟨Nat.le_trans (Nat.le_of_ble_eq_true rfl) hR.1, Nat.le_trans (Nat.le_of_ble_eq_true rfl) hR.2⟩ rfl hl.1.1 rfl xm_r0 hf (fun v h1 k1 n1 e1 => ct_J3_next l D N e1) dX1_copy_48 (fun x48 h H locs cells slots kc ks hS hf => ?_)
    refine W.eq (g2 := F0 m 53 ls [va_rf x48]) rfl ?_
    refine xr_ccS C hS xf_X5 q265 hf dX1_copy_53 (fun hf => ?_)
    refine xr_astore_n C dX1_copy_56 rfl hl (Nat.le_of_ble_eq_true rfl) (lv' := [(3, va_rf x48), (1, va_rf a1), (2, va_rf a2)]) rfl (fun ls hl => ?_)
    refine xr_aload_n C dX1_copy_57 rfl (hl.at 1 rfl) ?_
    refine xr_getR C hS xf_X1 0 (by decide) q122 (fun _ h => h) hf dX1_copy_58 (fun x58 hf => ?_)
    refine xr_aload_n C dX1_copy_61 rfl (hl.at 0 rfl) ?_
    refine xr_F (V := fun v => some (.int v)) (n := 1) (fr := 6) (lo := 170) (As := [va_rf x48]) C hS xf_J2 q267 q270 q272 q59 q274 xn_i3 hdi_J2_add ⟨Nat.le_trans (Nat.le_of_ble_eq_true rfl) hR.1, Nat.le_trans (Nat.le_of_ble_eq_true rfl) hR.2⟩ rfl hl.1.1 rfl xm_r0 hf (fun v h1 k1 n1 e1 => ct_J2_add l D N e1) dX1_copy_62 (fun x62 h H locs cells slots kc ks hS hf => ?_)
    refine W.eq (g2 := F0 m 67 ls [.int x62]) rfl ?_
    refine lv_pop hx hb dX1_copy_67 rfl ?_
    refine lv_goto (tgt := 38) hx hb dX1_copy_68 (by decide) ?_
    exact hk38 a1 a2  h H locs cells slots kc ks ls hf hS (hl.sub [1, 2] rfl)
theorem w_X1_copy_l38 (C : xh_C cX1_copy 4 "SungSlides$Song" D g p s m args meth c) (hr : meth.sig.returnType = (Option.some (Jvm.ClassFile.FieldType.object "SungSlides$Song"))) (hR : 7 ≤ R.frames ∧ 191 ≤ R.locals) {rv : Option Nat} {hF : xh_H} (N : Nat) : ∀ n : Nat, K_X1_copy_38 p l e s m args below meth c D g R rv hF (f_X1_copy_l38 N n) := by
  intro n
  induction n with
  | zero => exact fun a1 a2 h H locs cells slots kc ks ls hf => absurd (show (none : xh_R (Option Nat)) = some _ from hf) (by intro q; cases q)
  | succ n ih => exact fun a1 a2 h H locs cells slots kc ks ls hf => w_X1_copy_b38 C hr hR N ih a1 a2 h H locs cells slots kc ks ls hf
/-- SungSlides$Song.copy()LSungSlides$Song; -/
theorem w_X1_copy (C : xh_C cX1_copy 4 "SungSlides$Song" D g p s m args meth c) (hr : meth.sig.returnType = (Option.some (Jvm.ClassFile.FieldType.object "SungSlides$Song"))) (hR : 7 ≤ R.frames ∧ 191 ≤ R.locals) {rv : Option Nat} {hF : xh_H} (N : Nat) (a0 : Option Nat)  (h : xh_H) (H : Heap) (locs : List Loc) (cells slots kc ks : Nat) (ls : Array Slot) (hf : f_X1_copy N a0 h = some (rv, hF, kc, ks)) (hS : xh_T D g s R h H locs cells slots kc ks) (hl : xh_L ls 4 [(0, va_rf a0)]) : W p l e R s m args below meth c H locs cells slots (MQ below (xh_Q D g (some (va_rf rv)) hF) args s R.cells R.slots (xh_A g)) (F0 m 0 ls []) := by
  have hx := C.1
  have hb := C.2.1
  unfold f_X1_copy at hf
  refine xr_new C hS xf_X1 q205 q84 q56 (fs := [.null, .null, .null]) rfl xd_X1 hf dX1_copy_0 (fun x0 h H cells slots kc ks hS hf => ?_)
  refine lv_dup hx hb dX1_copy_3 (va_rf_cat _) ?_
  refine xr_aload_n C dX1_copy_4 rfl (hl.at 0 rfl) ?_
  refine xr_getR C hS xf_X1 1 (by decide) q125 (fun _ h => h) hf dX1_copy_5 (fun x5 hf => ?_)
  refine xr_cln C hS hl.1.1.symm q206 q207 q208 q209 q210 (Nat.le_trans (Nat.le_of_ble_eq_true rfl) hR.1) (xm_nat (xm_rc (va_rf_cat _) (xm_rc (va_rf_cat _) xm_r0)) (Nat.le_trans (Nat.le_of_ble_eq_true rfl) hR.2)) hf dX1_copy_8 (fun x8 h H cells slots kc ks hS hf => ?_)
  refine xr_ca C hS q212 hf dX1_copy_11 (fun hf => ?_)
  refine xr_aload_n C dX1_copy_14 rfl (hl.at 0 rfl) ?_
  refine xr_getR C hS xf_X1 2 (by decide) q127 (fun _ h => h) hf dX1_copy_15 (fun x15 hf => ?_)
  refine xr_cln C hS hl.1.1.symm q206 q207 q208 q209 q210 (Nat.le_trans (Nat.le_of_ble_eq_true rfl) hR.1) (xm_nat (xm_rc (va_rf_cat _) (xm_rc (va_rf_cat _) (xm_rc (va_rf_cat _) xm_r0))) (Nat.le_trans (Nat.le_of_ble_eq_true rfl) hR.2)) hf dX1_copy_18 (fun x18 h H cells slots kc ks hS hf => ?_)
  refine xr_ca C hS q212 hf dX1_copy_21 (fun hf => ?_)
  refine xr_I (n := 2) (fr := 4) (lo := 80) (As := [va_rf x8, va_rf x18]) C hS q88 q89 q56 q90 rfl hd_X1_init_2 ⟨Nat.le_trans (Nat.le_of_ble_eq_true rfl) hR.1, Nat.le_trans (Nat.le_of_ble_eq_true rfl) hR.2⟩ rfl hl.1.1 rfl (xm_rc (va_rf_cat _) xm_r0) (ci := 1) hf (fun v h1 k1 n1 e1 => ct_X1_init_2 l D N e1) dX1_copy_24 (fun _ h H locs cells slots kc ks hS hf => ?_)
  refine W.eq (g2 := F0 m 27 ls [va_rf x0]) rfl ?_
  refine xr_astore_n C dX1_copy_27 rfl hl (Nat.le_of_ble_eq_true rfl) (lv' := [(1, va_rf x0), (0, va_rf a0)]) rfl (fun ls hl => ?_)
  refine xr_aload_n C dX1_copy_28 rfl (hl.at 1 rfl) ?_
  refine xr_getR C hS xf_X1 0 (by decide) q122 (fun _ h => h) hf dX1_copy_29 (fun x29 hf => ?_)
  refine xr_F (V := fun v => some (va_rf v)) (n := 0) (fr := 2) (lo := 41) (As := []) C hS xf_J2 q214 q218 q220 q59 q222 xn_i2 hdi_J2_iterator ⟨Nat.le_trans (Nat.le_of_ble_eq_true rfl) hR.1, Nat.le_trans (Nat.le_of_ble_eq_true rfl) hR.2⟩ rfl hl.1.1 rfl xm_r0 hf (fun v h1 k1 n1 e1 => ct_J2_iterator l D N e1) dX1_copy_32 (fun x32 h H locs cells slots kc ks hS hf => ?_)
  refine W.eq (g2 := F0 m 37 ls [va_rf x32]) rfl ?_
  refine xr_astore_n C dX1_copy_37 rfl hl (Nat.le_of_ble_eq_true rfl) (lv' := [(2, va_rf x32), (1, va_rf x0), (0, va_rf a0)]) rfl (fun ls hl => ?_)
  exact w_X1_copy_l38 C hr hR N N x0 x32  h H locs cells slots kc ks ls hf hS (hl.sub [1, 0] rfl)
theorem ct_X1_copy (l : Launch) (D : xh_D) {rv : Option Nat} {h hF : xh_H} {kc ks : Nat} (N : Nat) {a0 : Option Nat} (hf : f_X1_copy N a0 h = some (rv, hF, kc, ks)) : xh_Ct l D yX1_copy (ws_ yX1_copy cX1_copy 4 (Option.some (Jvm.ClassFile.FieldType.object "SungSlides$Song"))) 7 191 [va_rf a0] h (some (va_rf rv)) hF kc ks :=
  xh_meth (cc := cX1_copy) l (by decide) (Nat.le_of_ble_eq_true rfl) (List.forall_mem_cons.mpr ⟨va_rf_cat _, fun _ h => absurd h List.not_mem_nil⟩) fun p e s m below meth c ls C hr hnm hl hS => w_X1_copy C hr ⟨Nat.le_refl _, Nat.le_refl _⟩ N a0 h _ _ _ _ _ _ _ hf hS hl
end WALK
