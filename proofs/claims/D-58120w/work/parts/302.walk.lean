/-! WALKS, printed by gen/walk.py -/
set_option maxRecDepth 100000
section WALK
variable {p : Program} {l : Launch} {e : Env} {s : State} {m : MethodId} {args : Array Value} {below : List Frame} {meth : Method} {c : Code} {D : xh_D} {g : Nat → Nat} {R : Room}
/-- java/util/ArrayList$Itr.next()Ljava/lang/Object; -/
theorem w_J3_next (C : xh_C cJ3_next 3 "java/util/ArrayList$Itr" D g p s m args meth c) (hr : meth.sig.returnType = (Option.some (Jvm.ClassFile.FieldType.object "java/lang/Object"))) (hR : 1 ≤ R.frames ∧ 20 ≤ R.locals) {rv : Option Nat} {hF : xh_H} (N : Nat) (a0 : Option Nat)  (h : xh_H) (H : Heap) (locs : List Loc) (cells slots kc ks : Nat) (ls : Array Slot) (hf : f_J3_next N a0 h = some (rv, hF, kc, ks)) (hS : xh_T D g s R h H locs cells slots kc ks) (hl : xh_L ls 3 [(0, va_rf a0)]) : W p l e R s m args below meth c H locs cells slots (MQ below (xh_Q D g (some (va_rf rv)) hF) args s R.cells R.slots (xh_A g)) (F0 m 0 ls []) := by
  have hx := C.1
  have hb := C.2.1
  unfold f_J3_next at hf
  refine xr_aload_n C dJ3_next_0 rfl (hl.at 0 rfl) ?_
  refine xr_V (V := fun _ => none) (n := 0) (fr := 0) (lo := 0) (As := []) C hS xf_J3 (lw_V q261 q262 q263 q62 q264) hdv_J3_checkForComodification ⟨Nat.le_trans (Nat.le_of_ble_eq_true rfl) hR.1, Nat.le_trans (Nat.le_of_ble_eq_true rfl) hR.2⟩ rfl hl.1.1 rfl xm_r0 hf (fun v h1 k1 n1 e1 => ct_J3_checkForComodification l D N e1) dJ3_next_1 (fun _ h H locs cells slots kc ks hS hf => ?_)
  refine W.eq (g2 := F0 m 4 ls []) rfl ?_
  refine xr_aload_n C dJ3_next_4 rfl (hl.at 0 rfl) ?_
  refine xr_getI C hS xf_J3 0 (by decide) q229 (fun _ h => h) hf dJ3_next_5 (fun x5 hf => ?_)
  refine xr_istore_n C dJ3_next_8 rfl hl (Nat.le_of_ble_eq_true rfl) (lv' := [(1, .int x5), (0, va_rf a0)]) rfl (fun ls hl => ?_)
  refine lv_iload_n hx hb dJ3_next_9 rfl (hl.at 0 rfl) ?_
  refine xr_aload_n C dJ3_next_10 rfl (hl.at 1 rfl) ?_
  refine xr_getR C hS xf_J3 3 (by decide) q232 (fun _ h => h) hf dJ3_next_11 (fun x11 hf => ?_)
  refine xr_getNI C hS xf_J2 2 (by decide) xn_q108 rfl hf dJ3_next_14 (fun x14 hf => ?_)
  refine lv_icmp_lt (tgt := 28) hx hb dJ3_next_17 (by decide) (fun c17 => ?_) (fun c17 => ?_)
  · replace hf := xb_pos c17 hf
    refine xr_aload_n C dJ3_next_28 rfl (hl.at 1 rfl) ?_
    refine xr_getR C hS xf_J3 3 (by decide) q232 (fun _ h => h) hf dJ3_next_29 (fun x29 hf => ?_)
    refine xr_getR C hS xf_J2 1 (by decide) q107 (fun _ h => h) hf dJ3_next_32 (fun x32 hf => ?_)
    refine xr_astore_n C dJ3_next_35 rfl hl (Nat.le_of_ble_eq_true rfl) (lv' := [(2, va_rf x32), (1, .int x5), (0, va_rf a0)]) rfl (fun ls hl => ?_)
    refine lv_iload_n hx hb dJ3_next_36 rfl (hl.at 1 rfl) ?_
    refine xr_aload_n C dJ3_next_37 rfl (hl.at 0 rfl) ?_
    refine xr_lq C hS hf dJ3_next_38 (fun x38 hf => ?_)
    refine lv_icmp_lt (tgt := 50) hx hb dJ3_next_39 (by decide) (fun c39 => ?_) (fun c39 => ?_)
    · replace hf := xb_pos c39 hf
      refine xr_aload_n C dJ3_next_50 rfl (hl.at 2 rfl) ?_
      refine lv_iload_n hx hb dJ3_next_51 rfl (hl.at 1 rfl) ?_
      refine lv_iconst (v := 1) hx hb dJ3_next_52 xi_c1 ?_
      refine lv_iadd hx hb dJ3_next_53 ?_
      refine xr_put C hS xf_J3 0 (by decide) q229 (fun _ h => h) rfl xv_int hf dJ3_next_54 (fun h H locs hS hf => ?_)
      refine xr_aload_n C dJ3_next_57 rfl (hl.at 0 rfl) ?_
      refine xr_aload_n C dJ3_next_58 rfl (hl.at 2 rfl) ?_
      refine lv_iload_n hx hb dJ3_next_59 rfl (hl.at 1 rfl) ?_
      refine lv_dup_x1 hx hb dJ3_next_60 rfl (va_rf_cat _) ?_
      refine xr_put C hS xf_J3 1 (by decide) q230 (fun _ h => h) rfl xv_int hf dJ3_next_61 (fun h H locs hS hf => ?_)
      refine xr_aald C hS hf dJ3_next_64 (fun x64 hf => ?_)
      exact xr_aret C hS hr (Or.inl ⟨_, rfl⟩) hf dJ3_next_65
    · replace hf := xb_neg c39 hf
      cases hf
  · replace hf := xb_neg c17 hf
    cases hf
theorem ct_J3_next (l : Launch) (D : xh_D) {rv : Option Nat} {h hF : xh_H} {kc ks : Nat} (N : Nat) {a0 : Option Nat} (hf : f_J3_next N a0 h = some (rv, hF, kc, ks)) : xh_Ct l D yJ3_next (ws_ yJ3_next cJ3_next 3 (Option.some (Jvm.ClassFile.FieldType.object "java/lang/Object"))) 1 20 [va_rf a0] h (some (va_rf rv)) hF kc ks :=
  xh_meth (cc := cJ3_next) l (by decide) (Nat.le_of_ble_eq_true rfl) (List.forall_mem_cons.mpr ⟨va_rf_cat _, fun _ h => absurd h List.not_mem_nil⟩) fun p e s m below meth c ls C hr hnm hl hS => w_J3_next C hr ⟨Nat.le_refl _, Nat.le_refl _⟩ N a0 h _ _ _ _ _ _ _ hf hS hl
/-- SungSlides$Song.<init>([I[I)V -/
theorem w_X1_init_2 (C : xh_C cX1_init_2 3 "SungSlides$Song" D g p s m args meth c) (hr : meth.sig.returnType = (Option.none : Option Jvm.ClassFile.FieldType)) (hnm : meth.name = "<init>") (hR : 4 ≤ R.frames ∧ 80 ≤ R.locals) {rv : Unit} {hF : xh_H} (N : Nat) (a0 : Option Nat) (a1 : Option Nat) (a2 : Option Nat)  (h : xh_H) (H : Heap) (locs : List Loc) (cells slots kc ks : Nat) (ls : Array Slot) (hf : f_X1_init_2 N a0 a1 a2 h = some (rv, hF, kc, ks)) (hS : xh_T D g s R h H locs cells slots kc ks) (hl : xh_L ls 3 [(0, va_rf a0), (1, va_rf a1), (2, va_rf a2)]) : W p l e R s m args below meth c H locs cells slots (MQ below (xh_Q D g none hF) args s R.cells R.slots (xh_A g)) (F0 m 0 ls []) := by
  have hx := C.1
  have hb := C.2.1
  unfold f_X1_init_2 at hf
  refine xr_aload_n C dX1_init_2_0 rfl (hl.at 0 rfl) ?_
  refine xr_oi C hS q91 q81 q82 hl.1.1 ⟨Nat.le_trans (Nat.le_of_ble_eq_true rfl) hR.1, Nat.le_trans (Nat.le_of_ble_eq_true rfl) hR.2⟩ xm_r0 hf dX1_init_2_1 (fun hf => ?_)
  refine xr_aload_n C dX1_init_2_4 rfl (hl.at 0 rfl) ?_
  refine xr_new C hS xf_J2 q92 q93 q59 (fs := [.int 0, .null, .int 0]) rfl xd_J2 hf dX1_init_2_5 (fun x5 h H cells slots kc ks hS hf => ?_)
  refine lv_dup hx hb dX1_init_2_8 (va_rf_cat _) ?_
  refine xr_I (n := 0) (fr := 3) (lo := 60) (As := []) C hS q94 q95 q59 q96 rfl hd_J2_init ⟨Nat.le_trans (Nat.le_of_ble_eq_true rfl) hR.1, Nat.le_trans (Nat.le_of_ble_eq_true rfl) hR.2⟩ rfl hl.1.1 rfl (xm_rc (va_rf_cat _) (xm_rc (va_rf_cat _) xm_r0)) (ci := 8) hf (fun v h1 k1 n1 e1 => ct_J2_init l D N e1) dX1_init_2_9 (fun _ h H locs cells slots kc ks hS hf => ?_)
  refine W.eq (g2 := F0 m 12 ls [va_rf x5, va_rf a0]) rfl ?_
  refine xr_putF C hS hnm xf_X1 0 (by decide) q122 rfl rfl rfl xv_obj hf dX1_init_2_12 (fun h H locs hS hf => ?_)
  refine xr_aload_n C dX1_init_2_15 rfl (hl.at 0 rfl) ?_
  refine xr_aload_n C dX1_init_2_16 rfl (hl.at 1 rfl) ?_
  refine xr_putF C hS hnm xf_X1 1 (by decide) q125 rfl rfl rfl xv_arr hf dX1_init_2_17 (fun h H locs hS hf => ?_)
  refine xr_aload_n C dX1_init_2_20 rfl (hl.at 0 rfl) ?_
  refine xr_aload_n C dX1_init_2_21 rfl (hl.at 2 rfl) ?_
  refine xr_putF C hS hnm xf_X1 2 (by decide) q127 rfl rfl rfl xv_arr hf dX1_init_2_22 (fun h H locs hS hf => ?_)
  exact xr_vret C hS hr hf dX1_init_2_25
theorem ct_X1_init_2 (l : Launch) (D : xh_D) {rv : Unit} {h hF : xh_H} {kc ks : Nat} (N : Nat) {a0 : Option Nat} {a1 : Option Nat} {a2 : Option Nat} (hf : f_X1_init_2 N a0 a1 a2 h = some (rv, hF, kc, ks)) : xh_Ct l D yX1_init_2 (ws_ yX1_init_2 cX1_init_2 3 (Option.none : Option Jvm.ClassFile.FieldType)) 4 80 [va_rf a0, va_rf a1, va_rf a2] h none hF kc ks :=
  xh_meth (cc := cX1_init_2) l (by decide) (Nat.le_of_ble_eq_true rfl) (List.forall_mem_cons.mpr ⟨va_rf_cat _, List.forall_mem_cons.mpr ⟨va_rf_cat _, List.forall_mem_cons.mpr ⟨va_rf_cat _, fun _ h => absurd h List.not_mem_nil⟩⟩⟩) fun p e s m below meth c ls C hr hnm hl hS => w_X1_init_2 C hr hnm ⟨Nat.le_refl _, Nat.le_refl _⟩ N a0 a1 a2 h _ _ _ _ _ _ _ hf hS hl
def K_X1_init_36 (p : Program) (l : Launch) (e : Env) (s : State) (m : MethodId) (args : Array Value) (below : List Frame) (meth : Method) (c : Code) (D : xh_D) (g : Nat → Nat) (R : Room) (rv : Unit) (hF : xh_H) (k : Option Nat → Int32 → xh_H → xh_R Unit) : Prop := ∀ (a0 : Option Nat) (a1 : Int32) (h : xh_H) (H : Heap) (locs : List Loc) (cells slots kc ks : Nat) (ls : Array Slot), k a0 a1 h = some (rv, hF, kc, ks) → xh_T D g s R h H locs cells slots kc ks → xh_L ls 2 [(0, va_rf a0), (1, .int a1)] → W p l e R s m args below meth c H locs cells slots (MQ below (xh_Q D g none hF) args s R.cells R.slots (xh_A g)) (F0 m 36 ls [])
theorem w_X1_init_b36 (C : xh_C cX1_init 2 "SungSlides$Song" D g p s m args meth c) (hr : meth.sig.returnType = (Option.none : Option Jvm.ClassFile.FieldType)) (hnm : meth.name = "<init>") (hR : 5 ≤ R.frames ∧ 102 ≤ R.locals) {rv : Unit} {hF : xh_H} (N : Nat) {k36 : Option Nat → Int32 → xh_H → xh_R Unit} (hk36 : K_X1_init_36 p l e s m args below meth c D g R rv hF k36) : ∀ (a0 : Option Nat) (a1 : Int32) (h : xh_H) (H : Heap) (locs : List Loc) (cells slots kc ks : Nat) (ls : Array Slot), f_X1_init_b36 N k36 a0 a1 h = some (rv, hF, kc, ks) → xh_T D g s R h H locs cells slots kc ks → xh_L ls 2 [(0, va_rf a0), (1, .int a1)] → W p l e R s m args below meth c H locs cells slots (MQ below (xh_Q D g none hF) args s R.cells R.slots (xh_A g)) (F0 m 36 ls []) := by
  intro a0 a1 h H locs cells slots kc ks ls hf hS hl
  have hx := C.1
  have hb := C.2.1
  unfold f_X1_init_b36 at hf
  refine lv_iload_n hx hb dX1_init_36 rfl (hl.at 1 rfl) ?_
  refine lv_sipush (v := 600) hx hb dX1_init_37 xi_s600 ?_
  refine lv_icmp_ge (tgt := 56) hx hb dX1_init_40 (by decide) (fun c40 => ?_) (fun c40 => ?_)
  · replace hf := xb_pos c40 hf
    exact xr_vret C hS hr hf dX1_init_56
  · replace hf := xb_neg c40 hf
    refine xr_aload_n C dX1_init_43 rfl (hl.at 0 rfl) ?_
    refine xr_getR C hS xf_X1 1 (by decide) q125 (fun _ h => h) hf dX1_init_44 (fun x44 hf => ?_)
    refine lv_iload_n hx hb dX1_init_47 rfl (hl.at 1 rfl) ?_
    refine lv_iconst (v := -1) hx hb dX1_init_48 xi_cm1 ?_
    refine xr_iast C hS hf dX1_init_49 (fun h H locs hS hf => ?_)
    refine xr_iinc C dX1_init_50 hl (k := 1) rfl (xi_inc xi_c1) (Nat.le_of_ble_eq_true rfl) (lv' := [(1, .int (a1 + (1 : Int32))), (0, va_rf a0)]) rfl (fun ls hl => ?_)
    refine lv_goto (tgt := 36) hx hb dX1_init_53 (by decide) ?_
    exact hk36 a0 (a1 + (1 : Int32))  h H locs cells slots kc ks ls hf hS (hl.sub [1, 0] rfl)
theorem w_X1_init_l36 (C : xh_C cX1_init 2 "SungSlides$Song" D g p s m args meth c) (hr : meth.sig.returnType = (Option.none : Option Jvm.ClassFile.FieldType)) (hnm : meth.name = "<init>") (hR : 5 ≤ R.frames ∧ 102 ≤ R.locals) {rv : Unit} {hF : xh_H} (N : Nat) : ∀ n : Nat, K_X1_init_36 p l e s m args below meth c D g R rv hF (f_X1_init_l36 N n) := by
  intro n
  induction n with
  | zero => exact fun a0 a1 h H locs cells slots kc ks ls hf => absurd (show (none : xh_R Unit) = some _ from hf) (by intro q; cases q)
  | succ n ih => exact fun a0 a1 h H locs cells slots kc ks ls hf => w_X1_init_b36 C hr hnm hR N ih a0 a1 h H locs cells slots kc ks ls hf
/-- SungSlides$Song.<init>()V -/
theorem w_X1_init (C : xh_C cX1_init 2 "SungSlides$Song" D g p s m args meth c) (hr : meth.sig.returnType = (Option.none : Option Jvm.ClassFile.FieldType)) (hnm : meth.name = "<init>") (hR : 5 ≤ R.frames ∧ 102 ≤ R.locals) {rv : Unit} {hF : xh_H} (N : Nat) (a0 : Option Nat)  (h : xh_H) (H : Heap) (locs : List Loc) (cells slots kc ks : Nat) (ls : Array Slot) (hf : f_X1_init N a0 h = some (rv, hF, kc, ks)) (hS : xh_T D g s R h H locs cells slots kc ks) (hl : xh_L ls 2 [(0, va_rf a0)]) : W p l e R s m args below meth c H locs cells slots (MQ below (xh_Q D g none hF) args s R.cells R.slots (xh_A g)) (F0 m 0 ls []) := by
  have hx := C.1
  have hb := C.2.1
  unfold f_X1_init at hf
  refine xr_aload_n C dX1_init_0 rfl (hl.at 0 rfl) ?_
  refine lv_sipush (v := 600) hx hb dX1_init_1 xi_s600 ?_
  refine xr_na C hS (k := 0) (atype := .int) (ty := .int) rfl rfl (by decide) rfl (fun _ h => h) q121 hf dX1_init_4 (fun x4 h H cells slots kc ks hS hf => ?_)
  refine lv_iconst (v := 5) hx hb dX1_init_6 xi_c5 ?_
  refine xr_na C hS (k := 0) (atype := .int) (ty := .int) rfl rfl (by decide) rfl (fun _ h => h) q121 hf dX1_init_7 (fun x7 h H cells slots kc ks hS hf => ?_)
  refine lv_dup hx hb dX1_init_9 (va_rf_cat _) ?_
  refine lv_iconst (v := 0) hx hb dX1_init_10 xi_c0 ?_
  refine lv_bipush (v := 16) hx hb dX1_init_11 xi_b16 ?_
  refine xr_iast C hS hf dX1_init_13 (fun h H locs hS hf => ?_)
  refine lv_dup hx hb dX1_init_14 (va_rf_cat _) ?_
  refine lv_iconst (v := 1) hx hb dX1_init_15 xi_c1 ?_
  refine lv_iconst (v := 1) hx hb dX1_init_16 xi_c1 ?_
  refine xr_iast C hS hf dX1_init_17 (fun h H locs hS hf => ?_)
  refine lv_dup hx hb dX1_init_18 (va_rf_cat _) ?_
  refine lv_iconst (v := 2) hx hb dX1_init_19 xi_c2 ?_
  refine lv_iconst (v := 2) hx hb dX1_init_20 xi_c2 ?_
  refine xr_iast C hS hf dX1_init_21 (fun h H locs hS hf => ?_)
  refine lv_dup hx hb dX1_init_22 (va_rf_cat _) ?_
  refine lv_iconst (v := 3) hx hb dX1_init_23 xi_c3 ?_
  refine lv_iconst (v := 0) hx hb dX1_init_24 xi_c0 ?_
  refine xr_iast C hS hf dX1_init_25 (fun h H locs hS hf => ?_)
  refine lv_dup hx hb dX1_init_26 (va_rf_cat _) ?_
  refine lv_iconst (v := 4) hx hb dX1_init_27 xi_c4 ?_
  refine lv_bipush (v := 50) hx hb dX1_init_28 xi_b50 ?_
  refine xr_iast C hS hf dX1_init_30 (fun h H locs hS hf => ?_)
  refine xr_I (n := 2) (fr := 4) (lo := 80) (As := [va_rf x4, va_rf x7]) C hS q88 q89 q56 q90 rfl hd_X1_init_2 ⟨Nat.le_trans (Nat.le_of_ble_eq_true rfl) hR.1, Nat.le_trans (Nat.le_of_ble_eq_true rfl) hR.2⟩ rfl hl.1.1 rfl xm_r0 (ci := 1) hf (fun v h1 k1 n1 e1 => ct_X1_init_2 l D N e1) dX1_init_31 (fun _ h H locs cells slots kc ks hS hf => ?_)
  refine W.eq (g2 := F0 m 34 ls []) rfl ?_
  refine lv_iconst (v := 0) hx hb dX1_init_34 xi_c0 ?_
  refine xr_istore_n C dX1_init_35 rfl hl (Nat.le_of_ble_eq_true rfl) (lv' := [(1, .int (0 : Int32)), (0, va_rf a0)]) rfl (fun ls hl => ?_)
  exact w_X1_init_l36 C hr hnm hR N N a0 (0 : Int32)  h H locs cells slots kc ks ls hf hS (hl.sub [1, 0] rfl)
theorem ct_X1_init (l : Launch) (D : xh_D) {rv : Unit} {h hF : xh_H} {kc ks : Nat} (N : Nat) {a0 : Option Nat} (hf : f_X1_init N a0 h = some (rv, hF, kc, ks)) : xh_Ct l D yX1_init (ws_ yX1_init cX1_init 2 (Option.none : Option Jvm.ClassFile.FieldType)) 5 102 [va_rf a0] h none hF kc ks :=
  xh_meth (cc := cX1_init) l (by decide) (Nat.le_of_ble_eq_true rfl) (List.forall_mem_cons.mpr ⟨va_rf_cat _, fun _ h => absurd h List.not_mem_nil⟩) fun p e s m below meth c ls C hr hnm hl hS => w_X1_init C hr hnm ⟨Nat.le_refl _, Nat.le_refl _⟩ N a0 h _ _ _ _ _ _ _ hf hS hl
/-- SungSlides.<init>()V -/
theorem w_X0_init (C : xh_C cX0_init 1 "SungSlides" D g p s m args meth c) (hr : meth.sig.returnType = (Option.none : Option Jvm.ClassFile.FieldType)) (hnm : meth.name = "<init>") (hR : 6 ≤ R.frames ∧ 123 ≤ R.locals) {rv : Unit} {hF : xh_H} (N : Nat) (a0 : Option Nat)  (h : xh_H) (H : Heap) (locs : List Loc) (cells slots kc ks : Nat) (ls : Array Slot) (hf : f_X0_init N a0 h = some (rv, hF, kc, ks)) (hS : xh_T D g s R h H locs cells slots kc ks) (hl : xh_L ls 1 [(0, va_rf a0)]) : W p l e R s m args below meth c H locs cells slots (MQ below (xh_Q D g none hF) args s R.cells R.slots (xh_A g)) (F0 m 0 ls []) := by
  have hx := C.1
  have hb := C.2.1
  unfold f_X0_init at hf
  refine xr_aload_n C dX0_init_0 rfl (hl.at 0 rfl) ?_
  refine xr_oi C hS q80 q81 q82 hl.1.1 ⟨Nat.le_trans (Nat.le_of_ble_eq_true rfl) hR.1, Nat.le_trans (Nat.le_of_ble_eq_true rfl) hR.2⟩ xm_r0 hf dX0_init_1 (fun hf => ?_)
  refine xr_aload_n C dX0_init_4 rfl (hl.at 0 rfl) ?_
  refine xr_new C hS xf_X1 q83 q84 q56 (fs := [.null, .null, .null]) rfl xd_X1 hf dX0_init_5 (fun x5 h H cells slots kc ks hS hf => ?_)
  refine lv_dup hx hb dX0_init_8 (va_rf_cat _) ?_
  refine xr_I (n := 0) (fr := 5) (lo := 102) (As := []) C hS q85 q86 q56 q87 rfl hd_X1_init ⟨Nat.le_trans (Nat.le_of_ble_eq_true rfl) hR.1, Nat.le_trans (Nat.le_of_ble_eq_true rfl) hR.2⟩ rfl hl.1.1 rfl (xm_rc (va_rf_cat _) (xm_rc (va_rf_cat _) xm_r0)) (ci := 1) hf (fun v h1 k1 n1 e1 => ct_X1_init l D N e1) dX0_init_9 (fun _ h H locs cells slots kc ks hS hf => ?_)
  refine W.eq (g2 := F0 m 12 ls [va_rf x5, va_rf a0]) rfl ?_
  refine xr_put C hS xf_X0 0 (by decide) q139 (fun _ h => h) rfl xv_obj hf dX0_init_12 (fun h H locs hS hf => ?_)
  refine xr_aload_n C dX0_init_15 rfl (hl.at 0 rfl) ?_
  refine xr_new C hS xf_J2 q137 q93 q59 (fs := [.int 0, .null, .int 0]) rfl xd_J2 hf dX0_init_16 (fun x16 h H cells slots kc ks hS hf => ?_)
  refine lv_dup hx hb dX0_init_19 (va_rf_cat _) ?_
  refine xr_I (n := 0) (fr := 3) (lo := 60) (As := []) C hS q138 q95 q59 q96 rfl hd_J2_init ⟨Nat.le_trans (Nat.le_of_ble_eq_true rfl) hR.1, Nat.le_trans (Nat.le_of_ble_eq_true rfl) hR.2⟩ rfl hl.1.1 rfl (xm_rc (va_rf_cat _) (xm_rc (va_rf_cat _) xm_r0)) (ci := 8) hf (fun v h1 k1 n1 e1 => ct_J2_init l D N e1) dX0_init_20 (fun _ h H locs cells slots kc ks hS hf => ?_)
  refine W.eq (g2 := F0 m 23 ls [va_rf x16, va_rf a0]) rfl ?_
  refine xr_putF C hS hnm xf_X0 1 (by decide) q140 rfl rfl rfl xv_obj hf dX0_init_23 (fun h H locs hS hf => ?_)
  refine xr_aload_n C dX0_init_26 rfl (hl.at 0 rfl) ?_
  refine lv_bipush (v := 60) hx hb dX0_init_27 xi_b60 ?_
  refine xr_na C hS (k := 1) (atype := .char) (ty := .char) rfl rfl (by decide) rfl (fun _ h => h) q157 hf dX0_init_29 (fun x29 h H cells slots kc ks hS hf => ?_)
  refine xr_putF C hS hnm xf_X0 3 (by decide) q143 rfl rfl rfl xv_arr hf dX0_init_31 (fun h H locs hS hf => ?_)
  exact xr_vret C hS hr hf dX0_init_34
theorem ct_X0_init (l : Launch) (D : xh_D) {rv : Unit} {h hF : xh_H} {kc ks : Nat} (N : Nat) {a0 : Option Nat} (hf : f_X0_init N a0 h = some (rv, hF, kc, ks)) : xh_Ct l D yX0_init (ws_ yX0_init cX0_init 1 (Option.none : Option Jvm.ClassFile.FieldType)) 6 123 [va_rf a0] h none hF kc ks :=
  xh_meth (cc := cX0_init) l (by decide) (Nat.le_of_ble_eq_true rfl) (List.forall_mem_cons.mpr ⟨va_rf_cat _, fun _ h => absurd h List.not_mem_nil⟩) fun p e s m below meth c ls C hr hnm hl hS => w_X0_init C hr hnm ⟨Nat.le_refl _, Nat.le_refl _⟩ N a0 h _ _ _ _ _ _ _ hf hS hl
theorem w_X0_isBetween_b14 (C : xh_C cX0_isBetween 3 "SungSlides" D g p s m args meth c) (hr : meth.sig.returnType = (Option.some Jvm.ClassFile.FieldType.boolean)) (hR : 0 ≤ R.frames ∧ 0 ≤ R.locals) {rv : Int32} {hF : xh_H} (N : Nat) : ∀ (h : xh_H) (H : Heap) (locs : List Loc) (cells slots kc ks : Nat) (ls : Array Slot), f_X0_isBetween_b14 N  h = some (rv, hF, kc, ks) → xh_T D g s R h H locs cells slots kc ks → xh_L ls 3 [] → W p l e R s m args below meth c H locs cells slots (MQ below (xh_Q D g (some (.int rv)) hF) args s R.cells R.slots (xh_A g)) (F0 m 14 ls []) := by
  intro  h H locs cells slots kc ks ls hf hS hl
  have hx := C.1
  have hb := C.2.1
  unfold f_X0_isBetween_b14 at hf
  refine lv_iconst (v := 0) hx hb dX0_isBetween_14 xi_c0 ?_
  exact xr_zret1 C hS hr (by decide) hf dX0_isBetween_15
/-- SungSlides.isBetween(III)Z -/
theorem w_X0_isBetween (C : xh_C cX0_isBetween 3 "SungSlides" D g p s m args meth c) (hr : meth.sig.returnType = (Option.some Jvm.ClassFile.FieldType.boolean)) (hR : 0 ≤ R.frames ∧ 0 ≤ R.locals) {rv : Int32} {hF : xh_H} (N : Nat) (a0 : Int32) (a1 : Int32) (a2 : Int32)  (h : xh_H) (H : Heap) (locs : List Loc) (cells slots kc ks : Nat) (ls : Array Slot) (hf : f_X0_isBetween N a0 a1 a2 h = some (rv, hF, kc, ks)) (hS : xh_T D g s R h H locs cells slots kc ks) (hl : xh_L ls 3 [(0, .int a0), (1, .int a1), (2, .int a2)]) : W p l e R s m args below meth c H locs cells slots (MQ below (xh_Q D g (some (.int rv)) hF) args s R.cells R.slots (xh_A g)) (F0 m 0 ls []) := by
  have hx := C.1
  have hb := C.2.1
  unfold f_X0_isBetween at hf
  refine lv_iload_n hx hb dX0_isBetween_0 rfl (hl.at 1 rfl) ?_
  refine lv_iload_n hx hb dX0_isBetween_1 rfl (hl.at 0 rfl) ?_
  refine lv_icmp_gt (tgt := 14) hx hb dX0_isBetween_2 (by decide) (fun c2 => ?_) (fun c2 => ?_)
  · replace hf := xb_pos c2 hf
    exact w_X0_isBetween_b14 C hr hR N  h H locs cells slots kc ks ls hf hS (hl.sub [] rfl)
  · replace hf := xb_neg c2 hf
    refine lv_iload_n hx hb dX0_isBetween_5 rfl (hl.at 0 rfl) ?_
    refine lv_iload_n hx hb dX0_isBetween_6 rfl (hl.at 2 rfl) ?_
    refine lv_icmp_gt (tgt := 14) hx hb dX0_isBetween_7 (by decide) (fun c7 => ?_) (fun c7 => ?_)
    · replace hf := xb_pos c7 hf
      exact w_X0_isBetween_b14 C hr hR N  h H locs cells slots kc ks ls hf hS (hl.sub [] rfl)
    · replace hf := xb_neg c7 hf
      refine lv_iconst (v := 1) hx hb dX0_isBetween_10 xi_c1 ?_
      refine lv_goto (tgt := 15) hx hb dX0_isBetween_11 (by decide) ?_
      exact xr_zret1 C hS hr (by decide) hf dX0_isBetween_15
theorem ct_X0_isBetween (l : Launch) (D : xh_D) {rv : Int32} {h hF : xh_H} {kc ks : Nat} (N : Nat) {a0 : Int32} {a1 : Int32} {a2 : Int32} (hf : f_X0_isBetween N a0 a1 a2 h = some (rv, hF, kc, ks)) : xh_Ct l D yX0_isBetween (ws_ yX0_isBetween cX0_isBetween 3 (Option.some Jvm.ClassFile.FieldType.boolean)) 0 0 [.int a0, .int a1, .int a2] h (some (.int rv)) hF kc ks :=
  xh_meth (cc := cX0_isBetween) l (by decide) (Nat.le_of_ble_eq_true rfl) (List.forall_mem_cons.mpr ⟨rfl, List.forall_mem_cons.mpr ⟨rfl, List.forall_mem_cons.mpr ⟨rfl, fun _ h => absurd h List.not_mem_nil⟩⟩⟩) fun p e s m below meth c ls C hr hnm hl hS => w_X0_isBetween C hr ⟨Nat.le_refl _, Nat.le_refl _⟩ N a0 a1 a2 h _ _ _ _ _ _ _ hf hS hl
/-- SungSlides.isPitch(I)Z -/
theorem w_X0_isPitch (C : xh_C cX0_isPitch 1 "SungSlides" D g p s m args meth c) (hr : meth.sig.returnType = (Option.some Jvm.ClassFile.FieldType.boolean)) (hR : 1 ≤ R.frames ∧ 22 ≤ R.locals) {rv : Int32} {hF : xh_H} (N : Nat) (a0 : Int32)  (h : xh_H) (H : Heap) (locs : List Loc) (cells slots kc ks : Nat) (ls : Array Slot) (hf : f_X0_isPitch N a0 h = some (rv, hF, kc, ks)) (hS : xh_T D g s R h H locs cells slots kc ks) (hl : xh_L ls 1 [(0, .int a0)]) : W p l e R s m args below meth c H locs cells slots (MQ below (xh_Q D g (some (.int rv)) hF) args s R.cells R.slots (xh_A g)) (F0 m 0 ls []) := by
  have hx := C.1
  have hb := C.2.1
  unfold f_X0_isPitch at hf
  refine lv_iload_n hx hb dX0_isPitch_0 rfl (hl.at 0 rfl) ?_
  refine lv_iconst (v := 0) hx hb dX0_isPitch_1 xi_c0 ?_
  refine lv_bipush (v := 60) hx hb dX0_isPitch_2 xi_b60 ?_
  refine xr_S (V := fun v => some (.int v)) (n := 3) (fr := 0) (lo := 0) (As := [.int a0, .int (0 : Int32), .int (60 : Int32)]) C hS (lw_S q200 q195 q55 q196) hd_X0_isBetween ⟨Nat.le_trans (Nat.le_of_ble_eq_true rfl) hR.1, Nat.le_trans (Nat.le_of_ble_eq_true rfl) hR.2⟩ rfl hl.1.1 rfl xm_r0 hf (fun v h1 k1 n1 e1 => ct_X0_isBetween l D N e1) dX0_isPitch_4 (fun x4 h H locs cells slots kc ks hS hf => ?_)
  refine W.eq (g2 := F0 m 7 ls [.int x4]) rfl ?_
  exact xr_zret C hS hr hf dX0_isPitch_7
theorem ct_X0_isPitch (l : Launch) (D : xh_D) {rv : Int32} {h hF : xh_H} {kc ks : Nat} (N : Nat) {a0 : Int32} (hf : f_X0_isPitch N a0 h = some (rv, hF, kc, ks)) : xh_Ct l D yX0_isPitch (ws_ yX0_isPitch cX0_isPitch 1 (Option.some Jvm.ClassFile.FieldType.boolean)) 1 22 [.int a0] h (some (.int rv)) hF kc ks :=
  xh_meth (cc := cX0_isPitch) l (by decide) (Nat.le_of_ble_eq_true rfl) (List.forall_mem_cons.mpr ⟨rfl, fun _ h => absurd h List.not_mem_nil⟩) fun p e s m below meth c ls C hr hnm hl hS => w_X0_isPitch C hr ⟨Nat.le_refl _, Nat.le_refl _⟩ N a0 h _ _ _ _ _ _ _ hf hS hl
theorem w_X0_changed_b24 (C : xh_C cX0_changed 3 "SungSlides" D g p s m args meth c) (hr : meth.sig.returnType = (Option.some Jvm.ClassFile.FieldType.int)) (hR : 7 ≤ R.frames ∧ 191 ≤ R.locals) {rv : Int32} {hF : xh_H} (N : Nat) : ∀ (a0 : Option Nat) (a1 : Option Nat) (a2 : Int32) (h : xh_H) (H : Heap) (locs : List Loc) (cells slots kc ks : Nat) (ls : Array Slot), f_X0_changed_b24 N a0 a1 a2 h = some (rv, hF, kc, ks) → xh_T D g s R h H locs cells slots kc ks → xh_L ls 3 [(0, va_rf a0), (1, va_rf a1), (2, .int a2)] → W p l e R s m args below meth c H locs cells slots (MQ below (xh_Q D g (some (.int rv)) hF) args s R.cells R.slots (xh_A g)) (F0 m 24 ls []) := by
  intro a0 a1 a2 h H locs cells slots kc ks ls hf hS hl
  have hx := C.1
  have hb := C.2.1
  unfold f_X0_changed_b24 at hf
  refine xr_aload_n C dX0_changed_24 rfl (hl.at 0 rfl) ?_
  refine xr_getR C hS xf_X0 1 (by decide) q140 (fun _ h => h) hf dX0_changed_25 (fun x25 hf => ?_)
  refine xr_aload_n C dX0_changed_28 rfl (hl.at 1 rfl) ?_
  refine xr_F (V := fun v => some (.int v)) (n := 1) (fr := 6) (lo := 170) (As := [va_rf a1]) C hS xf_J2 q497 q270 q272 q59 q274 xn_i3 hdi_J2_add ⟨Nat.le_trans (Nat.le_of_ble_eq_true rfl) hR.1, Nat.le_trans (Nat.le_of_ble_eq_true rfl) hR.2⟩ rfl hl.1.1 rfl xm_r0 hf (fun v h1 k1 n1 e1 => ct_J2_add l D N e1) dX0_changed_29 (fun x29 h H locs cells slots kc ks hS hf => ?_)
  refine W.eq (g2 := F0 m 34 ls [.int x29]) rfl ?_
  refine lv_pop hx hb dX0_changed_34 rfl ?_
  refine lv_iload_n hx hb dX0_changed_35 rfl (hl.at 2 rfl) ?_
  exact xr_iret C hS hr hf dX0_changed_36
/-- SungSlides.changed(LSungSlides$Song;I)I -/
theorem w_X0_changed (C : xh_C cX0_changed 3 "SungSlides" D g p s m args meth c) (hr : meth.sig.returnType = (Option.some Jvm.ClassFile.FieldType.int)) (hR : 7 ≤ R.frames ∧ 191 ≤ R.locals) {rv : Int32} {hF : xh_H} (N : Nat) (a0 : Option Nat) (a1 : Option Nat) (a2 : Int32)  (h : xh_H) (H : Heap) (locs : List Loc) (cells slots kc ks : Nat) (ls : Array Slot) (hf : f_X0_changed N a0 a1 a2 h = some (rv, hF, kc, ks)) (hS : xh_T D g s R h H locs cells slots kc ks) (hl : xh_L ls 3 [(0, va_rf a0), (1, va_rf a1), (2, .int a2)]) : W p l e R s m args below meth c H locs cells slots (MQ below (xh_Q D g (some (.int rv)) hF) args s R.cells R.slots (xh_A g)) (F0 m 0 ls []) := by
  have hx := C.1
  have hb := C.2.1
  unfold f_X0_changed at hf
  refine xr_aload_n C dX0_changed_0 rfl (hl.at 0 rfl) ?_
  refine xr_getR C hS xf_X0 1 (by decide) q140 (fun _ h => h) hf dX0_changed_1 (fun x1 hf => ?_)
  refine xr_F (V := fun v => some (.int v)) (n := 0) (fr := 0) (lo := 0) (As := []) C hS xf_J2 q481 q353 q355 q59 q357 xn_i5 hdi_J2_size ⟨Nat.le_trans (Nat.le_of_ble_eq_true rfl) hR.1, Nat.le_trans (Nat.le_of_ble_eq_true rfl) hR.2⟩ rfl hl.1.1 rfl xm_r0 hf (fun v h1 k1 n1 e1 => ct_J2_size l D N e1) dX0_changed_4 (fun x4 h H locs cells slots kc ks hS hf => ?_)
  refine W.eq (g2 := F0 m 9 ls [.int x4]) rfl ?_
  refine lv_iconst (v := 4) hx hb dX0_changed_9 xi_c4 ?_
  refine lv_icmp_ne (tgt := 24) hx hb dX0_changed_10 (by decide) (fun c10 => ?_) (fun c10 => ?_)
  · replace hf := xb_neg c10 hf
    exact w_X0_changed_b24 C hr hR N a0 a1 a2  h H locs cells slots kc ks ls hf hS (hl.sub [0, 1, 2] rfl)
  · replace hf := xb_pos c10 hf
    refine xr_aload_n C dX0_changed_13 rfl (hl.at 0 rfl) ?_
    refine xr_getR C hS xf_X0 1 (by decide) q140 (fun _ h => h) hf dX0_changed_14 (fun x14 hf => ?_)
    refine lv_iconst (v := 0) hx hb dX0_changed_17 xi_c0 ?_
    refine xr_F (V := fun v => some (va_rf v)) (n := 1) (fr := 2) (lo := 83) (As := [.int (0 : Int32)]) C hS xf_J2 q483 q486 q488 q59 q490 xn_i7 hdi_J2_remove ⟨Nat.le_trans (Nat.le_of_ble_eq_true rfl) hR.1, Nat.le_trans (Nat.le_of_ble_eq_true rfl) hR.2⟩ rfl hl.1.1 rfl xm_r0 hf (fun v h1 k1 n1 e1 => ct_J2_remove l D N e1) dX0_changed_18 (fun x18 h H locs cells slots kc ks hS hf => ?_)
    refine W.eq (g2 := F0 m 23 ls [va_rf x18]) rfl ?_
    refine lv_pop hx hb dX0_changed_23 (va_rf_cat _) ?_
    exact w_X0_changed_b24 C hr hR N a0 a1 a2  h H locs cells slots kc ks ls hf hS (hl.sub [0, 1, 2] rfl)
theorem ct_X0_changed (l : Launch) (D : xh_D) {rv : Int32} {h hF : xh_H} {kc ks : Nat} (N : Nat) {a0 : Option Nat} {a1 : Option Nat} {a2 : Int32} (hf : f_X0_changed N a0 a1 a2 h = some (rv, hF, kc, ks)) : xh_Ct l D yX0_changed (ws_ yX0_changed cX0_changed 3 (Option.some Jvm.ClassFile.FieldType.int)) 7 191 [va_rf a0, va_rf a1, .int a2] h (some (.int rv)) hF kc ks :=
  xh_meth (cc := cX0_changed) l (by decide) (Nat.le_of_ble_eq_true rfl) (List.forall_mem_cons.mpr ⟨va_rf_cat _, List.forall_mem_cons.mpr ⟨va_rf_cat _, List.forall_mem_cons.mpr ⟨rfl, fun _ h => absurd h List.not_mem_nil⟩⟩⟩) fun p e s m below meth c ls C hr hnm hl hS => w_X0_changed C hr ⟨Nat.le_refl _, Nat.le_refl _⟩ N a0 a1 a2 h _ _ _ _ _ _ _ hf hS hl
def K_X1_copy_38 (p : Program) (l : Launch) (e : Env) (s : State) (m : MethodId) (args : Array Value) (below : List Frame) (meth : Method) (c : Code) (D : xh_D) (g : Nat → Nat) (R : Room) (rv : Option Nat) (hF : xh_H) (k : Option Nat → Option Nat → xh_H → xh_R (Option Nat)) : Prop := ∀ (a1 : Option Nat) (a2 : Option Nat) (h : xh_H) (H : Heap) (locs : List Loc) (cells slots kc ks : Nat) (ls : Array Slot), k a1 a2 h = some (rv, hF, kc, ks) → xh_T D g s R h H locs cells slots kc ks → xh_L ls 4 [(1, va_rf a1), (2, va_rf a2)] → W p l e R s m args below meth c H locs cells slots (MQ below (xh_Q D g (some (va_rf rv)) hF) args s R.cells R.slots (xh_A g)) (F0 m 38 ls [])
theorem w_X1_copy_b71 (C : xh_C cX1_copy 4 "SungSlides$Song" D g p s m args meth c) (hr : meth.sig.returnType = (Option.some (Jvm.ClassFile.FieldType.object "SungSlides$Song"))) (hR : 7 ≤ R.frames ∧ 191 ≤ R.locals) {rv : Option Nat} {hF : xh_H} (N : Nat) : ∀ (a1 : Option Nat) (h : xh_H) (H : Heap) (locs : List Loc) (cells slots kc ks : Nat) (ls : Array Slot), f_X1_copy_b71 N a1 h = some (rv, hF, kc, ks) → xh_T D g s R h H locs cells slots kc ks → xh_L ls 4 [(1, va_rf a1)] → W p l e R s m args below meth c H locs cells slots (MQ below (xh_Q D g (some (va_rf rv)) hF) args s R.cells R.slots (xh_A g)) (F0 m 71 ls []) := by
  intro a1 h H locs cells slots kc ks ls hf hS hl
  have hx := C.1
  have hb := C.2.1
  unfold f_X1_copy_b71 at hf
  refine xr_aload_n C dX1_copy_71 rfl (hl.at 0 rfl) ?_
  exact xr_aret C hS hr (Or.inl ⟨_, rfl⟩) hf dX1_copy_72
theorem w_X1_copy_b38 (C : xh_C cX1_copy 4 "SungSlides$Song" D g p s m args meth c) (hr : meth.sig.returnType = (Option.some (Jvm.ClassFile.FieldType.object "SungSlides$Song"))) (hR : 7 ≤ R.frames ∧ 191 ≤ R.locals) {rv : Option Nat} {hF : xh_H} (N : Nat) {k38 : Option Nat → Option Nat → xh_H → xh_R (Option Nat)} (hk38 : K_X1_copy_38 p l e s m args below meth c D g R rv hF k38) : ∀ (a1 : Option Nat) (a2 : Option Nat) (h : xh_H) (H : Heap) (locs : List Loc) (cells slots kc ks : Nat) (ls : Array Slot), f_X1_copy_b38 N k38 a1 a2 h = some (rv, hF, kc, ks) → xh_T D g s R h H locs cells slots kc ks → xh_L ls 4 [(1, va_rf a1), (2, va_rf a2)] → W p l e R s m args below meth c H locs cells slots (MQ below (xh_Q D g (some (va_rf rv)) hF) args s R.cells R.slots (xh_A g)) (F0 m 38 ls []) := by
  intro a1 a2 h H locs cells slots kc ks ls hf hS hl
  have hx := C.1
  have hb := C.2.1
  unfold f_X1_copy_b38 at hf
  refine xr_aload_n C dX1_copy_38 rfl (hl.at 1 rfl) ?_
  refine xr_F (V := fun v => some (.int v)) (n := 0) (fr := 0) (lo := 0) (As := []) C hS xf_J3 q243 q247 q249 q62 q251 xn_i0 hdi_J3_hasNext ⟨Nat.le_trans (Nat.le_of_ble_eq_true rfl) hR.1, Nat.le_trans (Nat.le_of_ble_eq_true rfl) hR.2⟩ rfl hl.1.1 rfl xm_r0 hf (fun v h1 k1 n1 e1 => ct_J3_hasNext l D N e1) dX1_copy_39 (fun x39 h H locs cells slots kc ks hS hf => ?_)
  refine W.eq (g2 := F0 m 44 ls [.int x39]) rfl ?_
  refine lv_if_eq (tgt := 71) hx hb dX1_copy_44 (by decide) (fun c44 => ?_) (fun c44 => ?_)
  · replace hf := xb_pos c44 hf
    exact w_X1_copy_b71 C hr hR N a1  h H locs cells slots kc ks ls hf hS (hl.sub [0] rfl)
  · replace hf := xb_neg c44 hf
    refine xr_aload_n C dX1_copy_47 rfl (hl.at 1 rfl) ?_
    refine xr_F (V := fun v => some (va_rf v)) (n := 0) (fr := 1) (lo := 20) (As := []) C hS xf_J3 q253 q256 q258 q62 q260 xn_i1 hdi_J3_next ⟨Nat.le_trans (Nat.le_of_ble_eq_true rfl) hR.1, Nat.le_trans (Nat.le_of_ble_eq_true rfl) hR.2⟩ rfl hl.1.1 rfl xm_r0 hf (fun v h1 k1 n1 e1 => ct_J3_next l D N e1) dX1_copy_48 (fun x48 h H locs cells slots kc ks hS hf => ?_)
    refine W.eq (g2 := F0 m 53 ls [va_rf x48]) rfl ?_
    refine xr_ccS C hS xf_X5 q265 hf dX1_copy_53 (fun hf => ?_)
    refine xr_astore_n C dX1_copy_56 rfl hl (Nat.le_of_ble_eq_true rfl) (lv' := [(3, va_rf x48), (1, va_rf a1), (2, va_rf a2)]) rfl (fun ls hl => ?_)
    refine xr_aload_n C dX1_copy_57 rfl (hl.at 1 rfl) ?_
    refine xr_getR C hS xf_X1 0 (by decide) q122 (fun _ h => h) hf dX1_copy_58 (fun x58 hf => ?_)
    refine xr_aload_n C dX1_copy_61 rfl (hl.at 0 rfl) ?_
    refine xr_F (V := fun v => some (.int v)) (n := 1) (fr := 6) (lo := 170) (As := [va_rf x48]) C hS xf_J2 q267 q270 q272 q59 q274 xn_i3 hdi_J2_add ⟨Nat.le_trans (Nat.le_of_ble_eq_true rfl) hR.1, Nat.le_trans (Nat.le_of_ble_eq_true rfl) hR.2⟩ rfl hl.1.1 rfl xm_r0 hf (fun v h1 k1 n1 e1 => ct_J2_add l D N e1) dX1_copy_62 (fun x62 h H locs cells slots kc ks hS hf => ?_)
    refine W.eq (g2 := F0 m 67 ls [.int x62]) rfl ?_
    refine lv_pop hx hb dX1_copy_67 rfl ?_
    refine lv_goto (tgt := 38) hx hb dX1_copy_68 (by decide) ?_
    exact hk38 a1 a2  h H locs cells slots kc ks ls hf hS (hl.sub [1, 2] rfl)
theorem w_X1_copy_l38 (C : xh_C cX1_copy 4 "SungSlides$Song" D g p s m args meth c) (hr : meth.sig.returnType = (Option.some (Jvm.ClassFile.FieldType.object "SungSlides$Song"))) (hR : 7 ≤ R.frames ∧ 191 ≤ R.locals) {rv : Option Nat} {hF : xh_H} (N : Nat) : ∀ n : Nat, K_X1_copy_38 p l e s m args below meth c D g R rv hF (f_X1_copy_l38 N n) := by
  intro n
  induction n with
  | zero => exact fun a1 a2 h H locs cells slots kc ks ls hf => absurd (show (none : xh_R (Option Nat)) = some _ from hf) (by intro q; cases q)
  | succ n ih => exact fun a1 a2 h H locs cells slots kc ks ls hf => w_X1_copy_b38 C hr hR N ih a1 a2 h H locs cells slots kc ks ls hf
/-- SungSlides$Song.copy()LSungSlides$Song; -/
theorem w_X1_copy (C : xh_C cX1_copy 4 "SungSlides$Song" D g p s m args meth c) (hr : meth.sig.returnType = (Option.some (Jvm.ClassFile.FieldType.object "SungSlides$Song"))) (hR : 7 ≤ R.frames ∧ 191 ≤ R.locals) {rv : Option Nat} {hF : xh_H} (N : Nat) (a0 : Option Nat)  (h : xh_H) (H : Heap) (locs : List Loc) (cells slots kc ks : Nat) (ls : Array Slot) (hf : f_X1_copy N a0 h = some (rv, hF, kc, ks)) (hS : xh_T D g s R h H locs cells slots kc ks) (hl : xh_L ls 4 [(0, va_rf a0)]) : W p l e R s m args below meth c H locs cells slots (MQ below (xh_Q D g (some (va_rf rv)) hF) args s R.cells R.slots (xh_A g)) (F0 m 0 ls []) := by
  have hx := C.1
  have hb := C.2.1
  unfold f_X1_copy at hf
  refine xr_new C hS xf_X1 q205 q84 q56 (fs := [.null, .null, .null]) rfl xd_X1 hf dX1_copy_0 (fun x0 h H cells slots kc ks hS hf => ?_)
  refine lv_dup hx hb dX1_copy_3 (va_rf_cat _) ?_
  refine xr_aload_n C dX1_copy_4 rfl (hl.at 0 rfl) ?_
  refine xr_getR C hS xf_X1 1 (by decide) q125 (fun _ h => h) hf dX1_copy_5 (fun x5 hf => ?_)
  refine xr_cln C hS hl.1.1.symm q206 q207 q208 q209 q210 (Nat.le_trans (Nat.le_of_ble_eq_true rfl) hR.1) (xm_nat (xm_rc (va_rf_cat _) (xm_rc (va_rf_cat _) xm_r0)) (Nat.le_trans (Nat.le_of_ble_eq_true rfl) hR.2)) hf dX1_copy_8 (fun x8 h H cells slots kc ks hS hf => ?_)
  refine xr_ca C hS q212 hf dX1_copy_11 (fun hf => ?_)
  refine xr_aload_n C dX1_copy_14 rfl (hl.at 0 rfl) ?_
  refine xr_getR C hS xf_X1 2 (by decide) q127 (fun _ h => h) hf dX1_copy_15 (fun x15 hf => ?_)
  refine xr_cln C hS hl.1.1.symm q206 q207 q208 q209 q210 (Nat.le_trans (Nat.le_of_ble_eq_true rfl) hR.1) (xm_nat (xm_rc (va_rf_cat _) (xm_rc (va_rf_cat _) (xm_rc (va_rf_cat _) xm_r0))) (Nat.le_trans (Nat.le_of_ble_eq_true rfl) hR.2)) hf dX1_copy_18 (fun x18 h H cells slots kc ks hS hf => ?_)
  refine xr_ca C hS q212 hf dX1_copy_21 (fun hf => ?_)
  refine xr_I (n := 2) (fr := 4) (lo := 80) (As := [va_rf x8, va_rf x18]) C hS q88 q89 q56 q90 rfl hd_X1_init_2 ⟨Nat.le_trans (Nat.le_of_ble_eq_true rfl) hR.1, Nat.le_trans (Nat.le_of_ble_eq_true rfl) hR.2⟩ rfl hl.1.1 rfl (xm_rc (va_rf_cat _) xm_r0) (ci := 1) hf (fun v h1 k1 n1 e1 => ct_X1_init_2 l D N e1) dX1_copy_24 (fun _ h H locs cells slots kc ks hS hf => ?_)
  refine W.eq (g2 := F0 m 27 ls [va_rf x0]) rfl ?_
  refine xr_astore_n C dX1_copy_27 rfl hl (Nat.le_of_ble_eq_true rfl) (lv' := [(1, va_rf x0), (0, va_rf a0)]) rfl (fun ls hl => ?_)
  refine xr_aload_n C dX1_copy_28 rfl (hl.at 1 rfl) ?_
  refine xr_getR C hS xf_X1 0 (by decide) q122 (fun _ h => h) hf dX1_copy_29 (fun x29 hf => ?_)
  refine xr_F (V := fun v => some (va_rf v)) (n := 0) (fr := 2) (lo := 41) (As := []) C hS xf_J2 q214 q218 q220 q59 q222 xn_i2 hdi_J2_iterator ⟨Nat.le_trans (Nat.le_of_ble_eq_true rfl) hR.1, Nat.le_trans (Nat.le_of_ble_eq_true rfl) hR.2⟩ rfl hl.1.1 rfl xm_r0 hf (fun v h1 k1 n1 e1 => ct_J2_iterator l D N e1) dX1_copy_32 (fun x32 h H locs cells slots kc ks hS hf => ?_)
  refine W.eq (g2 := F0 m 37 ls [va_rf x32]) rfl ?_
  refine xr_astore_n C dX1_copy_37 rfl hl (Nat.le_of_ble_eq_true rfl) (lv' := [(2, va_rf x32), (1, va_rf x0), (0, va_rf a0)]) rfl (fun ls hl => ?_)
  exact w_X1_copy_l38 C hr hR N N x0 x32  h H locs cells slots kc ks ls hf hS (hl.sub [1, 0] rfl)
theorem ct_X1_copy (l : Launch) (D : xh_D) {rv : Option Nat} {h hF : xh_H} {kc ks : Nat} (N : Nat) {a0 : Option Nat} (hf : f_X1_copy N a0 h = some (rv, hF, kc, ks)) : xh_Ct l D yX1_copy (ws_ yX1_copy cX1_copy 4 (Option.some (Jvm.ClassFile.FieldType.object "SungSlides$Song"))) 7 191 [va_rf a0] h (some (va_rf rv)) hF kc ks :=
  xh_meth (cc := cX1_copy) l (by decide) (Nat.le_of_ble_eq_true rfl) (List.forall_mem_cons.mpr ⟨va_rf_cat _, fun _ h => absurd h List.not_mem_nil⟩) fun p e s m below meth c ls C hr hnm hl hS => w_X1_copy C hr ⟨Nat.le_refl _, Nat.le_refl _⟩ N a0 h _ _ _ _ _ _ _ hf hS hl
/-- SungSlides$Song.many()I -/
theorem w_X1_many (C : xh_C cX1_many 1 "SungSlides$Song" D g p s m args meth c) (hr : meth.sig.returnType = (Option.some Jvm.ClassFile.FieldType.int)) (hR : 1 ≤ R.frames ∧ 20 ≤ R.locals) {rv : Int32} {hF : xh_H} (N : Nat) (a0 : Option Nat)  (h : xh_H) (H : Heap) (locs : List Loc) (cells slots kc ks : Nat) (ls : Array Slot) (hf : f_X1_many N a0 h = some (rv, hF, kc, ks)) (hS : xh_T D g s R h H locs cells slots kc ks) (hl : xh_L ls 1 [(0, va_rf a0)]) : W p l e R s m args below meth c H locs cells slots (MQ below (xh_Q D g (some (.int rv)) hF) args s R.cells R.slots (xh_A g)) (F0 m 0 ls []) := by
  have hx := C.1
  have hb := C.2.1
  unfold f_X1_many at hf
  refine xr_aload_n C dX1_many_0 rfl (hl.at 0 rfl) ?_
  refine xr_getR C hS xf_X1 0 (by decide) q122 (fun _ h => h) hf dX1_many_1 (fun x1 hf => ?_)
  refine xr_F (V := fun v => some (.int v)) (n := 0) (fr := 0) (lo := 0) (As := []) C hS xf_J2 q350 q353 q355 q59 q357 xn_i5 hdi_J2_size ⟨Nat.le_trans (Nat.le_of_ble_eq_true rfl) hR.1, Nat.le_trans (Nat.le_of_ble_eq_true rfl) hR.2⟩ rfl hl.1.1 rfl xm_r0 hf (fun v h1 k1 n1 e1 => ct_J2_size l D N e1) dX1_many_4 (fun x4 h H locs cells slots kc ks hS hf => ?_)
  refine W.eq (g2 := F0 m 9 ls [.int x4]) rfl ?_
  exact xr_iret C hS hr hf dX1_many_9
theorem ct_X1_many (l : Launch) (D : xh_D) {rv : Int32} {h hF : xh_H} {kc ks : Nat} (N : Nat) {a0 : Option Nat} (hf : f_X1_many N a0 h = some (rv, hF, kc, ks)) : xh_Ct l D yX1_many (ws_ yX1_many cX1_many 1 (Option.some Jvm.ClassFile.FieldType.int)) 1 20 [va_rf a0] h (some (.int rv)) hF kc ks :=
  xh_meth (cc := cX1_many) l (by decide) (Nat.le_of_ble_eq_true rfl) (List.forall_mem_cons.mpr ⟨va_rf_cat _, fun _ h => absurd h List.not_mem_nil⟩) fun p e s m below meth c ls C hr hnm hl hS => w_X1_many C hr ⟨Nat.le_refl _, Nat.le_refl _⟩ N a0 h _ _ _ _ _ _ _ hf hS hl
/-- SungSlides.drop()I -/
theorem w_X0_drop (C : xh_C cX0_drop 2 "SungSlides" D g p s m args meth c) (hr : meth.sig.returnType = (Option.some Jvm.ClassFile.FieldType.int)) (hR : 8 ≤ R.frames ∧ 214 ≤ R.locals) {rv : Int32} {hF : xh_H} (N : Nat) (a0 : Option Nat)  (h : xh_H) (H : Heap) (locs : List Loc) (cells slots kc ks : Nat) (ls : Array Slot) (hf : f_X0_drop N a0 h = some (rv, hF, kc, ks)) (hS : xh_T D g s R h H locs cells slots kc ks) (hl : xh_L ls 2 [(0, va_rf a0)]) : W p l e R s m args below meth c H locs cells slots (MQ below (xh_Q D g (some (.int rv)) hF) args s R.cells R.slots (xh_A g)) (F0 m 0 ls []) := by
  have hx := C.1
  have hb := C.2.1
  unfold f_X0_drop at hf
  refine xr_aload_n C dX0_drop_0 rfl (hl.at 0 rfl) ?_
  refine xr_getR C hS xf_X0 0 (by decide) q139 (fun _ h => h) hf dX0_drop_1 (fun x1 hf => ?_)
  refine xr_getNR C hS xf_X1 0 (by decide) xn_q124 rfl hf dX0_drop_4 (fun x4 hf => ?_)
  refine xr_F (V := fun v => some (.int v)) (n := 0) (fr := 0) (lo := 0) (As := []) C hS xf_J2 q503 q340 q342 q59 q344 xn_i4 hdi_J2_isEmpty ⟨Nat.le_trans (Nat.le_of_ble_eq_true rfl) hR.1, Nat.le_trans (Nat.le_of_ble_eq_true rfl) hR.2⟩ rfl hl.1.1 rfl xm_r0 hf (fun v h1 k1 n1 e1 => ct_J2_isEmpty l D N e1) dX0_drop_7 (fun x7 h H locs cells slots kc ks hS hf => ?_)
  refine W.eq (g2 := F0 m 12 ls [.int x7]) rfl ?_
  refine lv_if_eq (tgt := 18) hx hb dX0_drop_12 (by decide) (fun c12 => ?_) (fun c12 => ?_)
  · replace hf := xb_pos c12 hf
    refine xr_aload_n C dX0_drop_18 rfl (hl.at 0 rfl) ?_
    refine xr_getR C hS xf_X0 0 (by decide) q139 (fun _ h => h) hf dX0_drop_19 (fun x19 hf => ?_)
    refine xr_V (V := fun v => some (va_rf v)) (n := 0) (fr := 7) (lo := 191) (As := []) C hS xf_X1 (lw_V q201 q202 q203 q56 q204) hdv_X1_copy ⟨Nat.le_trans (Nat.le_of_ble_eq_true rfl) hR.1, Nat.le_trans (Nat.le_of_ble_eq_true rfl) hR.2⟩ rfl hl.1.1 rfl xm_r0 hf (fun v h1 k1 n1 e1 => ct_X1_copy l D N e1) dX0_drop_22 (fun x22 h H locs cells slots kc ks hS hf => ?_)
    refine W.eq (g2 := F0 m 25 ls [va_rf x22]) rfl ?_
    refine xr_astore_n C dX0_drop_25 rfl hl (Nat.le_of_ble_eq_true rfl) (lv' := [(1, va_rf x22), (0, va_rf a0)]) rfl (fun ls hl => ?_)
    refine xr_aload_n C dX0_drop_26 rfl (hl.at 1 rfl) ?_
    refine xr_getR C hS xf_X0 0 (by decide) q139 (fun _ h => h) hf dX0_drop_27 (fun x27 hf => ?_)
    refine xr_getNR C hS xf_X1 0 (by decide) xn_q124 rfl hf dX0_drop_30 (fun x30 hf => ?_)
    refine xr_aload_n C dX0_drop_33 rfl (hl.at 1 rfl) ?_
    refine xr_getR C hS xf_X0 0 (by decide) q139 (fun _ h => h) hf dX0_drop_34 (fun x34 hf => ?_)
    refine xr_V (V := fun v => some (.int v)) (n := 0) (fr := 1) (lo := 20) (As := []) C hS xf_X1 (lw_V q472 q346 q347 q56 q348) hdv_X1_many ⟨Nat.le_trans (Nat.le_of_ble_eq_true rfl) hR.1, Nat.le_trans (Nat.le_of_ble_eq_true rfl) hR.2⟩ rfl hl.1.1 rfl (xm_rc (va_rf_cat _) xm_r0) hf (fun v h1 k1 n1 e1 => ct_X1_many l D N e1) dX0_drop_37 (fun x37 h H locs cells slots kc ks hS hf => ?_)
    refine W.eq (g2 := F0 m 40 ls [.int x37, va_rf x30]) rfl ?_
    refine lv_iconst (v := 1) hx hb dX0_drop_40 xi_c1 ?_
    refine lv_isub hx hb dX0_drop_41 ?_
    refine xr_F (V := fun v => some (va_rf v)) (n := 1) (fr := 2) (lo := 83) (As := [.int (x37 - (1 : Int32))]) C hS xf_J2 q483 q486 q488 q59 q490 xn_i7 hdi_J2_remove ⟨Nat.le_trans (Nat.le_of_ble_eq_true rfl) hR.1, Nat.le_trans (Nat.le_of_ble_eq_true rfl) hR.2⟩ rfl hl.1.1 rfl xm_r0 hf (fun v h1 k1 n1 e1 => ct_J2_remove l D N e1) dX0_drop_42 (fun x42 h H locs cells slots kc ks hS hf => ?_)
    refine W.eq (g2 := F0 m 47 ls [va_rf x42]) rfl ?_
    refine lv_pop hx hb dX0_drop_47 (va_rf_cat _) ?_
    refine xr_aload_n C dX0_drop_48 rfl (hl.at 1 rfl) ?_
    refine xr_aload_n C dX0_drop_49 rfl (hl.at 0 rfl) ?_
    refine xr_aload_n C dX0_drop_50 rfl (hl.at 1 rfl) ?_
    refine xr_getR C hS xf_X0 0 (by decide) q139 (fun _ h => h) hf dX0_drop_51 (fun x51 hf => ?_)
    refine xr_V (V := fun v => some (.int v)) (n := 0) (fr := 1) (lo := 20) (As := []) C hS xf_X1 (lw_V q472 q346 q347 q56 q348) hdv_X1_many ⟨Nat.le_trans (Nat.le_of_ble_eq_true rfl) hR.1, Nat.le_trans (Nat.le_of_ble_eq_true rfl) hR.2⟩ rfl hl.1.1 rfl (xm_rc (va_rf_cat _) (xm_rc (va_rf_cat _) xm_r0)) hf (fun v h1 k1 n1 e1 => ct_X1_many l D N e1) dX0_drop_54 (fun x54 h H locs cells slots kc ks hS hf => ?_)
    refine W.eq (g2 := F0 m 57 ls [.int x54, va_rf x22, va_rf a0]) rfl ?_
    refine xr_V (V := fun v => some (.int v)) (n := 2) (fr := 7) (lo := 191) (As := [va_rf x22, .int x54]) C hS xf_X0 (lw_V q476 q478 qs4 q55 q479) hdv_X0_changed ⟨Nat.le_trans (Nat.le_of_ble_eq_true rfl) hR.1, Nat.le_trans (Nat.le_of_ble_eq_true rfl) hR.2⟩ rfl hl.1.1 rfl xm_r0 hf (fun v h1 k1 n1 e1 => ct_X0_changed l D N e1) dX0_drop_57 (fun x57 h H locs cells slots kc ks hS hf => ?_)
    refine W.eq (g2 := F0 m 60 ls [.int x57]) rfl ?_
    exact xr_iret C hS hr hf dX0_drop_60
  · replace hf := xb_neg c12 hf
    refine lv_bipush (v := -5) hx hb dX0_drop_15 xi_bm5 ?_
    exact xr_iret C hS hr hf dX0_drop_17
theorem ct_X0_drop (l : Launch) (D : xh_D) {rv : Int32} {h hF : xh_H} {kc ks : Nat} (N : Nat) {a0 : Option Nat} (hf : f_X0_drop N a0 h = some (rv, hF, kc, ks)) : xh_Ct l D yX0_drop (ws_ yX0_drop cX0_drop 2 (Option.some Jvm.ClassFile.FieldType.int)) 8 214 [va_rf a0] h (some (.int rv)) hF kc ks :=
  xh_meth (cc := cX0_drop) l (by decide) (Nat.le_of_ble_eq_true rfl) (List.forall_mem_cons.mpr ⟨va_rf_cat _, fun _ h => absurd h List.not_mem_nil⟩) fun p e s m below meth c ls C hr hnm hl hS => w_X0_drop C hr ⟨Nat.le_refl _, Nat.le_refl _⟩ N a0 h _ _ _ _ _ _ _ hf hS hl
/-- SungSlides.isRight(II)Z -/
theorem w_X0_isRight (C : xh_C cX0_isRight 2 "SungSlides" D g p s m args meth c) (hr : meth.sig.returnType = (Option.some Jvm.ClassFile.FieldType.boolean)) (hR : 1 ≤ R.frames ∧ 22 ≤ R.locals) {rv : Int32} {hF : xh_H} (N : Nat) (a0 : Int32) (a1 : Int32)  (h : xh_H) (H : Heap) (locs : List Loc) (cells slots kc ks : Nat) (ls : Array Slot) (hf : f_X0_isRight N a0 a1 h = some (rv, hF, kc, ks)) (hS : xh_T D g s R h H locs cells slots kc ks) (hl : xh_L ls 2 [(0, .int a0), (1, .int a1)]) : W p l e R s m args below meth c H locs cells slots (MQ below (xh_Q D g (some (.int rv)) hF) args s R.cells R.slots (xh_A g)) (F0 m 0 ls []) := by
  have hx := C.1
  have hb := C.2.1
  unfold f_X0_isRight at hf
  refine lv_iload_n hx hb dX0_isRight_0 rfl (hl.at 1 rfl) ?_
  refine xr_gs2 C hS q576 dX0_isRight_1 ?_
  refine lv_iload_n hx hb dX0_isRight_4 rfl (hl.at 0 rfl) ?_
  refine xr_ld2 C hS hf dX0_isRight_5 (fun x5 hf => ?_)
  refine xr_gs3 C hS q578 dX0_isRight_6 ?_
  refine lv_iload_n hx hb dX0_isRight_9 rfl (hl.at 0 rfl) ?_
  refine xr_ld3 C hS hf dX0_isRight_10 (fun x10 hf => ?_)
  refine xr_S (V := fun v => some (.int v)) (n := 3) (fr := 0) (lo := 0) (As := [.int a1, .int x5, .int x10]) C hS (lw_S q200 q195 q55 q196) hd_X0_isBetween ⟨Nat.le_trans (Nat.le_of_ble_eq_true rfl) hR.1, Nat.le_trans (Nat.le_of_ble_eq_true rfl) hR.2⟩ rfl hl.1.1 rfl xm_r0 hf (fun v h1 k1 n1 e1 => ct_X0_isBetween l D N e1) dX0_isRight_11 (fun x11 h H locs cells slots kc ks hS hf => ?_)
  refine W.eq (g2 := F0 m 14 ls [.int x11]) rfl ?_
  exact xr_zret C hS hr hf dX0_isRight_14
theorem ct_X0_isRight (l : Launch) (D : xh_D) {rv : Int32} {h hF : xh_H} {kc ks : Nat} (N : Nat) {a0 : Int32} {a1 : Int32} (hf : f_X0_isRight N a0 a1 h = some (rv, hF, kc, ks)) : xh_Ct l D yX0_isRight (ws_ yX0_isRight cX0_isRight 2 (Option.some Jvm.ClassFile.FieldType.boolean)) 1 22 [.int a0, .int a1] h (some (.int rv)) hF kc ks :=
  xh_meth (cc := cX0_isRight) l (by decide) (Nat.le_of_ble_eq_true rfl) (List.forall_mem_cons.mpr ⟨rfl, List.forall_mem_cons.mpr ⟨rfl, fun _ h => absurd h List.not_mem_nil⟩⟩) fun p e s m below meth c ls C hr hnm hl hS => w_X0_isRight C hr ⟨Nat.le_refl _, Nat.le_refl _⟩ N a0 a1 h _ _ _ _ _ _ _ hf hS hl
/-- SungSlides.isSetting(I)Z -/
theorem w_X0_isSetting (C : xh_C cX0_isSetting 1 "SungSlides" D g p s m args meth c) (hr : meth.sig.returnType = (Option.some Jvm.ClassFile.FieldType.boolean)) (hR : 1 ≤ R.frames ∧ 22 ≤ R.locals) {rv : Int32} {hF : xh_H} (N : Nat) (a0 : Int32)  (h : xh_H) (H : Heap) (locs : List Loc) (cells slots kc ks : Nat) (ls : Array Slot) (hf : f_X0_isSetting N a0 h = some (rv, hF, kc, ks)) (hS : xh_T D g s R h H locs cells slots kc ks) (hl : xh_L ls 1 [(0, .int a0)]) : W p l e R s m args below meth c H locs cells slots (MQ below (xh_Q D g (some (.int rv)) hF) args s R.cells R.slots (xh_A g)) (F0 m 0 ls []) := by
  have hx := C.1
  have hb := C.2.1
  unfold f_X0_isSetting at hf
  refine lv_iload_n hx hb dX0_isSetting_0 rfl (hl.at 0 rfl) ?_
  refine lv_iconst (v := 0) hx hb dX0_isSetting_1 xi_c0 ?_
  refine lv_iconst (v := 4) hx hb dX0_isSetting_2 xi_c4 ?_
  refine xr_S (V := fun v => some (.int v)) (n := 3) (fr := 0) (lo := 0) (As := [.int a0, .int (0 : Int32), .int (4 : Int32)]) C hS (lw_S q200 q195 q55 q196) hd_X0_isBetween ⟨Nat.le_trans (Nat.le_of_ble_eq_true rfl) hR.1, Nat.le_trans (Nat.le_of_ble_eq_true rfl) hR.2⟩ rfl hl.1.1 rfl xm_r0 hf (fun v h1 k1 n1 e1 => ct_X0_isBetween l D N e1) dX0_isSetting_3 (fun x3 h H locs cells slots kc ks hS hf => ?_)
  refine W.eq (g2 := F0 m 6 ls [.int x3]) rfl ?_
  exact xr_zret C hS hr hf dX0_isSetting_6
theorem ct_X0_isSetting (l : Launch) (D : xh_D) {rv : Int32} {h hF : xh_H} {kc ks : Nat} (N : Nat) {a0 : Int32} (hf : f_X0_isSetting N a0 h = some (rv, hF, kc, ks)) : xh_Ct l D yX0_isSetting (ws_ yX0_isSetting cX0_isSetting 1 (Option.some Jvm.ClassFile.FieldType.boolean)) 1 22 [.int a0] h (some (.int rv)) hF kc ks :=
  xh_meth (cc := cX0_isSetting) l (by decide) (Nat.le_of_ble_eq_true rfl) (List.forall_mem_cons.mpr ⟨rfl, fun _ h => absurd h List.not_mem_nil⟩) fun p e s m below meth c ls C hr hnm hl hS => w_X0_isSetting C hr ⟨Nat.le_refl _, Nat.le_refl _⟩ N a0 h _ _ _ _ _ _ _ hf hS hl
end WALK
