/-! WALKS, printed by gen/walk.py -/
set_option maxRecDepth 100000
section WALK
variable {p : Program} {l : Launch} {e : Env} {s : State} {m : MethodId} {args : Array Value} {below : List Frame} {meth : Method} {c : Code} {D : xh_D} {g : Nat → Nat} {R : Room}
/-- SungSlides$Judge.share(I)I -/
theorem w_X7_share (C : xh_C cX7_share 2 "SungSlides$Judge" D g p s m args meth c) (hr : meth.sig.returnType = (Option.some Jvm.ClassFile.FieldType.int)) (hR : 3 ≤ R.frames ∧ 64 ≤ R.locals) {rv : Int32} {hF : xh_H} (N : Nat) (a0 : Option Nat) (a1 : Int32)  (h : xh_H) (H : Heap) (locs : List Loc) (cells slots kc ks : Nat) (ls : Array Slot) (hf : f_X7_share N a0 a1 h = some (rv, hF, kc, ks)) (hS : xh_T D g s R h H locs cells slots kc ks) (hl : xh_L ls 2 [(0, va_rf a0), (1, .int a1)]) : W p l e R s m args below meth c H locs cells slots (MQ below (xh_Q D g (some (.int rv)) hF) args s R.cells R.slots (xh_A g)) (F0 m 0 ls []) := by
  have hx := C.1
  have hb := C.2.1
  unfold f_X7_share at hf
  refine xr_aload_n C dX7_share_0 rfl (hl.at 0 rfl) ?_
  refine xr_getR C hS xf_X7 1 (by decide) q602 (fun _ h => h) hf dX7_share_1 (fun x1 hf => ?_)
  refine lv_iload_n hx hb dX7_share_4 rfl (hl.at 1 rfl) ?_
  refine xr_iald C hS hf dX7_share_5 (fun x5 hf => ?_)
  refine lv_bipush (v := 100) hx hb dX7_share_6 xi_b100 ?_
  refine lv_imul hx hb dX7_share_8 ?_
  refine xr_aload_n C dX7_share_9 rfl (hl.at 0 rfl) ?_
  refine xr_getR C hS xf_X7 0 (by decide) q601 (fun _ h => h) hf dX7_share_10 (fun x10 hf => ?_)
  refine xr_getNR C hS xf_X1 0 (by decide) xn_q123 rfl hf dX7_share_13 (fun x13 hf => ?_)
  refine lv_iload_n hx hb dX7_share_16 rfl (hl.at 1 rfl) ?_
  refine xr_F (V := fun v => some (va_rf v)) (n := 1) (fr := 2) (lo := 43) (As := [.int a1]) C hS xf_J2 q638 q362 q364 q59 q366 xn_i6 hdi_J2_get ⟨Nat.le_trans (Nat.le_of_ble_eq_true rfl) hR.1, Nat.le_trans (Nat.le_of_ble_eq_true rfl) hR.2⟩ rfl hl.1.1 rfl (xm_rc rfl xm_r0) hf (fun v h1 k1 n1 e1 => ct_J2_get l D N e1) dX7_share_17 (fun x17 h H locs cells slots kc ks hS hf => ?_)
  refine W.eq (g2 := F0 m 22 ls [va_rf x17, .int (x5 * (100 : Int32))]) rfl ?_
  refine xr_ccS C hS xf_X5 q639 hf dX7_share_22 (fun hf => ?_)
  refine xr_getNI C hS xf_X5 1 (by decide) xn_q451 rfl hf dX7_share_25 (fun x25 hf => ?_)
  obtain ⟨c28, hf⟩ := xb_nif hf
  refine lv_idiv hx hb dX7_share_28 c28 ?_
  exact xr_iret C hS hr hf dX7_share_29
theorem ct_X7_share (l : Launch) (D : xh_D) {rv : Int32} {h hF : xh_H} {kc ks : Nat} (N : Nat) {a0 : Option Nat} {a1 : Int32} (hf : f_X7_share N a0 a1 h = some (rv, hF, kc, ks)) : xh_Ct l D yX7_share (ws_ yX7_share cX7_share 2 (Option.some Jvm.ClassFile.FieldType.int)) 3 64 [va_rf a0, .int a1] h (some (.int rv)) hF kc ks :=
  xh_meth (cc := cX7_share) l (by decide) (Nat.le_of_ble_eq_true rfl) (List.forall_mem_cons.mpr ⟨va_rf_cat _, List.forall_mem_cons.mpr ⟨rfl, fun _ h => absurd h List.not_mem_nil⟩⟩) fun p e s m below meth c ls C hr hnm hl hS => w_X7_share C hr ⟨Nat.le_refl _, Nat.le_refl _⟩ N a0 a1 h _ _ _ _ _ _ _ hf hS hl
def K_X7_reason_8 (p : Program) (l : Launch) (e : Env) (s : State) (m : MethodId) (args : Array Value) (below : List Frame) (meth : Method) (c : Code) (D : xh_D) (g : Nat → Nat) (R : Room) (rv : Int32) (hF : xh_H) (k : Option Nat → Option Nat → Int32 → Int32 → Int32 → xh_H → xh_R Int32) : Prop := ∀ (a0 : Option Nat) (a1 : Option Nat) (a2 : Int32) (a3 : Int32) (a4 : Int32) (h : xh_H) (H : Heap) (locs : List Loc) (cells slots kc ks : Nat) (ls : Array Slot), k a0 a1 a2 a3 a4 h = some (rv, hF, kc, ks) → xh_T D g s R h H locs cells slots kc ks → xh_L ls 5 [(0, va_rf a0), (1, va_rf a1), (2, .int a2), (3, .int a3), (4, .int a4)] → W p l e R s m args below meth c H locs cells slots (MQ below (xh_Q D g (some (.int rv)) hF) args s R.cells R.slots (xh_A g)) (F0 m 8 ls [])
theorem w_X7_reason_b44 (C : xh_C cX7_reason 5 "SungSlides$Judge" D g p s m args meth c) (hr : meth.sig.returnType = (Option.some Jvm.ClassFile.FieldType.int)) (hR : 4 ≤ R.frames ∧ 85 ≤ R.locals) {rv : Int32} {hF : xh_H} (N : Nat) : ∀ (a0 : Option Nat) (a2 : Int32) (a3 : Int32) (h : xh_H) (H : Heap) (locs : List Loc) (cells slots kc ks : Nat) (ls : Array Slot), f_X7_reason_b44 N a0 a2 a3 h = some (rv, hF, kc, ks) → xh_T D g s R h H locs cells slots kc ks → xh_L ls 5 [(0, va_rf a0), (2, .int a2), (3, .int a3)] → W p l e R s m args below meth c H locs cells slots (MQ below (xh_Q D g (some (.int rv)) hF) args s R.cells R.slots (xh_A g)) (F0 m 44 ls []) := by
  intro a0 a2 a3 h H locs cells slots kc ks ls hf hS hl
  have hx := C.1
  have hb := C.2.1
  unfold f_X7_reason_b44 at hf
  refine lv_iload_n hx hb dX7_reason_44 rfl (hl.at 2 rfl) ?_
  refine lv_if_eq (tgt := 50) hx hb dX7_reason_45 (by decide) (fun c45 => ?_) (fun c45 => ?_)
  · replace hf := xb_pos c45 hf
    refine xr_aload_n C dX7_reason_50 rfl (hl.at 0 rfl) ?_
    refine xr_getR C hS xf_X7 1 (by decide) q602 (fun _ h => h) hf dX7_reason_51 (fun x51 hf => ?_)
    refine lv_iload_n hx hb dX7_reason_54 rfl (hl.at 1 rfl) ?_
    refine xr_iald C hS hf dX7_reason_55 (fun x55 hf => ?_)
    refine lv_if_ne (tgt := 61) hx hb dX7_reason_56 (by decide) (fun c56 => ?_) (fun c56 => ?_)
    · replace hf := xb_neg c56 hf
      refine xr_aload_n C dX7_reason_61 rfl (hl.at 0 rfl) ?_
      refine xr_getR C hS xf_X7 2 (by decide) q604 (fun _ h => h) hf dX7_reason_62 (fun x62 hf => ?_)
      refine lv_iload_n hx hb dX7_reason_65 rfl (hl.at 1 rfl) ?_
      refine xr_iald C hS hf dX7_reason_66 (fun x66 hf => ?_)
      refine lv_bipush (v := -5) hx hb dX7_reason_67 xi_bm5 ?_
      refine lv_icmp_ne (tgt := 76) hx hb dX7_reason_69 (by decide) (fun c69 => ?_) (fun c69 => ?_)
      · replace hf := xb_neg c69 hf
        refine xr_aload_n C dX7_reason_76 rfl (hl.at 0 rfl) ?_
        refine lv_iload_n hx hb dX7_reason_77 rfl (hl.at 1 rfl) ?_
        refine xr_V (V := fun v => some (.int v)) (n := 1) (fr := 3) (lo := 64) (As := [.int a2]) C hS xf_X7 (lw_V q666 q667 q668 q74 q669) hdv_X7_share ⟨Nat.le_trans (Nat.le_of_ble_eq_true rfl) hR.1, Nat.le_trans (Nat.le_of_ble_eq_true rfl) hR.2⟩ rfl hl.1.1 rfl xm_r0 hf (fun v h1 k1 n1 e1 => ct_X7_share l D N e1) dX7_reason_78 (fun x78 h H locs cells slots kc ks hS hf => ?_)
        refine W.eq (g2 := F0 m 81 ls [.int x78]) rfl ?_
        refine xr_aload_n C dX7_reason_81 rfl (hl.at 0 rfl) ?_
        refine xr_getR C hS xf_X7 0 (by decide) q601 (fun _ h => h) hf dX7_reason_82 (fun x82 hf => ?_)
        refine xr_getNR C hS xf_X1 2 (by decide) xn_q128 rfl hf dX7_reason_85 (fun x85 hf => ?_)
        refine lv_iconst (v := 4) hx hb dX7_reason_88 xi_c4 ?_
        refine xr_iald C hS hf dX7_reason_89 (fun x89 hf => ?_)
        refine lv_icmp_ge (tgt := 97) hx hb dX7_reason_90 (by decide) (fun c90 => ?_) (fun c90 => ?_)
        · replace hf := xb_pos c90 hf
          refine lv_iconst (v := 0) hx hb dX7_reason_97 xi_c0 ?_
          exact xr_iret C hS hr hf dX7_reason_98
        · replace hf := xb_neg c90 hf
          refine lv_iconst (v := 4) hx hb dX7_reason_93 xi_c4 ?_
          refine lv_goto (tgt := 98) hx hb dX7_reason_94 (by decide) ?_
          exact xr_iret C hS hr hf dX7_reason_98
      · replace hf := xb_pos c69 hf
        refine lv_iconst (v := 3) hx hb dX7_reason_72 xi_c3 ?_
        refine lv_goto (tgt := 98) hx hb dX7_reason_73 (by decide) ?_
        exact xr_iret C hS hr hf dX7_reason_98
    · replace hf := xb_pos c56 hf
      refine lv_iconst (v := 2) hx hb dX7_reason_59 xi_c2 ?_
      exact xr_iret C hS hr hf dX7_reason_60
  · replace hf := xb_neg c45 hf
    refine lv_iconst (v := 1) hx hb dX7_reason_48 xi_c1 ?_
    exact xr_iret C hS hr hf dX7_reason_49
theorem w_X7_reason_b37 (C : xh_C cX7_reason 5 "SungSlides$Judge" D g p s m args meth c) (hr : meth.sig.returnType = (Option.some Jvm.ClassFile.FieldType.int)) (hR : 4 ≤ R.frames ∧ 85 ≤ R.locals) {rv : Int32} {hF : xh_H} (N : Nat) {k8 : Option Nat → Option Nat → Int32 → Int32 → Int32 → xh_H → xh_R Int32} (hk8 : K_X7_reason_8 p l e s m args below meth c D g R rv hF k8) : ∀ (a0 : Option Nat) (a1 : Option Nat) (a2 : Int32) (a4 : Int32) (t0 : Int32) (h : xh_H) (H : Heap) (locs : List Loc) (cells slots kc ks : Nat) (ls : Array Slot), f_X7_reason_b37 N k8 a0 a1 a2 a4 t0 h = some (rv, hF, kc, ks) → xh_T D g s R h H locs cells slots kc ks → xh_L ls 5 [(0, va_rf a0), (1, va_rf a1), (2, .int a2), (4, .int a4)] → W p l e R s m args below meth c H locs cells slots (MQ below (xh_Q D g (some (.int rv)) hF) args s R.cells R.slots (xh_A g)) (F0 m 37 ls [.int t0]) := by
  intro a0 a1 a2 a4 t0 h H locs cells slots kc ks ls hf hS hl
  have hx := C.1
  have hb := C.2.1
  unfold f_X7_reason_b37 at hf
  refine xr_istore_n C dX7_reason_37 rfl hl (Nat.le_of_ble_eq_true rfl) (lv' := [(3, .int t0), (0, va_rf a0), (1, va_rf a1), (2, .int a2), (4, .int a4)]) rfl (fun ls hl => ?_)
  refine xr_iinc C dX7_reason_38 hl (k := 4) rfl (xi_inc xi_c1) (Nat.le_of_ble_eq_true rfl) (lv' := [(4, .int (a4 + (1 : Int32))), (3, .int t0), (0, va_rf a0), (1, va_rf a1), (2, .int a2)]) rfl (fun ls hl => ?_)
  refine lv_goto (tgt := 8) hx hb dX7_reason_41 (by decide) ?_
  exact hk8 a0 a1 a2 t0 (a4 + (1 : Int32))  h H locs cells slots kc ks ls hf hS (hl.sub [2, 3, 4, 1, 0] rfl)
theorem w_X7_reason_b36 (C : xh_C cX7_reason 5 "SungSlides$Judge" D g p s m args meth c) (hr : meth.sig.returnType = (Option.some Jvm.ClassFile.FieldType.int)) (hR : 4 ≤ R.frames ∧ 85 ≤ R.locals) {rv : Int32} {hF : xh_H} (N : Nat) {k8 : Option Nat → Option Nat → Int32 → Int32 → Int32 → xh_H → xh_R Int32} (hk8 : K_X7_reason_8 p l e s m args below meth c D g R rv hF k8) : ∀ (a0 : Option Nat) (a1 : Option Nat) (a2 : Int32) (a4 : Int32) (h : xh_H) (H : Heap) (locs : List Loc) (cells slots kc ks : Nat) (ls : Array Slot), f_X7_reason_b36 N k8 a0 a1 a2 a4 h = some (rv, hF, kc, ks) → xh_T D g s R h H locs cells slots kc ks → xh_L ls 5 [(0, va_rf a0), (1, va_rf a1), (2, .int a2), (4, .int a4)] → W p l e R s m args below meth c H locs cells slots (MQ below (xh_Q D g (some (.int rv)) hF) args s R.cells R.slots (xh_A g)) (F0 m 36 ls []) := by
  intro a0 a1 a2 a4 h H locs cells slots kc ks ls hf hS hl
  have hx := C.1
  have hb := C.2.1
  unfold f_X7_reason_b36 at hf
  refine lv_iconst (v := 0) hx hb dX7_reason_36 xi_c0 ?_
  exact w_X7_reason_b37 C hr hR N hk8 a0 a1 a2 a4 (0 : Int32) h H locs cells slots kc ks ls hf hS (hl.sub [0, 1, 2, 3] rfl)
theorem w_X7_reason_b8 (C : xh_C cX7_reason 5 "SungSlides$Judge" D g p s m args meth c) (hr : meth.sig.returnType = (Option.some Jvm.ClassFile.FieldType.int)) (hR : 4 ≤ R.frames ∧ 85 ≤ R.locals) {rv : Int32} {hF : xh_H} (N : Nat) {k8 : Option Nat → Option Nat → Int32 → Int32 → Int32 → xh_H → xh_R Int32} (hk8 : K_X7_reason_8 p l e s m args below meth c D g R rv hF k8) : ∀ (a0 : Option Nat) (a1 : Option Nat) (a2 : Int32) (a3 : Int32) (a4 : Int32) (h : xh_H) (H : Heap) (locs : List Loc) (cells slots kc ks : Nat) (ls : Array Slot), f_X7_reason_b8 N k8 a0 a1 a2 a3 a4 h = some (rv, hF, kc, ks) → xh_T D g s R h H locs cells slots kc ks → xh_L ls 5 [(0, va_rf a0), (1, va_rf a1), (2, .int a2), (3, .int a3), (4, .int a4)] → W p l e R s m args below meth c H locs cells slots (MQ below (xh_Q D g (some (.int rv)) hF) args s R.cells R.slots (xh_A g)) (F0 m 8 ls []) := by
  intro a0 a1 a2 a3 a4 h H locs cells slots kc ks ls hf hS hl
  have hx := C.1
  have hb := C.2.1
  unfold f_X7_reason_b8 at hf
  refine lv_iload hx hb dX7_reason_8 (hl.at 4 rfl) ?_
  refine xr_aload_n C dX7_reason_10 rfl (hl.at 1 rfl) ?_
  refine xr_V (V := fun v => some (.int v)) (n := 0) (fr := 0) (lo := 0) (As := []) C hS xf_X5 (lw_V q640 q378 q379 q72 q380) hdv_X5_end ⟨Nat.le_trans (Nat.le_of_ble_eq_true rfl) hR.1, Nat.le_trans (Nat.le_of_ble_eq_true rfl) hR.2⟩ rfl hl.1.1 rfl (xm_rc rfl xm_r0) hf (fun v h1 k1 n1 e1 => ct_X5_end l D N e1) dX7_reason_11 (fun x11 h H locs cells slots kc ks hS hf => ?_)
  refine W.eq (g2 := F0 m 14 ls [.int x11, .int a4]) rfl ?_
  refine lv_icmp_ge (tgt := 44) hx hb dX7_reason_14 (by decide) (fun c14 => ?_) (fun c14 => ?_)
  · replace hf := xb_pos c14 hf
    exact w_X7_reason_b44 C hr hR N a0 a2 a3  h H locs cells slots kc ks ls hf hS (hl.sub [0, 2, 3] rfl)
  · replace hf := xb_neg c14 hf
    refine lv_iload_n hx hb dX7_reason_17 rfl (hl.at 3 rfl) ?_
    refine lv_if_eq (tgt := 36) hx hb dX7_reason_18 (by decide) (fun c18 => ?_) (fun c18 => ?_)
    · replace hf := xb_pos c18 hf
      exact w_X7_reason_b36 C hr hR N hk8 a0 a1 a2 a4  h H locs cells slots kc ks ls hf hS (hl.sub [0, 1, 2, 4] rfl)
    · replace hf := xb_neg c18 hf
      refine xr_aload_n C dX7_reason_21 rfl (hl.at 0 rfl) ?_
      refine xr_getR C hS xf_X7 6 (by decide) q612 (fun _ h => h) hf dX7_reason_22 (fun x22 hf => ?_)
      refine lv_iload hx hb dX7_reason_25 (hl.at 4 rfl) ?_
      refine xr_iald C hS hf dX7_reason_27 (fun x27 hf => ?_)
      refine lv_iconst (v := -1) hx hb dX7_reason_28 xi_cm1 ?_
      refine lv_icmp_ne (tgt := 36) hx hb dX7_reason_29 (by decide) (fun c29 => ?_) (fun c29 => ?_)
      · replace hf := xb_neg c29 hf
        exact w_X7_reason_b36 C hr hR N hk8 a0 a1 a2 a4  h H locs cells slots kc ks ls hf hS (hl.sub [0, 1, 2, 4] rfl)
      · replace hf := xb_pos c29 hf
        refine lv_iconst (v := 1) hx hb dX7_reason_32 xi_c1 ?_
        refine lv_goto (tgt := 37) hx hb dX7_reason_33 (by decide) ?_
        exact w_X7_reason_b37 C hr hR N hk8 a0 a1 a2 a4 (1 : Int32) h H locs cells slots kc ks ls hf hS (hl.sub [0, 1, 2, 4] rfl)
theorem w_X7_reason_l8 (C : xh_C cX7_reason 5 "SungSlides$Judge" D g p s m args meth c) (hr : meth.sig.returnType = (Option.some Jvm.ClassFile.FieldType.int)) (hR : 4 ≤ R.frames ∧ 85 ≤ R.locals) {rv : Int32} {hF : xh_H} (N : Nat) : ∀ n : Nat, K_X7_reason_8 p l e s m args below meth c D g R rv hF (f_X7_reason_l8 N n) := by
  intro n
  induction n with
  | zero => exact fun a0 a1 a2 a3 a4 h H locs cells slots kc ks ls hf => absurd (show (none : xh_R Int32) = some _ from hf) (by intro q; cases q)
  | succ n ih => exact fun a0 a1 a2 a3 a4 h H locs cells slots kc ks ls hf => w_X7_reason_b8 C hr hR N ih a0 a1 a2 a3 a4 h H locs cells slots kc ks ls hf
/-- SungSlides$Judge.reason(LSungSlides$Syllable;I)I -/
theorem w_X7_reason (C : xh_C cX7_reason 5 "SungSlides$Judge" D g p s m args meth c) (hr : meth.sig.returnType = (Option.some Jvm.ClassFile.FieldType.int)) (hR : 4 ≤ R.frames ∧ 85 ≤ R.locals) {rv : Int32} {hF : xh_H} (N : Nat) (a0 : Option Nat) (a1 : Option Nat) (a2 : Int32)  (h : xh_H) (H : Heap) (locs : List Loc) (cells slots kc ks : Nat) (ls : Array Slot) (hf : f_X7_reason N a0 a1 a2 h = some (rv, hF, kc, ks)) (hS : xh_T D g s R h H locs cells slots kc ks) (hl : xh_L ls 5 [(0, va_rf a0), (1, va_rf a1), (2, .int a2)]) : W p l e R s m args below meth c H locs cells slots (MQ below (xh_Q D g (some (.int rv)) hF) args s R.cells R.slots (xh_A g)) (F0 m 0 ls []) := by
  have hx := C.1
  have hb := C.2.1
  unfold f_X7_reason at hf
  refine lv_iconst (v := 1) hx hb dX7_reason_0 xi_c1 ?_
  refine xr_istore_n C dX7_reason_1 rfl hl (Nat.le_of_ble_eq_true rfl) (lv' := [(3, .int (1 : Int32)), (0, va_rf a0), (1, va_rf a1), (2, .int a2)]) rfl (fun ls hl => ?_)
  refine xr_aload_n C dX7_reason_2 rfl (hl.at 2 rfl) ?_
  refine xr_getNI C hS xf_X5 0 (by decide) xn_q447 rfl hf dX7_reason_3 (fun x3 hf => ?_)
  refine xr_istore C dX7_reason_6 hl (Nat.le_of_ble_eq_true rfl) (lv' := [(4, .int x3), (3, .int (1 : Int32)), (0, va_rf a0), (1, va_rf a1), (2, .int a2)]) rfl (fun ls hl => ?_)
  exact w_X7_reason_l8 C hr hR N N a0 a1 a2 (1 : Int32) x3  h H locs cells slots kc ks ls hf hS (hl.sub [2, 3, 4, 1, 0] rfl)
theorem ct_X7_reason (l : Launch) (D : xh_D) {rv : Int32} {h hF : xh_H} {kc ks : Nat} (N : Nat) {a0 : Option Nat} {a1 : Option Nat} {a2 : Int32} (hf : f_X7_reason N a0 a1 a2 h = some (rv, hF, kc, ks)) : xh_Ct l D yX7_reason (ws_ yX7_reason cX7_reason 5 (Option.some Jvm.ClassFile.FieldType.int)) 4 85 [va_rf a0, va_rf a1, .int a2] h (some (.int rv)) hF kc ks :=
  xh_meth (cc := cX7_reason) l (by decide) (Nat.le_of_ble_eq_true rfl) (List.forall_mem_cons.mpr ⟨va_rf_cat _, List.forall_mem_cons.mpr ⟨va_rf_cat _, List.forall_mem_cons.mpr ⟨rfl, fun _ h => absurd h List.not_mem_nil⟩⟩⟩) fun p e s m below meth c ls C hr hnm hl hS => w_X7_reason C hr ⟨Nat.le_refl _, Nat.le_refl _⟩ N a0 a1 a2 h _ _ _ _ _ _ _ hf hS hl
def K_X7_judge_29 (p : Program) (l : Launch) (e : Env) (s : State) (m : MethodId) (args : Array Value) (below : List Frame) (meth : Method) (c : Code) (D : xh_D) (g : Nat → Nat) (R : Room) (rv : Unit) (hF : xh_H) (k : Option Nat → Int32 → Option Nat → Int32 → xh_H → xh_R Unit) : Prop := ∀ (a0 : Option Nat) (a1 : Int32) (a2 : Option Nat) (a3 : Int32) (h : xh_H) (H : Heap) (locs : List Loc) (cells slots kc ks : Nat) (ls : Array Slot), k a0 a1 a2 a3 h = some (rv, hF, kc, ks) → xh_T D g s R h H locs cells slots kc ks → xh_L ls 5 [(0, va_rf a0), (1, .int a1), (2, va_rf a2), (3, .int a3)] → W p l e R s m args below meth c H locs cells slots (MQ below (xh_Q D g none hF) args s R.cells R.slots (xh_A g)) (F0 m 29 ls [])
theorem w_X7_judge_b166 (C : xh_C cX7_judge 5 "SungSlides$Judge" D g p s m args meth c) (hr : meth.sig.returnType = (Option.none : Option Jvm.ClassFile.FieldType)) (hR : 5 ≤ R.frames ∧ 109 ≤ R.locals) {rv : Unit} {hF : xh_H} (N : Nat) : ∀ (a0 : Option Nat) (a1 : Int32) (a2 : Option Nat) (t0 : Option Nat) (t1 : Int32) (t2 : Int32) (h : xh_H) (H : Heap) (locs : List Loc) (cells slots kc ks : Nat) (ls : Array Slot), f_X7_judge_b166 N a0 a1 a2 t0 t1 t2 h = some (rv, hF, kc, ks) → xh_T D g s R h H locs cells slots kc ks → xh_L ls 5 [(0, va_rf a0), (1, .int a1), (2, va_rf a2)] → W p l e R s m args below meth c H locs cells slots (MQ below (xh_Q D g none hF) args s R.cells R.slots (xh_A g)) (F0 m 166 ls [.int t2, .int t1, va_rf t0]) := by
  intro a0 a1 a2 t0 t1 t2 h H locs cells slots kc ks ls hf hS hl
  have hx := C.1
  have hb := C.2.1
  unfold f_X7_judge_b166 at hf
  refine xr_iast C hS hf dX7_judge_166 (fun h H locs hS hf => ?_)
  refine xr_aload_n C dX7_judge_167 rfl (hl.at 0 rfl) ?_
  refine xr_getR C hS xf_X7 5 (by decide) q610 (fun _ h => h) hf dX7_judge_168 (fun x168 hf => ?_)
  refine lv_iload_n hx hb dX7_judge_171 rfl (hl.at 1 rfl) ?_
  refine lv_iconst (v := 0) hx hb dX7_judge_172 xi_c0 ?_
  refine xr_iast C hS hf dX7_judge_173 (fun h H locs hS hf => ?_)
  refine xr_aload_n C dX7_judge_174 rfl (hl.at 0 rfl) ?_
  refine xr_getR C hS xf_X7 3 (by decide) q606 (fun _ h => h) hf dX7_judge_175 (fun x175 hf => ?_)
  refine lv_iload_n hx hb dX7_judge_178 rfl (hl.at 1 rfl) ?_
  refine xr_iald C hS hf dX7_judge_179 (fun x179 hf => ?_)
  refine lv_if_ne (tgt := 241) hx hb dX7_judge_180 (by decide) (fun c180 => ?_) (fun c180 => ?_)
  · replace hf := xb_neg c180 hf
    exact xr_vret C hS hr hf dX7_judge_241
  · replace hf := xb_pos c180 hf
    refine xr_aload_n C dX7_judge_183 rfl (hl.at 0 rfl) ?_
    refine lv_iload_n hx hb dX7_judge_184 rfl (hl.at 1 rfl) ?_
    refine xr_V (V := fun v => some (.int v)) (n := 1) (fr := 3) (lo := 64) (As := [.int a1]) C hS xf_X7 (lw_V q666 q667 q668 q74 q669) hdv_X7_share ⟨Nat.le_trans (Nat.le_of_ble_eq_true rfl) hR.1, Nat.le_trans (Nat.le_of_ble_eq_true rfl) hR.2⟩ rfl hl.1.1 rfl xm_r0 hf (fun v h1 k1 n1 e1 => ct_X7_share l D N e1) dX7_judge_185 (fun x185 h H locs cells slots kc ks hS hf => ?_)
    refine W.eq (g2 := F0 m 188 ls [.int x185]) rfl ?_
    refine lv_iconst (v := 5) hx hb dX7_judge_188 xi_c5 ?_
    refine xr_aload_n C dX7_judge_189 rfl (hl.at 0 rfl) ?_
    refine xr_aload_n C dX7_judge_190 rfl (hl.at 2 rfl) ?_
    refine lv_iconst (v := 1) hx hb dX7_judge_191 xi_c1 ?_
    refine xr_V (V := fun v => some (.int v)) (n := 2) (fr := 2) (lo := 47) (As := [va_rf a2, .int (1 : Int32)]) C hS xf_X7 (lw_V q670 q671 q672 q74 q673) hdv_X7_bars ⟨Nat.le_trans (Nat.le_of_ble_eq_true rfl) hR.1, Nat.le_trans (Nat.le_of_ble_eq_true rfl) hR.2⟩ rfl hl.1.1 rfl (xm_rc rfl (xm_rc rfl xm_r0)) hf (fun v h1 k1 n1 e1 => ct_X7_bars l D N e1) dX7_judge_192 (fun x192 h H locs cells slots kc ks hS hf => ?_)
    refine W.eq (g2 := F0 m 195 ls [.int x192, .int (5 : Int32), .int x185]) rfl ?_
    refine lv_imul hx hb dX7_judge_195 ?_
    refine lv_iadd hx hb dX7_judge_196 ?_
    refine lv_iconst (v := 2) hx hb dX7_judge_197 xi_c2 ?_
    refine xr_aload_n C dX7_judge_198 rfl (hl.at 0 rfl) ?_
    refine xr_getR C hS xf_X7 2 (by decide) q604 (fun _ h => h) hf dX7_judge_199 (fun x199 hf => ?_)
    refine lv_iload_n hx hb dX7_judge_202 rfl (hl.at 1 rfl) ?_
    refine xr_iald C hS hf dX7_judge_203 (fun x203 hf => ?_)
    refine xr_aload_n C dX7_judge_204 rfl (hl.at 2 rfl) ?_
    refine xr_getNI C hS xf_X5 0 (by decide) xn_q447 rfl hf dX7_judge_205 (fun x205 hf => ?_)
    refine lv_isub hx hb dX7_judge_208 ?_
    refine xr_ab C hS hl.1.1.symm q649 q650 q64 q651 (Nat.le_trans (Nat.le_of_ble_eq_true rfl) hR.1) (xm_m13 (xm_rc rfl (xm_rc rfl xm_r0)) (Nat.le_trans (Nat.le_of_ble_eq_true rfl) hR.2)) dX7_judge_209 ?_
    refine lv_imul hx hb dX7_judge_212 ?_
    refine lv_isub hx hb dX7_judge_213 ?_
    refine xr_istore C dX7_judge_214 hl (Nat.le_of_ble_eq_true rfl) (lv' := [(4, .int ((x185 + ((5 : Int32) * x192)) - ((2 : Int32) * (xh_ab (x203 - x205))))), (0, va_rf a0), (1, .int a1), (2, va_rf a2)]) rfl (fun ls hl => ?_)
    refine xr_aload_n C dX7_judge_216 rfl (hl.at 1 rfl) ?_
    refine xr_getR C hS xf_X7 5 (by decide) q610 (fun _ h => h) hf dX7_judge_217 (fun x217 hf => ?_)
    refine lv_iload_n hx hb dX7_judge_220 rfl (hl.at 2 rfl) ?_
    refine lv_iconst (v := 0) hx hb dX7_judge_221 xi_c0 ?_
    refine lv_iload hx hb dX7_judge_222 (hl.at 0 rfl) ?_
    refine xr_mx C hS hl.1.1.symm q674 q291 q64 q292 (Nat.le_trans (Nat.le_of_ble_eq_true rfl) hR.1) (xm_m13 (xm_rc rfl (xm_rc (va_rf_cat _) xm_r0)) (Nat.le_trans (Nat.le_of_ble_eq_true rfl) hR.2)) dX7_judge_224 ?_
    refine lv_bipush (v := 10) hx hb dX7_judge_227 xi_b10 ?_
    refine xr_aload_n C dX7_judge_229 rfl (hl.at 1 rfl) ?_
    refine xr_getR C hS xf_X7 4 (by decide) q608 (fun _ h => h) hf dX7_judge_230 (fun x230 hf => ?_)
    refine lv_iload_n hx hb dX7_judge_233 rfl (hl.at 2 rfl) ?_
    refine xr_iald C hS hf dX7_judge_234 (fun x234 hf => ?_)
    refine lv_iadd hx hb dX7_judge_235 ?_
    refine lv_imul hx hb dX7_judge_236 ?_
    refine lv_bipush (v := 10) hx hb dX7_judge_237 xi_b10 ?_
    refine lv_idiv hx hb dX7_judge_239 (by decide) ?_
    refine xr_iast C hS hf dX7_judge_240 (fun h H locs hS hf => ?_)
    exact xr_vret C hS hr hf dX7_judge_241
theorem w_X7_judge_b137 (C : xh_C cX7_judge 5 "SungSlides$Judge" D g p s m args meth c) (hr : meth.sig.returnType = (Option.none : Option Jvm.ClassFile.FieldType)) (hR : 5 ≤ R.frames ∧ 109 ≤ R.locals) {rv : Unit} {hF : xh_H} (N : Nat) : ∀ (a0 : Option Nat) (a1 : Int32) (a2 : Option Nat) (t0 : Int32) (h : xh_H) (H : Heap) (locs : List Loc) (cells slots kc ks : Nat) (ls : Array Slot), f_X7_judge_b137 N a0 a1 a2 t0 h = some (rv, hF, kc, ks) → xh_T D g s R h H locs cells slots kc ks → xh_L ls 5 [(0, va_rf a0), (1, .int a1), (2, va_rf a2)] → W p l e R s m args below meth c H locs cells slots (MQ below (xh_Q D g none hF) args s R.cells R.slots (xh_A g)) (F0 m 137 ls [.int t0]) := by
  intro a0 a1 a2 t0 h H locs cells slots kc ks ls hf hS hl
  have hx := C.1
  have hb := C.2.1
  unfold f_X7_judge_b137 at hf
  refine xr_istore_n C dX7_judge_137 rfl hl (Nat.le_of_ble_eq_true rfl) (lv' := [(3, .int t0), (0, va_rf a0), (1, .int a1), (2, va_rf a2)]) rfl (fun ls hl => ?_)
  refine xr_aload_n C dX7_judge_138 rfl (hl.at 1 rfl) ?_
  refine xr_getR C hS xf_X7 4 (by decide) q608 (fun _ h => h) hf dX7_judge_139 (fun x139 hf => ?_)
  refine lv_iload_n hx hb dX7_judge_142 rfl (hl.at 2 rfl) ?_
  refine lv_iload_n hx hb dX7_judge_143 rfl (hl.at 0 rfl) ?_
  refine lv_if_eq (tgt := 165) hx hb dX7_judge_144 (by decide) (fun c144 => ?_) (fun c144 => ?_)
  · replace hf := xb_pos c144 hf
    refine lv_iconst (v := 0) hx hb dX7_judge_165 xi_c0 ?_
    exact w_X7_judge_b166 C hr hR N a0 a1 a2 x139 a1 (0 : Int32) h H locs cells slots kc ks ls hf hS (hl.sub [1, 2, 3] rfl)
  · replace hf := xb_neg c144 hf
    refine lv_bipush (v := 10) hx hb dX7_judge_147 xi_b10 ?_
    refine xr_aload_n C dX7_judge_149 rfl (hl.at 1 rfl) ?_
    refine xr_getR C hS xf_X7 4 (by decide) q608 (fun _ h => h) hf dX7_judge_150 (fun x150 hf => ?_)
    refine lv_iload_n hx hb dX7_judge_153 rfl (hl.at 2 rfl) ?_
    refine lv_iconst (v := 1) hx hb dX7_judge_154 xi_c1 ?_
    refine lv_isub hx hb dX7_judge_155 ?_
    refine xr_iald C hS hf dX7_judge_156 (fun x156 hf => ?_)
    refine lv_iconst (v := 1) hx hb dX7_judge_157 xi_c1 ?_
    refine lv_iadd hx hb dX7_judge_158 ?_
    refine xr_mn C hS hl.1.1.symm q652 q321 q64 q322 (Nat.le_trans (Nat.le_of_ble_eq_true rfl) hR.1) (xm_m13 (xm_rc rfl (xm_rc (va_rf_cat _) xm_r0)) (Nat.le_trans (Nat.le_of_ble_eq_true rfl) hR.2)) dX7_judge_159 ?_
    refine lv_goto (tgt := 166) hx hb dX7_judge_162 (by decide) ?_
    exact w_X7_judge_b166 C hr hR N a0 a1 a2 x139 a1 (xh_mn (10 : Int32) (x156 + (1 : Int32))) h H locs cells slots kc ks ls hf hS (hl.sub [1, 2, 3] rfl)
theorem w_X7_judge_b136 (C : xh_C cX7_judge 5 "SungSlides$Judge" D g p s m args meth c) (hr : meth.sig.returnType = (Option.none : Option Jvm.ClassFile.FieldType)) (hR : 5 ≤ R.frames ∧ 109 ≤ R.locals) {rv : Unit} {hF : xh_H} (N : Nat) : ∀ (a0 : Option Nat) (a1 : Int32) (a2 : Option Nat) (h : xh_H) (H : Heap) (locs : List Loc) (cells slots kc ks : Nat) (ls : Array Slot), f_X7_judge_b136 N a0 a1 a2 h = some (rv, hF, kc, ks) → xh_T D g s R h H locs cells slots kc ks → xh_L ls 5 [(0, va_rf a0), (1, .int a1), (2, va_rf a2)] → W p l e R s m args below meth c H locs cells slots (MQ below (xh_Q D g none hF) args s R.cells R.slots (xh_A g)) (F0 m 136 ls []) := by
  intro a0 a1 a2 h H locs cells slots kc ks ls hf hS hl
  have hx := C.1
  have hb := C.2.1
  unfold f_X7_judge_b136 at hf
  refine lv_iconst (v := 0) hx hb dX7_judge_136 xi_c0 ?_
  exact w_X7_judge_b137 C hr hR N a0 a1 a2 (0 : Int32) h H locs cells slots kc ks ls hf hS (hl.sub [0, 1, 2] rfl)
theorem w_X7_judge_b66 (C : xh_C cX7_judge 5 "SungSlides$Judge" D g p s m args meth c) (hr : meth.sig.returnType = (Option.none : Option Jvm.ClassFile.FieldType)) (hR : 5 ≤ R.frames ∧ 109 ≤ R.locals) {rv : Unit} {hF : xh_H} (N : Nat) : ∀ (a0 : Option Nat) (a1 : Int32) (a2 : Option Nat) (h : xh_H) (H : Heap) (locs : List Loc) (cells slots kc ks : Nat) (ls : Array Slot), f_X7_judge_b66 N a0 a1 a2 h = some (rv, hF, kc, ks) → xh_T D g s R h H locs cells slots kc ks → xh_L ls 5 [(0, va_rf a0), (1, .int a1), (2, va_rf a2)] → W p l e R s m args below meth c H locs cells slots (MQ below (xh_Q D g none hF) args s R.cells R.slots (xh_A g)) (F0 m 66 ls []) := by
  intro a0 a1 a2 h H locs cells slots kc ks ls hf hS hl
  have hx := C.1
  have hb := C.2.1
  unfold f_X7_judge_b66 at hf
  refine xr_aload_n C dX7_judge_66 rfl (hl.at 0 rfl) ?_
  refine xr_getR C hS xf_X7 2 (by decide) q604 (fun _ h => h) hf dX7_judge_67 (fun x67 hf => ?_)
  refine lv_iload_n hx hb dX7_judge_70 rfl (hl.at 1 rfl) ?_
  refine xr_aload_n C dX7_judge_71 rfl (hl.at 0 rfl) ?_
  refine xr_aload_n C dX7_judge_72 rfl (hl.at 2 rfl) ?_
  refine xr_V (V := fun v => some (.int v)) (n := 1) (fr := 3) (lo := 63) (As := [va_rf a2]) C hS xf_X7 (lw_V q653 q655 qs13 q74 q656) hdv_X7_onset ⟨Nat.le_trans (Nat.le_of_ble_eq_true rfl) hR.1, Nat.le_trans (Nat.le_of_ble_eq_true rfl) hR.2⟩ rfl hl.1.1 rfl (xm_rc rfl (xm_rc (va_rf_cat _) xm_r0)) hf (fun v h1 k1 n1 e1 => ct_X7_onset l D N e1) dX7_judge_73 (fun x73 h H locs cells slots kc ks hS hf => ?_)
  refine W.eq (g2 := F0 m 76 ls [.int x73, .int a1, va_rf x67]) rfl ?_
  refine xr_iast C hS hf dX7_judge_76 (fun h H locs hS hf => ?_)
  refine xr_aload_n C dX7_judge_77 rfl (hl.at 0 rfl) ?_
  refine xr_getR C hS xf_X7 3 (by decide) q606 (fun _ h => h) hf dX7_judge_78 (fun x78 hf => ?_)
  refine lv_iload_n hx hb dX7_judge_81 rfl (hl.at 1 rfl) ?_
  refine xr_aload_n C dX7_judge_82 rfl (hl.at 0 rfl) ?_
  refine xr_aload_n C dX7_judge_83 rfl (hl.at 2 rfl) ?_
  refine lv_iload_n hx hb dX7_judge_84 rfl (hl.at 1 rfl) ?_
  refine xr_V (V := fun v => some (.int v)) (n := 2) (fr := 4) (lo := 85) (As := [va_rf a2, .int a1]) C hS xf_X7 (lw_V q662 q664 qs15 q74 q665) hdv_X7_reason ⟨Nat.le_trans (Nat.le_of_ble_eq_true rfl) hR.1, Nat.le_trans (Nat.le_of_ble_eq_true rfl) hR.2⟩ rfl hl.1.1 rfl (xm_rc rfl (xm_rc (va_rf_cat _) xm_r0)) hf (fun v h1 k1 n1 e1 => ct_X7_reason l D N e1) dX7_judge_85 (fun x85 h H locs cells slots kc ks hS hf => ?_)
  refine W.eq (g2 := F0 m 88 ls [.int x85, .int a1, va_rf x78]) rfl ?_
  refine xr_iast C hS hf dX7_judge_88 (fun h H locs hS hf => ?_)
  refine lv_iload_n hx hb dX7_judge_89 rfl (hl.at 1 rfl) ?_
  refine lv_if_le (tgt := 136) hx hb dX7_judge_90 (by decide) (fun c90 => ?_) (fun c90 => ?_)
  · replace hf := xb_pos c90 hf
    exact w_X7_judge_b136 C hr hR N a0 a1 a2  h H locs cells slots kc ks ls hf hS (hl.sub [0, 1, 2] rfl)
  · replace hf := xb_neg c90 hf
    refine xr_aload_n C dX7_judge_93 rfl (hl.at 0 rfl) ?_
    refine xr_getR C hS xf_X7 0 (by decide) q601 (fun _ h => h) hf dX7_judge_94 (fun x94 hf => ?_)
    refine xr_getNR C hS xf_X1 0 (by decide) xn_q123 rfl hf dX7_judge_97 (fun x97 hf => ?_)
    refine lv_iload_n hx hb dX7_judge_100 rfl (hl.at 1 rfl) ?_
    refine lv_iconst (v := 1) hx hb dX7_judge_101 xi_c1 ?_
    refine lv_isub hx hb dX7_judge_102 ?_
    refine xr_F (V := fun v => some (va_rf v)) (n := 1) (fr := 2) (lo := 43) (As := [.int (a1 - (1 : Int32))]) C hS xf_J2 q638 q362 q364 q59 q366 xn_i6 hdi_J2_get ⟨Nat.le_trans (Nat.le_of_ble_eq_true rfl) hR.1, Nat.le_trans (Nat.le_of_ble_eq_true rfl) hR.2⟩ rfl hl.1.1 rfl xm_r0 hf (fun v h1 k1 n1 e1 => ct_J2_get l D N e1) dX7_judge_103 (fun x103 h H locs cells slots kc ks hS hf => ?_)
    refine W.eq (g2 := F0 m 108 ls [va_rf x103]) rfl ?_
    refine xr_ccS C hS xf_X5 q639 hf dX7_judge_108 (fun hf => ?_)
    refine xr_getNI C hS xf_X5 4 (by decide) xn_q459 rfl hf dX7_judge_111 (fun x111 hf => ?_)
    refine xr_aload_n C dX7_judge_114 rfl (hl.at 2 rfl) ?_
    refine xr_getNI C hS xf_X5 4 (by decide) xn_q459 rfl hf dX7_judge_115 (fun x115 hf => ?_)
    refine lv_icmp_ne (tgt := 136) hx hb dX7_judge_118 (by decide) (fun c118 => ?_) (fun c118 => ?_)
    · replace hf := xb_neg c118 hf
      exact w_X7_judge_b136 C hr hR N a0 a1 a2  h H locs cells slots kc ks ls hf hS (hl.sub [0, 1, 2] rfl)
    · replace hf := xb_pos c118 hf
      refine xr_aload_n C dX7_judge_121 rfl (hl.at 0 rfl) ?_
      refine xr_getR C hS xf_X7 3 (by decide) q606 (fun _ h => h) hf dX7_judge_122 (fun x122 hf => ?_)
      refine lv_iload_n hx hb dX7_judge_125 rfl (hl.at 1 rfl) ?_
      refine lv_iconst (v := 1) hx hb dX7_judge_126 xi_c1 ?_
      refine lv_isub hx hb dX7_judge_127 ?_
      refine xr_iald C hS hf dX7_judge_128 (fun x128 hf => ?_)
      refine lv_if_ne (tgt := 136) hx hb dX7_judge_129 (by decide) (fun c129 => ?_) (fun c129 => ?_)
      · replace hf := xb_neg c129 hf
        exact w_X7_judge_b136 C hr hR N a0 a1 a2  h H locs cells slots kc ks ls hf hS (hl.sub [0, 1, 2] rfl)
      · replace hf := xb_pos c129 hf
        refine lv_iconst (v := 1) hx hb dX7_judge_132 xi_c1 ?_
        refine lv_goto (tgt := 137) hx hb dX7_judge_133 (by decide) ?_
        exact w_X7_judge_b137 C hr hR N a0 a1 a2 (1 : Int32) h H locs cells slots kc ks ls hf hS (hl.sub [0, 1, 2] rfl)
theorem w_X7_judge_b58 (C : xh_C cX7_judge 5 "SungSlides$Judge" D g p s m args meth c) (hr : meth.sig.returnType = (Option.none : Option Jvm.ClassFile.FieldType)) (hR : 5 ≤ R.frames ∧ 109 ≤ R.locals) {rv : Unit} {hF : xh_H} (N : Nat) {k29 : Option Nat → Int32 → Option Nat → Int32 → xh_H → xh_R Unit} (hk29 : K_X7_judge_29 p l e s m args below meth c D g R rv hF k29) : ∀ (a0 : Option Nat) (a1 : Int32) (a2 : Option Nat) (a3 : Int32) (t0 : Option Nat) (t1 : Int32) (t2 : Int32) (t3 : Int32) (h : xh_H) (H : Heap) (locs : List Loc) (cells slots kc ks : Nat) (ls : Array Slot), f_X7_judge_b58 N k29 a0 a1 a2 a3 t0 t1 t2 t3 h = some (rv, hF, kc, ks) → xh_T D g s R h H locs cells slots kc ks → xh_L ls 5 [(0, va_rf a0), (1, .int a1), (2, va_rf a2), (3, .int a3)] → W p l e R s m args below meth c H locs cells slots (MQ below (xh_Q D g none hF) args s R.cells R.slots (xh_A g)) (F0 m 58 ls [.int t3, .int t2, .int t1, va_rf t0]) := by
  intro a0 a1 a2 a3 t0 t1 t2 t3 h H locs cells slots kc ks ls hf hS hl
  have hx := C.1
  have hb := C.2.1
  unfold f_X7_judge_b58 at hf
  refine lv_iadd hx hb dX7_judge_58 ?_
  refine xr_iast C hS hf dX7_judge_59 (fun h H locs hS hf => ?_)
  refine xr_iinc C dX7_judge_60 hl (k := 3) rfl (xi_inc xi_c1) (Nat.le_of_ble_eq_true rfl) (lv' := [(3, .int (a3 + (1 : Int32))), (0, va_rf a0), (1, .int a1), (2, va_rf a2)]) rfl (fun ls hl => ?_)
  refine lv_goto (tgt := 29) hx hb dX7_judge_63 (by decide) ?_
  exact hk29 a0 a1 a2 (a3 + (1 : Int32))  h H locs cells slots kc ks ls hf hS (hl.sub [1, 2, 3, 0] rfl)
theorem w_X7_judge_b29 (C : xh_C cX7_judge 5 "SungSlides$Judge" D g p s m args meth c) (hr : meth.sig.returnType = (Option.none : Option Jvm.ClassFile.FieldType)) (hR : 5 ≤ R.frames ∧ 109 ≤ R.locals) {rv : Unit} {hF : xh_H} (N : Nat) {k29 : Option Nat → Int32 → Option Nat → Int32 → xh_H → xh_R Unit} (hk29 : K_X7_judge_29 p l e s m args below meth c D g R rv hF k29) : ∀ (a0 : Option Nat) (a1 : Int32) (a2 : Option Nat) (a3 : Int32) (h : xh_H) (H : Heap) (locs : List Loc) (cells slots kc ks : Nat) (ls : Array Slot), f_X7_judge_b29 N k29 a0 a1 a2 a3 h = some (rv, hF, kc, ks) → xh_T D g s R h H locs cells slots kc ks → xh_L ls 5 [(0, va_rf a0), (1, .int a1), (2, va_rf a2), (3, .int a3)] → W p l e R s m args below meth c H locs cells slots (MQ below (xh_Q D g none hF) args s R.cells R.slots (xh_A g)) (F0 m 29 ls []) := by
  intro a0 a1 a2 a3 h H locs cells slots kc ks ls hf hS hl
  have hx := C.1
  have hb := C.2.1
  unfold f_X7_judge_b29 at hf
  refine lv_iload_n hx hb dX7_judge_29 rfl (hl.at 3 rfl) ?_
  refine xr_aload_n C dX7_judge_30 rfl (hl.at 2 rfl) ?_
  refine xr_V (V := fun v => some (.int v)) (n := 0) (fr := 0) (lo := 0) (As := []) C hS xf_X5 (lw_V q640 q378 q379 q72 q380) hdv_X5_end ⟨Nat.le_trans (Nat.le_of_ble_eq_true rfl) hR.1, Nat.le_trans (Nat.le_of_ble_eq_true rfl) hR.2⟩ rfl hl.1.1 rfl (xm_rc rfl xm_r0) hf (fun v h1 k1 n1 e1 => ct_X5_end l D N e1) dX7_judge_31 (fun x31 h H locs cells slots kc ks hS hf => ?_)
  refine W.eq (g2 := F0 m 34 ls [.int x31, .int a3]) rfl ?_
  refine lv_icmp_ge (tgt := 66) hx hb dX7_judge_34 (by decide) (fun c34 => ?_) (fun c34 => ?_)
  · replace hf := xb_pos c34 hf
    exact w_X7_judge_b66 C hr hR N a0 a1 a2  h H locs cells slots kc ks ls hf hS (hl.sub [0, 1, 2] rfl)
  · replace hf := xb_neg c34 hf
    refine xr_aload_n C dX7_judge_37 rfl (hl.at 0 rfl) ?_
    refine xr_getR C hS xf_X7 1 (by decide) q602 (fun _ h => h) hf dX7_judge_38 (fun x38 hf => ?_)
    refine lv_iload_n hx hb dX7_judge_41 rfl (hl.at 1 rfl) ?_
    refine lv_dup2_11 hx hb dX7_judge_42 rfl (va_rf_cat _) ?_
    refine xr_iald C hS hf dX7_judge_43 (fun x43 hf => ?_)
    refine xr_aload_n C dX7_judge_44 rfl (hl.at 0 rfl) ?_
    refine xr_aload_n C dX7_judge_45 rfl (hl.at 2 rfl) ?_
    refine lv_iload_n hx hb dX7_judge_46 rfl (hl.at 3 rfl) ?_
    refine xr_V (V := fun v => some (.int v)) (n := 2) (fr := 1) (lo := 24) (As := [va_rf a2, .int a3]) C hS xf_X7 (lw_V q641 q643 qs12 q74 q644) hdv_X7_matches ⟨Nat.le_trans (Nat.le_of_ble_eq_true rfl) hR.1, Nat.le_trans (Nat.le_of_ble_eq_true rfl) hR.2⟩ rfl hl.1.1 rfl (xm_rc rfl (xm_rc rfl (xm_rc (va_rf_cat _) xm_r0))) hf (fun v h1 k1 n1 e1 => ct_X7_matches l D N e1) dX7_judge_47 (fun x47 h H locs cells slots kc ks hS hf => ?_)
    refine W.eq (g2 := F0 m 50 ls [.int x47, .int x43, .int a1, va_rf x38]) rfl ?_
    refine lv_if_eq (tgt := 57) hx hb dX7_judge_50 (by decide) (fun c50 => ?_) (fun c50 => ?_)
    · replace hf := xb_pos c50 hf
      refine lv_iconst (v := 0) hx hb dX7_judge_57 xi_c0 ?_
      exact w_X7_judge_b58 C hr hR N hk29 a0 a1 a2 a3 x38 a1 x43 (0 : Int32) h H locs cells slots kc ks ls hf hS (hl.sub [0, 1, 2, 3] rfl)
    · replace hf := xb_neg c50 hf
      refine lv_iconst (v := 1) hx hb dX7_judge_53 xi_c1 ?_
      refine lv_goto (tgt := 58) hx hb dX7_judge_54 (by decide) ?_
      exact w_X7_judge_b58 C hr hR N hk29 a0 a1 a2 a3 x38 a1 x43 (1 : Int32) h H locs cells slots kc ks ls hf hS (hl.sub [0, 1, 2, 3] rfl)
theorem w_X7_judge_l29 (C : xh_C cX7_judge 5 "SungSlides$Judge" D g p s m args meth c) (hr : meth.sig.returnType = (Option.none : Option Jvm.ClassFile.FieldType)) (hR : 5 ≤ R.frames ∧ 109 ≤ R.locals) {rv : Unit} {hF : xh_H} (N : Nat) : ∀ n : Nat, K_X7_judge_29 p l e s m args below meth c D g R rv hF (f_X7_judge_l29 N n) := by
  intro n
  induction n with
  | zero => exact fun a0 a1 a2 a3 h H locs cells slots kc ks ls hf => absurd (show (none : xh_R Unit) = some _ from hf) (by intro q; cases q)
  | succ n ih => exact fun a0 a1 a2 a3 h H locs cells slots kc ks ls hf => w_X7_judge_b29 C hr hR N ih a0 a1 a2 a3 h H locs cells slots kc ks ls hf
/-- SungSlides$Judge.judge(I)V -/
theorem w_X7_judge (C : xh_C cX7_judge 5 "SungSlides$Judge" D g p s m args meth c) (hr : meth.sig.returnType = (Option.none : Option Jvm.ClassFile.FieldType)) (hR : 5 ≤ R.frames ∧ 109 ≤ R.locals) {rv : Unit} {hF : xh_H} (N : Nat) (a0 : Option Nat) (a1 : Int32)  (h : xh_H) (H : Heap) (locs : List Loc) (cells slots kc ks : Nat) (ls : Array Slot) (hf : f_X7_judge N a0 a1 h = some (rv, hF, kc, ks)) (hS : xh_T D g s R h H locs cells slots kc ks) (hl : xh_L ls 5 [(0, va_rf a0), (1, .int a1)]) : W p l e R s m args below meth c H locs cells slots (MQ below (xh_Q D g none hF) args s R.cells R.slots (xh_A g)) (F0 m 0 ls []) := by
  have hx := C.1
  have hb := C.2.1
  unfold f_X7_judge at hf
  refine xr_aload_n C dX7_judge_0 rfl (hl.at 0 rfl) ?_
  refine xr_getR C hS xf_X7 0 (by decide) q601 (fun _ h => h) hf dX7_judge_1 (fun x1 hf => ?_)
  refine xr_getNR C hS xf_X1 0 (by decide) xn_q123 rfl hf dX7_judge_4 (fun x4 hf => ?_)
  refine lv_iload_n hx hb dX7_judge_7 rfl (hl.at 1 rfl) ?_
  refine xr_F (V := fun v => some (va_rf v)) (n := 1) (fr := 2) (lo := 43) (As := [.int a1]) C hS xf_J2 q638 q362 q364 q59 q366 xn_i6 hdi_J2_get ⟨Nat.le_trans (Nat.le_of_ble_eq_true rfl) hR.1, Nat.le_trans (Nat.le_of_ble_eq_true rfl) hR.2⟩ rfl hl.1.1 rfl xm_r0 hf (fun v h1 k1 n1 e1 => ct_J2_get l D N e1) dX7_judge_8 (fun x8 h H locs cells slots kc ks hS hf => ?_)
  refine W.eq (g2 := F0 m 13 ls [va_rf x8]) rfl ?_
  refine xr_ccS C hS xf_X5 q639 hf dX7_judge_13 (fun hf => ?_)
  refine xr_astore_n C dX7_judge_16 rfl hl (Nat.le_of_ble_eq_true rfl) (lv' := [(2, va_rf x8), (0, va_rf a0), (1, .int a1)]) rfl (fun ls hl => ?_)
  refine xr_aload_n C dX7_judge_17 rfl (hl.at 1 rfl) ?_
  refine xr_getR C hS xf_X7 1 (by decide) q602 (fun _ h => h) hf dX7_judge_18 (fun x18 hf => ?_)
  refine lv_iload_n hx hb dX7_judge_21 rfl (hl.at 2 rfl) ?_
  refine lv_iconst (v := 0) hx hb dX7_judge_22 xi_c0 ?_
  refine xr_iast C hS hf dX7_judge_23 (fun h H locs hS hf => ?_)
  refine xr_aload_n C dX7_judge_24 rfl (hl.at 0 rfl) ?_
  refine xr_getNI C hS xf_X5 0 (by decide) xn_q447 rfl hf dX7_judge_25 (fun x25 hf => ?_)
  refine xr_istore_n C dX7_judge_28 rfl hl (Nat.le_of_ble_eq_true rfl) (lv' := [(3, .int x25), (2, va_rf x8), (0, va_rf a0), (1, .int a1)]) rfl (fun ls hl => ?_)
  exact w_X7_judge_l29 C hr hR N N a0 a1 x8 x25  h H locs cells slots kc ks ls hf hS (hl.sub [2, 3, 1, 0] rfl)
theorem ct_X7_judge (l : Launch) (D : xh_D) {rv : Unit} {h hF : xh_H} {kc ks : Nat} (N : Nat) {a0 : Option Nat} {a1 : Int32} (hf : f_X7_judge N a0 a1 h = some (rv, hF, kc, ks)) : xh_Ct l D yX7_judge (ws_ yX7_judge cX7_judge 5 (Option.none : Option Jvm.ClassFile.FieldType)) 5 109 [va_rf a0, .int a1] h none hF kc ks :=
  xh_meth (cc := cX7_judge) l (by decide) (Nat.le_of_ble_eq_true rfl) (List.forall_mem_cons.mpr ⟨va_rf_cat _, List.forall_mem_cons.mpr ⟨rfl, fun _ h => absurd h List.not_mem_nil⟩⟩) fun p e s m below meth c ls C hr hnm hl hS => w_X7_judge C hr ⟨Nat.le_refl _, Nat.le_refl _⟩ N a0 a1 h _ _ _ _ _ _ _ hf hS hl
def K_X7_run_7 (p : Program) (l : Launch) (e : Env) (s : State) (m : MethodId) (args : Array Value) (below : List Frame) (meth : Method) (c : Code) (D : xh_D) (g : Nat → Nat) (R : Room) (rv : Option Nat) (hF : xh_H) (k : Option Nat → Int32 → xh_H → xh_R (Option Nat)) : Prop := ∀ (a0 : Option Nat) (a2 : Int32) (h : xh_H) (H : Heap) (locs : List Loc) (cells slots kc ks : Nat) (ls : Array Slot), k a0 a2 h = some (rv, hF, kc, ks) → xh_T D g s R h H locs cells slots kc ks → xh_L ls 3 [(0, va_rf a0), (2, .int a2)] → W p l e R s m args below meth c H locs cells slots (MQ below (xh_Q D g (some (va_rf rv)) hF) args s R.cells R.slots (xh_A g)) (F0 m 7 ls [])
theorem w_X7_run_b29 (C : xh_C cX7_run 3 "SungSlides$Judge" D g p s m args meth c) (hr : meth.sig.returnType = (Option.some (Jvm.ClassFile.FieldType.object "SungSlides$Judge"))) (hR : 6 ≤ R.frames ∧ 133 ≤ R.locals) {rv : Option Nat} {hF : xh_H} (N : Nat) : ∀ (a0 : Option Nat) (h : xh_H) (H : Heap) (locs : List Loc) (cells slots kc ks : Nat) (ls : Array Slot), f_X7_run_b29 N a0 h = some (rv, hF, kc, ks) → xh_T D g s R h H locs cells slots kc ks → xh_L ls 3 [(0, va_rf a0)] → W p l e R s m args below meth c H locs cells slots (MQ below (xh_Q D g (some (va_rf rv)) hF) args s R.cells R.slots (xh_A g)) (F0 m 29 ls []) := by
  intro a0 h H locs cells slots kc ks ls hf hS hl
  have hx := C.1
  have hb := C.2.1
  unfold f_X7_run_b29 at hf
  refine xr_aload_n C dX7_run_29 rfl (hl.at 0 rfl) ?_
  exact xr_aret C hS hr (Or.inl ⟨_, rfl⟩) hf dX7_run_30
theorem w_X7_run_b7 (C : xh_C cX7_run 3 "SungSlides$Judge" D g p s m args meth c) (hr : meth.sig.returnType = (Option.some (Jvm.ClassFile.FieldType.object "SungSlides$Judge"))) (hR : 6 ≤ R.frames ∧ 133 ≤ R.locals) {rv : Option Nat} {hF : xh_H} (N : Nat) {k7 : Option Nat → Int32 → xh_H → xh_R (Option Nat)} (hk7 : K_X7_run_7 p l e s m args below meth c D g R rv hF k7) : ∀ (a0 : Option Nat) (a2 : Int32) (h : xh_H) (H : Heap) (locs : List Loc) (cells slots kc ks : Nat) (ls : Array Slot), f_X7_run_b7 N k7 a0 a2 h = some (rv, hF, kc, ks) → xh_T D g s R h H locs cells slots kc ks → xh_L ls 3 [(0, va_rf a0), (2, .int a2)] → W p l e R s m args below meth c H locs cells slots (MQ below (xh_Q D g (some (va_rf rv)) hF) args s R.cells R.slots (xh_A g)) (F0 m 7 ls []) := by
  intro a0 a2 h H locs cells slots kc ks ls hf hS hl
  have hx := C.1
  have hb := C.2.1
  unfold f_X7_run_b7 at hf
  refine lv_iload_n hx hb dX7_run_7 rfl (hl.at 1 rfl) ?_
  refine xr_aload_n C dX7_run_8 rfl (hl.at 0 rfl) ?_
  refine xr_getR C hS xf_X7 0 (by decide) q601 (fun _ h => h) hf dX7_run_9 (fun x9 hf => ?_)
  refine xr_V (V := fun v => some (.int v)) (n := 0) (fr := 1) (lo := 20) (As := []) C hS xf_X1 (lw_V q632 q346 q347 q56 q348) hdv_X1_many ⟨Nat.le_trans (Nat.le_of_ble_eq_true rfl) hR.1, Nat.le_trans (Nat.le_of_ble_eq_true rfl) hR.2⟩ rfl hl.1.1 rfl (xm_rc rfl xm_r0) hf (fun v h1 k1 n1 e1 => ct_X1_many l D N e1) dX7_run_12 (fun x12 h H locs cells slots kc ks hS hf => ?_)
  refine W.eq (g2 := F0 m 15 ls [.int x12, .int a2]) rfl ?_
  refine lv_icmp_ge (tgt := 29) hx hb dX7_run_15 (by decide) (fun c15 => ?_) (fun c15 => ?_)
  · replace hf := xb_pos c15 hf
    exact w_X7_run_b29 C hr hR N a0  h H locs cells slots kc ks ls hf hS (hl.sub [0] rfl)
  · replace hf := xb_neg c15 hf
    refine xr_aload_n C dX7_run_18 rfl (hl.at 0 rfl) ?_
    refine lv_iload_n hx hb dX7_run_19 rfl (hl.at 1 rfl) ?_
    refine xr_V (V := fun _ => none) (n := 1) (fr := 5) (lo := 109) (As := [.int a2]) C hS xf_X7 (lw_V q633 q635 qs11 q74 q636) hdv_X7_judge ⟨Nat.le_trans (Nat.le_of_ble_eq_true rfl) hR.1, Nat.le_trans (Nat.le_of_ble_eq_true rfl) hR.2⟩ rfl hl.1.1 rfl xm_r0 hf (fun v h1 k1 n1 e1 => ct_X7_judge l D N e1) dX7_run_20 (fun _ h H locs cells slots kc ks hS hf => ?_)
    refine W.eq (g2 := F0 m 23 ls []) rfl ?_
    refine xr_iinc C dX7_run_23 hl (k := 1) rfl (xi_inc xi_c1) (Nat.le_of_ble_eq_true rfl) (lv' := [(2, .int (a2 + (1 : Int32))), (0, va_rf a0)]) rfl (fun ls hl => ?_)
    refine lv_goto (tgt := 7) hx hb dX7_run_26 (by decide) ?_
    exact hk7 a0 (a2 + (1 : Int32))  h H locs cells slots kc ks ls hf hS (hl.sub [1, 0] rfl)
theorem w_X7_run_l7 (C : xh_C cX7_run 3 "SungSlides$Judge" D g p s m args meth c) (hr : meth.sig.returnType = (Option.some (Jvm.ClassFile.FieldType.object "SungSlides$Judge"))) (hR : 6 ≤ R.frames ∧ 133 ≤ R.locals) {rv : Option Nat} {hF : xh_H} (N : Nat) : ∀ n : Nat, K_X7_run_7 p l e s m args below meth c D g R rv hF (f_X7_run_l7 N n) := by
  intro n
  induction n with
  | zero => exact fun a0 a2 h H locs cells slots kc ks ls hf => absurd (show (none : xh_R (Option Nat)) = some _ from hf) (by intro q; cases q)
  | succ n ih => exact fun a0 a2 h H locs cells slots kc ks ls hf => w_X7_run_b7 C hr hR N ih a0 a2 h H locs cells slots kc ks ls hf
/-- SungSlides$Judge.run([I)LSungSlides$Judge; -/
theorem w_X7_run (C : xh_C cX7_run 3 "SungSlides$Judge" D g p s m args meth c) (hr : meth.sig.returnType = (Option.some (Jvm.ClassFile.FieldType.object "SungSlides$Judge"))) (hR : 6 ≤ R.frames ∧ 133 ≤ R.locals) {rv : Option Nat} {hF : xh_H} (N : Nat) (a0 : Option Nat) (a1 : Option Nat)  (h : xh_H) (H : Heap) (locs : List Loc) (cells slots kc ks : Nat) (ls : Array Slot) (hf : f_X7_run N a0 a1 h = some (rv, hF, kc, ks)) (hS : xh_T D g s R h H locs cells slots kc ks) (hl : xh_L ls 3 [(0, va_rf a0), (1, va_rf a1)]) : W p l e R s m args below meth c H locs cells slots (MQ below (xh_Q D g (some (va_rf rv)) hF) args s R.cells R.slots (xh_A g)) (F0 m 0 ls []) := by
  have hx := C.1
  have hb := C.2.1
  unfold f_X7_run at hf
  refine xr_aload_n C dX7_run_0 rfl (hl.at 0 rfl) ?_
  refine xr_aload_n C dX7_run_1 rfl (hl.at 1 rfl) ?_
  refine xr_put C hS xf_X7 6 (by decide) q612 (fun _ h => h) rfl xv_arr hf dX7_run_2 (fun h H locs hS hf => ?_)
  refine lv_iconst (v := 0) hx hb dX7_run_5 xi_c0 ?_
  refine xr_istore_n C dX7_run_6 rfl hl (Nat.le_of_ble_eq_true rfl) (lv' := [(2, .int (0 : Int32)), (0, va_rf a0), (1, va_rf a1)]) rfl (fun ls hl => ?_)
  exact w_X7_run_l7 C hr hR N N a0 (0 : Int32)  h H locs cells slots kc ks ls hf hS (hl.sub [1, 0] rfl)
theorem ct_X7_run (l : Launch) (D : xh_D) {rv : Option Nat} {h hF : xh_H} {kc ks : Nat} (N : Nat) {a0 : Option Nat} {a1 : Option Nat} (hf : f_X7_run N a0 a1 h = some (rv, hF, kc, ks)) : xh_Ct l D yX7_run (ws_ yX7_run cX7_run 3 (Option.some (Jvm.ClassFile.FieldType.object "SungSlides$Judge"))) 6 133 [va_rf a0, va_rf a1] h (some (va_rf rv)) hF kc ks :=
  xh_meth (cc := cX7_run) l (by decide) (Nat.le_of_ble_eq_true rfl) (List.forall_mem_cons.mpr ⟨va_rf_cat _, List.forall_mem_cons.mpr ⟨va_rf_cat _, fun _ h => absurd h List.not_mem_nil⟩⟩) fun p e s m below meth c ls C hr hnm hl hS => w_X7_run C hr ⟨Nat.le_refl _, Nat.le_refl _⟩ N a0 a1 h _ _ _ _ _ _ _ hf hS hl
/-- SungSlides.judged()LSungSlides$Judge; -/
theorem w_X0_judged (C : xh_C cX0_judged 1 "SungSlides" D g p s m args meth c) (hr : meth.sig.returnType = (Option.some (Jvm.ClassFile.FieldType.object "SungSlides$Judge"))) (hR : 7 ≤ R.frames ∧ 155 ≤ R.locals) {rv : Option Nat} {hF : xh_H} (N : Nat) (a0 : Option Nat)  (h : xh_H) (H : Heap) (locs : List Loc) (cells slots kc ks : Nat) (ls : Array Slot) (hf : f_X0_judged N a0 h = some (rv, hF, kc, ks)) (hS : xh_T D g s R h H locs cells slots kc ks) (hl : xh_L ls 1 [(0, va_rf a0)]) : W p l e R s m args below meth c H locs cells slots (MQ below (xh_Q D g (some (va_rf rv)) hF) args s R.cells R.slots (xh_A g)) (F0 m 0 ls []) := by
  have hx := C.1
  have hb := C.2.1
  unfold f_X0_judged at hf
  refine xr_new C hS xf_X7 q595 q596 q74 (fs := [.null, .null, .null, .null, .null, .null, .null]) rfl xd_X7 hf dX0_judged_0 (fun x0 h H cells slots kc ks hS hf => ?_)
  refine lv_dup hx hb dX0_judged_3 (va_rf_cat _) ?_
  refine xr_aload_n C dX0_judged_4 rfl (hl.at 0 rfl) ?_
  refine xr_getR C hS xf_X0 0 (by decide) q139 (fun _ h => h) hf dX0_judged_5 (fun x5 hf => ?_)
  refine xr_I (n := 1) (fr := 1) (lo := 20) (As := [va_rf x5]) C hS q597 q598 q74 q599 rfl hd_X7_init ⟨Nat.le_trans (Nat.le_of_ble_eq_true rfl) hR.1, Nat.le_trans (Nat.le_of_ble_eq_true rfl) hR.2⟩ rfl hl.1.1 rfl (xm_rc (va_rf_cat _) xm_r0) (ci := 7) hf (fun v h1 k1 n1 e1 => ct_X7_init l D N e1) dX0_judged_8 (fun _ h H locs cells slots kc ks hS hf => ?_)
  refine W.eq (g2 := F0 m 11 ls [va_rf x0]) rfl ?_
  refine xr_aload_n C dX0_judged_11 rfl (hl.at 0 rfl) ?_
  refine xr_getR C hS xf_X0 0 (by decide) q139 (fun _ h => h) hf dX0_judged_12 (fun x12 hf => ?_)
  refine xr_getNR C hS xf_X1 1 (by decide) xn_q126 rfl hf dX0_judged_15 (fun x15 hf => ?_)
  refine xr_V (V := fun v => some (va_rf v)) (n := 1) (fr := 6) (lo := 133) (As := [va_rf x15]) C hS xf_X7 (lw_V q628 q629 q630 q74 q631) hdv_X7_run ⟨Nat.le_trans (Nat.le_of_ble_eq_true rfl) hR.1, Nat.le_trans (Nat.le_of_ble_eq_true rfl) hR.2⟩ rfl hl.1.1 rfl xm_r0 hf (fun v h1 k1 n1 e1 => ct_X7_run l D N e1) dX0_judged_18 (fun x18 h H locs cells slots kc ks hS hf => ?_)
  refine W.eq (g2 := F0 m 21 ls [va_rf x18]) rfl ?_
  exact xr_aret C hS hr (Or.inl ⟨_, rfl⟩) hf dX0_judged_21
theorem ct_X0_judged (l : Launch) (D : xh_D) {rv : Option Nat} {h hF : xh_H} {kc ks : Nat} (N : Nat) {a0 : Option Nat} (hf : f_X0_judged N a0 h = some (rv, hF, kc, ks)) : xh_Ct l D yX0_judged (ws_ yX0_judged cX0_judged 1 (Option.some (Jvm.ClassFile.FieldType.object "SungSlides$Judge"))) 7 155 [va_rf a0] h (some (va_rf rv)) hF kc ks :=
  xh_meth (cc := cX0_judged) l (by decide) (Nat.le_of_ble_eq_true rfl) (List.forall_mem_cons.mpr ⟨va_rf_cat _, fun _ h => absurd h List.not_mem_nil⟩) fun p e s m below meth c ls C hr hnm hl hS => w_X0_judged C hr ⟨Nat.le_refl _, Nat.le_refl _⟩ N a0 h _ _ _ _ _ _ _ hf hS hl
def K_X7_hits_4 (p : Program) (l : Launch) (e : Env) (s : State) (m : MethodId) (args : Array Value) (below : List Frame) (meth : Method) (c : Code) (D : xh_D) (g : Nat → Nat) (R : Room) (rv : Int32) (hF : xh_H) (k : Option Nat → Int32 → Int32 → Int32 → xh_H → xh_R Int32) : Prop := ∀ (a0 : Option Nat) (a1 : Int32) (a2 : Int32) (a3 : Int32) (h : xh_H) (H : Heap) (locs : List Loc) (cells slots kc ks : Nat) (ls : Array Slot), k a0 a1 a2 a3 h = some (rv, hF, kc, ks) → xh_T D g s R h H locs cells slots kc ks → xh_L ls 4 [(0, va_rf a0), (1, .int a1), (2, .int a2), (3, .int a3)] → W p l e R s m args below meth c H locs cells slots (MQ below (xh_Q D g (some (.int rv)) hF) args s R.cells R.slots (xh_A g)) (F0 m 4 ls [])
theorem w_X7_hits_b67 (C : xh_C cX7_hits 4 "SungSlides$Judge" D g p s m args meth c) (hr : meth.sig.returnType = (Option.some Jvm.ClassFile.FieldType.int)) (hR : 3 ≤ R.frames ∧ 64 ≤ R.locals) {rv : Int32} {hF : xh_H} (N : Nat) : ∀ (a2 : Int32) (h : xh_H) (H : Heap) (locs : List Loc) (cells slots kc ks : Nat) (ls : Array Slot), f_X7_hits_b67 N a2 h = some (rv, hF, kc, ks) → xh_T D g s R h H locs cells slots kc ks → xh_L ls 4 [(2, .int a2)] → W p l e R s m args below meth c H locs cells slots (MQ below (xh_Q D g (some (.int rv)) hF) args s R.cells R.slots (xh_A g)) (F0 m 67 ls []) := by
  intro a2 h H locs cells slots kc ks ls hf hS hl
  have hx := C.1
  have hb := C.2.1
  unfold f_X7_hits_b67 at hf
  refine lv_iload_n hx hb dX7_hits_67 rfl (hl.at 0 rfl) ?_
  exact xr_iret C hS hr hf dX7_hits_68
theorem w_X7_hits_b59 (C : xh_C cX7_hits 4 "SungSlides$Judge" D g p s m args meth c) (hr : meth.sig.returnType = (Option.some Jvm.ClassFile.FieldType.int)) (hR : 3 ≤ R.frames ∧ 64 ≤ R.locals) {rv : Int32} {hF : xh_H} (N : Nat) {k4 : Option Nat → Int32 → Int32 → Int32 → xh_H → xh_R Int32} (hk4 : K_X7_hits_4 p l e s m args below meth c D g R rv hF k4) : ∀ (a0 : Option Nat) (a1 : Int32) (a3 : Int32) (t0 : Int32) (t1 : Int32) (h : xh_H) (H : Heap) (locs : List Loc) (cells slots kc ks : Nat) (ls : Array Slot), f_X7_hits_b59 N k4 a0 a1 a3 t0 t1 h = some (rv, hF, kc, ks) → xh_T D g s R h H locs cells slots kc ks → xh_L ls 4 [(0, va_rf a0), (1, .int a1), (3, .int a3)] → W p l e R s m args below meth c H locs cells slots (MQ below (xh_Q D g (some (.int rv)) hF) args s R.cells R.slots (xh_A g)) (F0 m 59 ls [.int t1, .int t0]) := by
  intro a0 a1 a3 t0 t1 h H locs cells slots kc ks ls hf hS hl
  have hx := C.1
  have hb := C.2.1
  unfold f_X7_hits_b59 at hf
  refine lv_iadd hx hb dX7_hits_59 ?_
  refine xr_istore_n C dX7_hits_60 rfl hl (Nat.le_of_ble_eq_true rfl) (lv' := [(2, .int (t0 + t1)), (0, va_rf a0), (1, .int a1), (3, .int a3)]) rfl (fun ls hl => ?_)
  refine xr_iinc C dX7_hits_61 hl (k := 3) rfl (xi_inc xi_c1) (Nat.le_of_ble_eq_true rfl) (lv' := [(3, .int (a3 + (1 : Int32))), (2, .int (t0 + t1)), (0, va_rf a0), (1, .int a1)]) rfl (fun ls hl => ?_)
  refine lv_goto (tgt := 4) hx hb dX7_hits_64 (by decide) ?_
  exact hk4 a0 a1 (t0 + t1) (a3 + (1 : Int32))  h H locs cells slots kc ks ls hf hS (hl.sub [2, 3, 1, 0] rfl)
theorem w_X7_hits_b58 (C : xh_C cX7_hits 4 "SungSlides$Judge" D g p s m args meth c) (hr : meth.sig.returnType = (Option.some Jvm.ClassFile.FieldType.int)) (hR : 3 ≤ R.frames ∧ 64 ≤ R.locals) {rv : Int32} {hF : xh_H} (N : Nat) {k4 : Option Nat → Int32 → Int32 → Int32 → xh_H → xh_R Int32} (hk4 : K_X7_hits_4 p l e s m args below meth c D g R rv hF k4) : ∀ (a0 : Option Nat) (a1 : Int32) (a3 : Int32) (t0 : Int32) (h : xh_H) (H : Heap) (locs : List Loc) (cells slots kc ks : Nat) (ls : Array Slot), f_X7_hits_b58 N k4 a0 a1 a3 t0 h = some (rv, hF, kc, ks) → xh_T D g s R h H locs cells slots kc ks → xh_L ls 4 [(0, va_rf a0), (1, .int a1), (3, .int a3)] → W p l e R s m args below meth c H locs cells slots (MQ below (xh_Q D g (some (.int rv)) hF) args s R.cells R.slots (xh_A g)) (F0 m 58 ls [.int t0]) := by
  intro a0 a1 a3 t0 h H locs cells slots kc ks ls hf hS hl
  have hx := C.1
  have hb := C.2.1
  unfold f_X7_hits_b58 at hf
  refine lv_iconst (v := 0) hx hb dX7_hits_58 xi_c0 ?_
  exact w_X7_hits_b59 C hr hR N hk4 a0 a1 a3 t0 (0 : Int32) h H locs cells slots kc ks ls hf hS (hl.sub [0, 1, 2] rfl)
theorem w_X7_hits_b54 (C : xh_C cX7_hits 4 "SungSlides$Judge" D g p s m args meth c) (hr : meth.sig.returnType = (Option.some Jvm.ClassFile.FieldType.int)) (hR : 3 ≤ R.frames ∧ 64 ≤ R.locals) {rv : Int32} {hF : xh_H} (N : Nat) {k4 : Option Nat → Int32 → Int32 → Int32 → xh_H → xh_R Int32} (hk4 : K_X7_hits_4 p l e s m args below meth c D g R rv hF k4) : ∀ (a0 : Option Nat) (a1 : Int32) (a3 : Int32) (t0 : Int32) (h : xh_H) (H : Heap) (locs : List Loc) (cells slots kc ks : Nat) (ls : Array Slot), f_X7_hits_b54 N k4 a0 a1 a3 t0 h = some (rv, hF, kc, ks) → xh_T D g s R h H locs cells slots kc ks → xh_L ls 4 [(0, va_rf a0), (1, .int a1), (3, .int a3)] → W p l e R s m args below meth c H locs cells slots (MQ below (xh_Q D g (some (.int rv)) hF) args s R.cells R.slots (xh_A g)) (F0 m 54 ls [.int t0]) := by
  intro a0 a1 a3 t0 h H locs cells slots kc ks ls hf hS hl
  have hx := C.1
  have hb := C.2.1
  unfold f_X7_hits_b54 at hf
  refine lv_iconst (v := 1) hx hb dX7_hits_54 xi_c1 ?_
  refine lv_goto (tgt := 59) hx hb dX7_hits_55 (by decide) ?_
  exact w_X7_hits_b59 C hr hR N hk4 a0 a1 a3 t0 (1 : Int32) h H locs cells slots kc ks ls hf hS (hl.sub [0, 1, 2] rfl)
theorem w_X7_hits_b4 (C : xh_C cX7_hits 4 "SungSlides$Judge" D g p s m args meth c) (hr : meth.sig.returnType = (Option.some Jvm.ClassFile.FieldType.int)) (hR : 3 ≤ R.frames ∧ 64 ≤ R.locals) {rv : Int32} {hF : xh_H} (N : Nat) {k4 : Option Nat → Int32 → Int32 → Int32 → xh_H → xh_R Int32} (hk4 : K_X7_hits_4 p l e s m args below meth c D g R rv hF k4) : ∀ (a0 : Option Nat) (a1 : Int32) (a2 : Int32) (a3 : Int32) (h : xh_H) (H : Heap) (locs : List Loc) (cells slots kc ks : Nat) (ls : Array Slot), f_X7_hits_b4 N k4 a0 a1 a2 a3 h = some (rv, hF, kc, ks) → xh_T D g s R h H locs cells slots kc ks → xh_L ls 4 [(0, va_rf a0), (1, .int a1), (2, .int a2), (3, .int a3)] → W p l e R s m args below meth c H locs cells slots (MQ below (xh_Q D g (some (.int rv)) hF) args s R.cells R.slots (xh_A g)) (F0 m 4 ls []) := by
  intro a0 a1 a2 a3 h H locs cells slots kc ks ls hf hS hl
  have hx := C.1
  have hb := C.2.1
  unfold f_X7_hits_b4 at hf
  refine lv_iload_n hx hb dX7_hits_4 rfl (hl.at 3 rfl) ?_
  refine xr_aload_n C dX7_hits_5 rfl (hl.at 0 rfl) ?_
  refine xr_getR C hS xf_X7 0 (by decide) q601 (fun _ h => h) hf dX7_hits_6 (fun x6 hf => ?_)
  refine xr_V (V := fun v => some (.int v)) (n := 0) (fr := 1) (lo := 20) (As := []) C hS xf_X1 (lw_V q632 q346 q347 q56 q348) hdv_X1_many ⟨Nat.le_trans (Nat.le_of_ble_eq_true rfl) hR.1, Nat.le_trans (Nat.le_of_ble_eq_true rfl) hR.2⟩ rfl hl.1.1 rfl (xm_rc rfl xm_r0) hf (fun v h1 k1 n1 e1 => ct_X1_many l D N e1) dX7_hits_9 (fun x9 h H locs cells slots kc ks hS hf => ?_)
  refine W.eq (g2 := F0 m 12 ls [.int x9, .int a3]) rfl ?_
  refine lv_icmp_ge (tgt := 67) hx hb dX7_hits_12 (by decide) (fun c12 => ?_) (fun c12 => ?_)
  · replace hf := xb_pos c12 hf
    exact w_X7_hits_b67 C hr hR N a2  h H locs cells slots kc ks ls hf hS (hl.sub [2] rfl)
  · replace hf := xb_neg c12 hf
    refine lv_iload_n hx hb dX7_hits_15 rfl (hl.at 2 rfl) ?_
    refine xr_aload_n C dX7_hits_16 rfl (hl.at 0 rfl) ?_
    refine xr_getR C hS xf_X7 3 (by decide) q606 (fun _ h => h) hf dX7_hits_17 (fun x17 hf => ?_)
    refine lv_iload_n hx hb dX7_hits_20 rfl (hl.at 3 rfl) ?_
    refine xr_iald C hS hf dX7_hits_21 (fun x21 hf => ?_)
    refine lv_if_ne (tgt := 58) hx hb dX7_hits_22 (by decide) (fun c22 => ?_) (fun c22 => ?_)
    · replace hf := xb_neg c22 hf
      exact w_X7_hits_b58 C hr hR N hk4 a0 a1 a3 a2 h H locs cells slots kc ks ls hf hS (hl.sub [0, 1, 3] rfl)
    · replace hf := xb_pos c22 hf
      refine lv_iload_n hx hb dX7_hits_25 rfl (hl.at 1 rfl) ?_
      refine lv_bipush (v := -5) hx hb dX7_hits_26 xi_bm5 ?_
      refine lv_icmp_eq (tgt := 54) hx hb dX7_hits_28 (by decide) (fun c28 => ?_) (fun c28 => ?_)
      · replace hf := xb_pos c28 hf
        exact w_X7_hits_b54 C hr hR N hk4 a0 a1 a3 a2 h H locs cells slots kc ks ls hf hS (hl.sub [0, 1, 3] rfl)
      · replace hf := xb_neg c28 hf
        refine xr_aload_n C dX7_hits_31 rfl (hl.at 0 rfl) ?_
        refine xr_getR C hS xf_X7 0 (by decide) q601 (fun _ h => h) hf dX7_hits_32 (fun x32 hf => ?_)
        refine xr_getNR C hS xf_X1 0 (by decide) xn_q123 rfl hf dX7_hits_35 (fun x35 hf => ?_)
        refine lv_iload_n hx hb dX7_hits_38 rfl (hl.at 3 rfl) ?_
        refine xr_F (V := fun v => some (va_rf v)) (n := 1) (fr := 2) (lo := 43) (As := [.int a3]) C hS xf_J2 q638 q362 q364 q59 q366 xn_i6 hdi_J2_get ⟨Nat.le_trans (Nat.le_of_ble_eq_true rfl) hR.1, Nat.le_trans (Nat.le_of_ble_eq_true rfl) hR.2⟩ rfl hl.1.1 rfl (xm_rc rfl xm_r0) hf (fun v h1 k1 n1 e1 => ct_J2_get l D N e1) dX7_hits_39 (fun x39 h H locs cells slots kc ks hS hf => ?_)
        refine W.eq (g2 := F0 m 44 ls [va_rf x39, .int a2]) rfl ?_
        refine xr_ccS C hS xf_X5 q639 hf dX7_hits_44 (fun hf => ?_)
        refine xr_getNI C hS xf_X5 4 (by decide) xn_q459 rfl hf dX7_hits_47 (fun x47 hf => ?_)
        refine lv_iload_n hx hb dX7_hits_50 rfl (hl.at 1 rfl) ?_
        refine lv_icmp_ne (tgt := 58) hx hb dX7_hits_51 (by decide) (fun c51 => ?_) (fun c51 => ?_)
        · replace hf := xb_neg c51 hf
          exact w_X7_hits_b58 C hr hR N hk4 a0 a1 a3 a2 h H locs cells slots kc ks ls hf hS (hl.sub [0, 1, 3] rfl)
        · replace hf := xb_pos c51 hf
          exact w_X7_hits_b54 C hr hR N hk4 a0 a1 a3 a2 h H locs cells slots kc ks ls hf hS (hl.sub [0, 1, 3] rfl)
theorem w_X7_hits_l4 (C : xh_C cX7_hits 4 "SungSlides$Judge" D g p s m args meth c) (hr : meth.sig.returnType = (Option.some Jvm.ClassFile.FieldType.int)) (hR : 3 ≤ R.frames ∧ 64 ≤ R.locals) {rv : Int32} {hF : xh_H} (N : Nat) : ∀ n : Nat, K_X7_hits_4 p l e s m args below meth c D g R rv hF (f_X7_hits_l4 N n) := by
  intro n
  induction n with
  | zero => exact fun a0 a1 a2 a3 h H locs cells slots kc ks ls hf => absurd (show (none : xh_R Int32) = some _ from hf) (by intro q; cases q)
  | succ n ih => exact fun a0 a1 a2 a3 h H locs cells slots kc ks ls hf => w_X7_hits_b4 C hr hR N ih a0 a1 a2 a3 h H locs cells slots kc ks ls hf
/-- SungSlides$Judge.hits(I)I -/
theorem w_X7_hits (C : xh_C cX7_hits 4 "SungSlides$Judge" D g p s m args meth c) (hr : meth.sig.returnType = (Option.some Jvm.ClassFile.FieldType.int)) (hR : 3 ≤ R.frames ∧ 64 ≤ R.locals) {rv : Int32} {hF : xh_H} (N : Nat) (a0 : Option Nat) (a1 : Int32)  (h : xh_H) (H : Heap) (locs : List Loc) (cells slots kc ks : Nat) (ls : Array Slot) (hf : f_X7_hits N a0 a1 h = some (rv, hF, kc, ks)) (hS : xh_T D g s R h H locs cells slots kc ks) (hl : xh_L ls 4 [(0, va_rf a0), (1, .int a1)]) : W p l e R s m args below meth c H locs cells slots (MQ below (xh_Q D g (some (.int rv)) hF) args s R.cells R.slots (xh_A g)) (F0 m 0 ls []) := by
  have hx := C.1
  have hb := C.2.1
  unfold f_X7_hits at hf
  refine lv_iconst (v := 0) hx hb dX7_hits_0 xi_c0 ?_
  refine xr_istore_n C dX7_hits_1 rfl hl (Nat.le_of_ble_eq_true rfl) (lv' := [(2, .int (0 : Int32)), (0, va_rf a0), (1, .int a1)]) rfl (fun ls hl => ?_)
  refine lv_iconst (v := 0) hx hb dX7_hits_2 xi_c0 ?_
  refine xr_istore_n C dX7_hits_3 rfl hl (Nat.le_of_ble_eq_true rfl) (lv' := [(3, .int (0 : Int32)), (2, .int (0 : Int32)), (0, va_rf a0), (1, .int a1)]) rfl (fun ls hl => ?_)
  exact w_X7_hits_l4 C hr hR N N a0 a1 (0 : Int32) (0 : Int32)  h H locs cells slots kc ks ls hf hS (hl.sub [2, 3, 1, 0] rfl)
theorem ct_X7_hits (l : Launch) (D : xh_D) {rv : Int32} {h hF : xh_H} {kc ks : Nat} (N : Nat) {a0 : Option Nat} {a1 : Int32} (hf : f_X7_hits N a0 a1 h = some (rv, hF, kc, ks)) : xh_Ct l D yX7_hits (ws_ yX7_hits cX7_hits 4 (Option.some Jvm.ClassFile.FieldType.int)) 3 64 [va_rf a0, .int a1] h (some (.int rv)) hF kc ks :=
  xh_meth (cc := cX7_hits) l (by decide) (Nat.le_of_ble_eq_true rfl) (List.forall_mem_cons.mpr ⟨va_rf_cat _, List.forall_mem_cons.mpr ⟨rfl, fun _ h => absurd h List.not_mem_nil⟩⟩) fun p e s m below meth c ls C hr hnm hl hS => w_X7_hits C hr ⟨Nat.le_refl _, Nat.le_refl _⟩ N a0 a1 h _ _ _ _ _ _ _ hf hS hl
def K_X0_sing_32 (p : Program) (l : Launch) (e : Env) (s : State) (m : MethodId) (args : Array Value) (below : List Frame) (meth : Method) (c : Code) (D : xh_D) (g : Nat → Nat) (R : Room) (rv : Int32) (hF : xh_H) (k : Option Nat → Int32 → Int32 → Int32 → Option Nat → Int32 → xh_H → xh_R Int32) : Prop := ∀ (a0 : Option Nat) (a1 : Int32) (a2 : Int32) (a3 : Int32) (a4 : Option Nat) (a5 : Int32) (h : xh_H) (H : Heap) (locs : List Loc) (cells slots kc ks : Nat) (ls : Array Slot), k a0 a1 a2 a3 a4 a5 h = some (rv, hF, kc, ks) → xh_T D g s R h H locs cells slots kc ks → xh_L ls 6 [(0, va_rf a0), (1, .int a1), (2, .int a2), (3, .int a3), (4, va_rf a4), (5, .int a5)] → W p l e R s m args below meth c H locs cells slots (MQ below (xh_Q D g (some (.int rv)) hF) args s R.cells R.slots (xh_A g)) (F0 m 32 ls [])
theorem w_X0_sing_b57 (C : xh_C cX0_sing 6 "SungSlides" D g p s m args meth c) (hr : meth.sig.returnType = (Option.some Jvm.ClassFile.FieldType.int)) (hR : 8 ≤ R.frames ∧ 214 ≤ R.locals) {rv : Int32} {hF : xh_H} (N : Nat) : ∀ (a0 : Option Nat) (a4 : Option Nat) (h : xh_H) (H : Heap) (locs : List Loc) (cells slots kc ks : Nat) (ls : Array Slot), f_X0_sing_b57 N a0 a4 h = some (rv, hF, kc, ks) → xh_T D g s R h H locs cells slots kc ks → xh_L ls 6 [(0, va_rf a0), (4, va_rf a4)] → W p l e R s m args below meth c H locs cells slots (MQ below (xh_Q D g (some (.int rv)) hF) args s R.cells R.slots (xh_A g)) (F0 m 57 ls []) := by
  intro a0 a4 h H locs cells slots kc ks ls hf hS hl
  have hx := C.1
  have hb := C.2.1
  unfold f_X0_sing_b57 at hf
  refine xr_aload_n C dX0_sing_57 rfl (hl.at 0 rfl) ?_
  refine xr_aload C dX0_sing_58 (hl.at 1 rfl) ?_
  refine xr_aload_n C dX0_sing_60 rfl (hl.at 0 rfl) ?_
  refine xr_V (V := fun v => some (va_rf v)) (n := 0) (fr := 7) (lo := 155) (As := []) C hS xf_X0 (lw_V q591 q593 qs10 q55 q594) hdv_X0_judged ⟨Nat.le_trans (Nat.le_of_ble_eq_true rfl) hR.1, Nat.le_trans (Nat.le_of_ble_eq_true rfl) hR.2⟩ rfl hl.1.1 rfl (xm_rc (va_rf_cat _) (xm_rc (va_rf_cat _) xm_r0)) hf (fun v h1 k1 n1 e1 => ct_X0_judged l D N e1) dX0_sing_61 (fun x61 h H locs cells slots kc ks hS hf => ?_)
  refine W.eq (g2 := F0 m 64 ls [va_rf x61, va_rf a4, va_rf a0]) rfl ?_
  refine lv_bipush (v := -5) hx hb dX0_sing_64 xi_bm5 ?_
  refine xr_V (V := fun v => some (.int v)) (n := 1) (fr := 3) (lo := 64) (As := [.int (-5 : Int32)]) C hS xf_X7 (lw_V q675 q676 q677 q74 q678) hdv_X7_hits ⟨Nat.le_trans (Nat.le_of_ble_eq_true rfl) hR.1, Nat.le_trans (Nat.le_of_ble_eq_true rfl) hR.2⟩ rfl hl.1.1 rfl (xm_rc (va_rf_cat _) (xm_rc (va_rf_cat _) xm_r0)) hf (fun v h1 k1 n1 e1 => ct_X7_hits l D N e1) dX0_sing_66 (fun x66 h H locs cells slots kc ks hS hf => ?_)
  refine W.eq (g2 := F0 m 69 ls [.int x66, va_rf a4, va_rf a0]) rfl ?_
  refine xr_V (V := fun v => some (.int v)) (n := 2) (fr := 7) (lo := 191) (As := [va_rf a4, .int x66]) C hS xf_X0 (lw_V q476 q478 qs4 q55 q479) hdv_X0_changed ⟨Nat.le_trans (Nat.le_of_ble_eq_true rfl) hR.1, Nat.le_trans (Nat.le_of_ble_eq_true rfl) hR.2⟩ rfl hl.1.1 rfl xm_r0 hf (fun v h1 k1 n1 e1 => ct_X0_changed l D N e1) dX0_sing_69 (fun x69 h H locs cells slots kc ks hS hf => ?_)
  refine W.eq (g2 := F0 m 72 ls [.int x69]) rfl ?_
  exact xr_iret C hS hr hf dX0_sing_72
theorem w_X0_sing_b32 (C : xh_C cX0_sing 6 "SungSlides" D g p s m args meth c) (hr : meth.sig.returnType = (Option.some Jvm.ClassFile.FieldType.int)) (hR : 8 ≤ R.frames ∧ 214 ≤ R.locals) {rv : Int32} {hF : xh_H} (N : Nat) {k32 : Option Nat → Int32 → Int32 → Int32 → Option Nat → Int32 → xh_H → xh_R Int32} (hk32 : K_X0_sing_32 p l e s m args below meth c D g R rv hF k32) : ∀ (a0 : Option Nat) (a1 : Int32) (a2 : Int32) (a3 : Int32) (a4 : Option Nat) (a5 : Int32) (h : xh_H) (H : Heap) (locs : List Loc) (cells slots kc ks : Nat) (ls : Array Slot), f_X0_sing_b32 N k32 a0 a1 a2 a3 a4 a5 h = some (rv, hF, kc, ks) → xh_T D g s R h H locs cells slots kc ks → xh_L ls 6 [(0, va_rf a0), (1, .int a1), (2, .int a2), (3, .int a3), (4, va_rf a4), (5, .int a5)] → W p l e R s m args below meth c H locs cells slots (MQ below (xh_Q D g (some (.int rv)) hF) args s R.cells R.slots (xh_A g)) (F0 m 32 ls []) := by
  intro a0 a1 a2 a3 a4 a5 h H locs cells slots kc ks ls hf hS hl
  have hx := C.1
  have hb := C.2.1
  unfold f_X0_sing_b32 at hf
  refine lv_iload hx hb dX0_sing_32 (hl.at 5 rfl) ?_
  refine lv_iload_n hx hb dX0_sing_34 rfl (hl.at 1 rfl) ?_
  refine lv_iload_n hx hb dX0_sing_35 rfl (hl.at 2 rfl) ?_
  refine lv_iadd hx hb dX0_sing_36 ?_
  refine lv_icmp_ge (tgt := 57) hx hb dX0_sing_37 (by decide) (fun c37 => ?_) (fun c37 => ?_)
  · replace hf := xb_pos c37 hf
    exact w_X0_sing_b57 C hr hR N a0 a4  h H locs cells slots kc ks ls hf hS (hl.sub [0, 4] rfl)
  · replace hf := xb_neg c37 hf
    refine xr_aload_n C dX0_sing_40 rfl (hl.at 0 rfl) ?_
    refine xr_getR C hS xf_X0 0 (by decide) q139 (fun _ h => h) hf dX0_sing_41 (fun x41 hf => ?_)
    refine xr_getNR C hS xf_X1 1 (by decide) xn_q126 rfl hf dX0_sing_44 (fun x44 hf => ?_)
    refine lv_iload hx hb dX0_sing_47 (hl.at 5 rfl) ?_
    refine lv_iload_n hx hb dX0_sing_49 rfl (hl.at 3 rfl) ?_
    refine xr_iast C hS hf dX0_sing_50 (fun h H locs hS hf => ?_)
    refine xr_iinc C dX0_sing_51 hl (k := 5) rfl (xi_inc xi_c1) (Nat.le_of_ble_eq_true rfl) (lv' := [(5, .int (a5 + (1 : Int32))), (0, va_rf a0), (1, .int a1), (2, .int a2), (3, .int a3), (4, va_rf a4)]) rfl (fun ls hl => ?_)
    refine lv_goto (tgt := 32) hx hb dX0_sing_54 (by decide) ?_
    exact hk32 a0 a1 a2 a3 a4 (a5 + (1 : Int32))  h H locs cells slots kc ks ls hf hS (hl.sub [1, 2, 3, 4, 5, 0] rfl)
theorem w_X0_sing_l32 (C : xh_C cX0_sing 6 "SungSlides" D g p s m args meth c) (hr : meth.sig.returnType = (Option.some Jvm.ClassFile.FieldType.int)) (hR : 8 ≤ R.frames ∧ 214 ≤ R.locals) {rv : Int32} {hF : xh_H} (N : Nat) : ∀ n : Nat, K_X0_sing_32 p l e s m args below meth c D g R rv hF (f_X0_sing_l32 N n) := by
  intro n
  induction n with
  | zero => exact fun a0 a1 a2 a3 a4 a5 h H locs cells slots kc ks ls hf => absurd (show (none : xh_R Int32) = some _ from hf) (by intro q; cases q)
  | succ n ih => exact fun a0 a1 a2 a3 a4 a5 h H locs cells slots kc ks ls hf => w_X0_sing_b32 C hr hR N ih a0 a1 a2 a3 a4 a5 h H locs cells slots kc ks ls hf
theorem w_X0_sing_b17 (C : xh_C cX0_sing 6 "SungSlides" D g p s m args meth c) (hr : meth.sig.returnType = (Option.some Jvm.ClassFile.FieldType.int)) (hR : 8 ≤ R.frames ∧ 214 ≤ R.locals) {rv : Int32} {hF : xh_H} (N : Nat) : ∀ (h : xh_H) (H : Heap) (locs : List Loc) (cells slots kc ks : Nat) (ls : Array Slot), f_X0_sing_b17 N  h = some (rv, hF, kc, ks) → xh_T D g s R h H locs cells slots kc ks → xh_L ls 6 [] → W p l e R s m args below meth c H locs cells slots (MQ below (xh_Q D g (some (.int rv)) hF) args s R.cells R.slots (xh_A g)) (F0 m 17 ls []) := by
  intro  h H locs cells slots kc ks ls hf hS hl
  have hx := C.1
  have hb := C.2.1
  unfold f_X0_sing_b17 at hf
  refine lv_bipush (v := -2) hx hb dX0_sing_17 xi_bm2 ?_
  exact xr_iret C hS hr hf dX0_sing_19
/-- SungSlides.sing(III)I -/
theorem w_X0_sing (C : xh_C cX0_sing 6 "SungSlides" D g p s m args meth c) (hr : meth.sig.returnType = (Option.some Jvm.ClassFile.FieldType.int)) (hR : 8 ≤ R.frames ∧ 214 ≤ R.locals) {rv : Int32} {hF : xh_H} (N : Nat) (a0 : Option Nat) (a1 : Int32) (a2 : Int32) (a3 : Int32)  (h : xh_H) (H : Heap) (locs : List Loc) (cells slots kc ks : Nat) (ls : Array Slot) (hf : f_X0_sing N a0 a1 a2 a3 h = some (rv, hF, kc, ks)) (hS : xh_T D g s R h H locs cells slots kc ks) (hl : xh_L ls 6 [(0, va_rf a0), (1, .int a1), (2, .int a2), (3, .int a3)]) : W p l e R s m args below meth c H locs cells slots (MQ below (xh_Q D g (some (.int rv)) hF) args s R.cells R.slots (xh_A g)) (F0 m 0 ls []) := by
  have hx := C.1
  have hb := C.2.1
  unfold f_X0_sing at hf
  refine lv_iload_n hx hb dX0_sing_0 rfl (hl.at 1 rfl) ?_
  refine lv_iload_n hx hb dX0_sing_1 rfl (hl.at 2 rfl) ?_
  refine lv_bipush (v := 64) hx hb dX0_sing_2 xi_b64 ?_
  refine xr_S (V := fun v => some (.int v)) (n := 3) (fr := 2) (lo := 42) (As := [.int a1, .int a2, .int (64 : Int32)]) C hS (lw_S q584 q585 q55 q586) hd_X0_areTicks ⟨Nat.le_trans (Nat.le_of_ble_eq_true rfl) hR.1, Nat.le_trans (Nat.le_of_ble_eq_true rfl) hR.2⟩ rfl hl.1.1 rfl xm_r0 hf (fun v h1 k1 n1 e1 => ct_X0_areTicks l D N e1) dX0_sing_4 (fun x4 h H locs cells slots kc ks hS hf => ?_)
  refine W.eq (g2 := F0 m 7 ls [.int x4]) rfl ?_
  refine lv_if_eq (tgt := 17) hx hb dX0_sing_7 (by decide) (fun c7 => ?_) (fun c7 => ?_)
  · replace hf := xb_pos c7 hf
    exact w_X0_sing_b17 C hr hR N  h H locs cells slots kc ks ls hf hS (hl.sub [] rfl)
  · replace hf := xb_neg c7 hf
    refine lv_iload_n hx hb dX0_sing_10 rfl (hl.at 3 rfl) ?_
    refine xr_S (V := fun v => some (.int v)) (n := 1) (fr := 1) (lo := 22) (As := [.int a3]) C hS (lw_S q590 q198 q55 q199) hd_X0_isPitch ⟨Nat.le_trans (Nat.le_of_ble_eq_true rfl) hR.1, Nat.le_trans (Nat.le_of_ble_eq_true rfl) hR.2⟩ rfl hl.1.1 rfl xm_r0 hf (fun v h1 k1 n1 e1 => ct_X0_isPitch l D N e1) dX0_sing_11 (fun x11 h H locs cells slots kc ks hS hf => ?_)
    refine W.eq (g2 := F0 m 14 ls [.int x11]) rfl ?_
    refine lv_if_ne (tgt := 20) hx hb dX0_sing_14 (by decide) (fun c14 => ?_) (fun c14 => ?_)
    · replace hf := xb_neg c14 hf
      refine xr_aload_n C dX0_sing_20 rfl (hl.at 0 rfl) ?_
      refine xr_getR C hS xf_X0 0 (by decide) q139 (fun _ h => h) hf dX0_sing_21 (fun x21 hf => ?_)
      refine xr_V (V := fun v => some (va_rf v)) (n := 0) (fr := 7) (lo := 191) (As := []) C hS xf_X1 (lw_V q201 q202 q203 q56 q204) hdv_X1_copy ⟨Nat.le_trans (Nat.le_of_ble_eq_true rfl) hR.1, Nat.le_trans (Nat.le_of_ble_eq_true rfl) hR.2⟩ rfl hl.1.1 rfl xm_r0 hf (fun v h1 k1 n1 e1 => ct_X1_copy l D N e1) dX0_sing_24 (fun x24 h H locs cells slots kc ks hS hf => ?_)
      refine W.eq (g2 := F0 m 27 ls [va_rf x24]) rfl ?_
      refine xr_astore C dX0_sing_27 hl (Nat.le_of_ble_eq_true rfl) (lv' := [(4, va_rf x24), (0, va_rf a0), (1, .int a1), (2, .int a2), (3, .int a3)]) rfl (fun ls hl => ?_)
      refine lv_iload_n hx hb dX0_sing_29 rfl (hl.at 2 rfl) ?_
      refine xr_istore C dX0_sing_30 hl (Nat.le_of_ble_eq_true rfl) (lv' := [(5, .int a1), (4, va_rf x24), (0, va_rf a0), (1, .int a1), (2, .int a2), (3, .int a3)]) rfl (fun ls hl => ?_)
      exact w_X0_sing_l32 C hr hR N N a0 a1 a2 a3 x24 a1  h H locs cells slots kc ks ls hf hS (hl.sub [2, 3, 4, 5, 1, 0] rfl)
    · replace hf := xb_pos c14 hf
      exact w_X0_sing_b17 C hr hR N  h H locs cells slots kc ks ls hf hS (hl.sub [] rfl)
theorem ct_X0_sing (l : Launch) (D : xh_D) {rv : Int32} {h hF : xh_H} {kc ks : Nat} (N : Nat) {a0 : Option Nat} {a1 : Int32} {a2 : Int32} {a3 : Int32} (hf : f_X0_sing N a0 a1 a2 a3 h = some (rv, hF, kc, ks)) : xh_Ct l D yX0_sing (ws_ yX0_sing cX0_sing 6 (Option.some Jvm.ClassFile.FieldType.int)) 8 214 [va_rf a0, .int a1, .int a2, .int a3] h (some (.int rv)) hF kc ks :=
  xh_meth (cc := cX0_sing) l (by decide) (Nat.le_of_ble_eq_true rfl) (List.forall_mem_cons.mpr ⟨va_rf_cat _, List.forall_mem_cons.mpr ⟨rfl, List.forall_mem_cons.mpr ⟨rfl, List.forall_mem_cons.mpr ⟨rfl, fun _ h => absurd h List.not_mem_nil⟩⟩⟩⟩) fun p e s m below meth c ls C hr hnm hl hS => w_X0_sing C hr ⟨Nat.le_refl _, Nat.le_refl _⟩ N a0 a1 a2 a3 h _ _ _ _ _ _ _ hf hS hl
def K_X0_silence_28 (p : Program) (l : Launch) (e : Env) (s : State) (m : MethodId) (args : Array Value) (below : List Frame) (meth : Method) (c : Code) (D : xh_D) (g : Nat → Nat) (R : Room) (rv : Int32) (hF : xh_H) (k : Option Nat → Int32 → Int32 → Option Nat → Int32 → Int32 → xh_H → xh_R Int32) : Prop := ∀ (a0 : Option Nat) (a1 : Int32) (a2 : Int32) (a3 : Option Nat) (a4 : Int32) (a5 : Int32) (h : xh_H) (H : Heap) (locs : List Loc) (cells slots kc ks : Nat) (ls : Array Slot), k a0 a1 a2 a3 a4 a5 h = some (rv, hF, kc, ks) → xh_T D g s R h H locs cells slots kc ks → xh_L ls 6 [(0, va_rf a0), (1, .int a1), (2, .int a2), (3, va_rf a3), (4, .int a4), (5, .int a5)] → W p l e R s m args below meth c H locs cells slots (MQ below (xh_Q D g (some (.int rv)) hF) args s R.cells R.slots (xh_A g)) (F0 m 28 ls [])
theorem w_X0_silence_b77 (C : xh_C cX0_silence 6 "SungSlides" D g p s m args meth c) (hr : meth.sig.returnType = (Option.some Jvm.ClassFile.FieldType.int)) (hR : 8 ≤ R.frames ∧ 214 ≤ R.locals) {rv : Int32} {hF : xh_H} (N : Nat) : ∀ (a0 : Option Nat) (a3 : Option Nat) (a4 : Int32) (h : xh_H) (H : Heap) (locs : List Loc) (cells slots kc ks : Nat) (ls : Array Slot), f_X0_silence_b77 N a0 a3 a4 h = some (rv, hF, kc, ks) → xh_T D g s R h H locs cells slots kc ks → xh_L ls 6 [(0, va_rf a0), (3, va_rf a3), (4, .int a4)] → W p l e R s m args below meth c H locs cells slots (MQ below (xh_Q D g (some (.int rv)) hF) args s R.cells R.slots (xh_A g)) (F0 m 77 ls []) := by
  intro a0 a3 a4 h H locs cells slots kc ks ls hf hS hl
  have hx := C.1
  have hb := C.2.1
  unfold f_X0_silence_b77 at hf
  refine xr_aload_n C dX0_silence_77 rfl (hl.at 0 rfl) ?_
  refine xr_aload_n C dX0_silence_78 rfl (hl.at 1 rfl) ?_
  refine lv_iload hx hb dX0_silence_79 (hl.at 2 rfl) ?_
  refine xr_V (V := fun v => some (.int v)) (n := 2) (fr := 7) (lo := 191) (As := [va_rf a3, .int a4]) C hS xf_X0 (lw_V q476 q478 qs4 q55 q479) hdv_X0_changed ⟨Nat.le_trans (Nat.le_of_ble_eq_true rfl) hR.1, Nat.le_trans (Nat.le_of_ble_eq_true rfl) hR.2⟩ rfl hl.1.1 rfl xm_r0 hf (fun v h1 k1 n1 e1 => ct_X0_changed l D N e1) dX0_silence_81 (fun x81 h H locs cells slots kc ks hS hf => ?_)
  refine W.eq (g2 := F0 m 84 ls [.int x81]) rfl ?_
  exact xr_iret C hS hr hf dX0_silence_84
theorem w_X0_silence_b57 (C : xh_C cX0_silence 6 "SungSlides" D g p s m args meth c) (hr : meth.sig.returnType = (Option.some Jvm.ClassFile.FieldType.int)) (hR : 8 ≤ R.frames ∧ 214 ≤ R.locals) {rv : Int32} {hF : xh_H} (N : Nat) {k28 : Option Nat → Int32 → Int32 → Option Nat → Int32 → Int32 → xh_H → xh_R Int32} (hk28 : K_X0_silence_28 p l e s m args below meth c D g R rv hF k28) : ∀ (a0 : Option Nat) (a1 : Int32) (a2 : Int32) (a3 : Option Nat) (a5 : Int32) (t0 : Int32) (t1 : Int32) (h : xh_H) (H : Heap) (locs : List Loc) (cells slots kc ks : Nat) (ls : Array Slot), f_X0_silence_b57 N k28 a0 a1 a2 a3 a5 t0 t1 h = some (rv, hF, kc, ks) → xh_T D g s R h H locs cells slots kc ks → xh_L ls 6 [(0, va_rf a0), (1, .int a1), (2, .int a2), (3, va_rf a3), (5, .int a5)] → W p l e R s m args below meth c H locs cells slots (MQ below (xh_Q D g (some (.int rv)) hF) args s R.cells R.slots (xh_A g)) (F0 m 57 ls [.int t1, .int t0]) := by
  intro a0 a1 a2 a3 a5 t0 t1 h H locs cells slots kc ks ls hf hS hl
  have hx := C.1
  have hb := C.2.1
  unfold f_X0_silence_b57 at hf
  refine lv_iadd hx hb dX0_silence_57 ?_
  refine xr_istore C dX0_silence_58 hl (Nat.le_of_ble_eq_true rfl) (lv' := [(4, .int (t0 + t1)), (0, va_rf a0), (1, .int a1), (2, .int a2), (3, va_rf a3), (5, .int a5)]) rfl (fun ls hl => ?_)
  refine xr_aload_n C dX0_silence_60 rfl (hl.at 1 rfl) ?_
  refine xr_getR C hS xf_X0 0 (by decide) q139 (fun _ h => h) hf dX0_silence_61 (fun x61 hf => ?_)
  refine xr_getNR C hS xf_X1 1 (by decide) xn_q126 rfl hf dX0_silence_64 (fun x64 hf => ?_)
  refine lv_iload hx hb dX0_silence_67 (hl.at 5 rfl) ?_
  refine lv_iconst (v := -1) hx hb dX0_silence_69 xi_cm1 ?_
  refine xr_iast C hS hf dX0_silence_70 (fun h H locs hS hf => ?_)
  refine xr_iinc C dX0_silence_71 hl (k := 5) rfl (xi_inc xi_c1) (Nat.le_of_ble_eq_true rfl) (lv' := [(5, .int (a5 + (1 : Int32))), (4, .int (t0 + t1)), (0, va_rf a0), (1, .int a1), (2, .int a2), (3, va_rf a3)]) rfl (fun ls hl => ?_)
  refine lv_goto (tgt := 28) hx hb dX0_silence_74 (by decide) ?_
  exact hk28 a0 a1 a2 a3 (t0 + t1) (a5 + (1 : Int32))  h H locs cells slots kc ks ls hf hS (hl.sub [2, 3, 4, 5, 1, 0] rfl)
theorem w_X0_silence_b28 (C : xh_C cX0_silence 6 "SungSlides" D g p s m args meth c) (hr : meth.sig.returnType = (Option.some Jvm.ClassFile.FieldType.int)) (hR : 8 ≤ R.frames ∧ 214 ≤ R.locals) {rv : Int32} {hF : xh_H} (N : Nat) {k28 : Option Nat → Int32 → Int32 → Option Nat → Int32 → Int32 → xh_H → xh_R Int32} (hk28 : K_X0_silence_28 p l e s m args below meth c D g R rv hF k28) : ∀ (a0 : Option Nat) (a1 : Int32) (a2 : Int32) (a3 : Option Nat) (a4 : Int32) (a5 : Int32) (h : xh_H) (H : Heap) (locs : List Loc) (cells slots kc ks : Nat) (ls : Array Slot), f_X0_silence_b28 N k28 a0 a1 a2 a3 a4 a5 h = some (rv, hF, kc, ks) → xh_T D g s R h H locs cells slots kc ks → xh_L ls 6 [(0, va_rf a0), (1, .int a1), (2, .int a2), (3, va_rf a3), (4, .int a4), (5, .int a5)] → W p l e R s m args below meth c H locs cells slots (MQ below (xh_Q D g (some (.int rv)) hF) args s R.cells R.slots (xh_A g)) (F0 m 28 ls []) := by
  intro a0 a1 a2 a3 a4 a5 h H locs cells slots kc ks ls hf hS hl
  have hx := C.1
  have hb := C.2.1
  unfold f_X0_silence_b28 at hf
  refine lv_iload hx hb dX0_silence_28 (hl.at 5 rfl) ?_
  refine lv_iload_n hx hb dX0_silence_30 rfl (hl.at 1 rfl) ?_
  refine lv_iload_n hx hb dX0_silence_31 rfl (hl.at 2 rfl) ?_
  refine lv_iadd hx hb dX0_silence_32 ?_
  refine lv_icmp_ge (tgt := 77) hx hb dX0_silence_33 (by decide) (fun c33 => ?_) (fun c33 => ?_)
  · replace hf := xb_pos c33 hf
    exact w_X0_silence_b77 C hr hR N a0 a3 a4  h H locs cells slots kc ks ls hf hS (hl.sub [0, 3, 4] rfl)
  · replace hf := xb_neg c33 hf
    refine lv_iload hx hb dX0_silence_36 (hl.at 4 rfl) ?_
    refine xr_aload_n C dX0_silence_38 rfl (hl.at 0 rfl) ?_
    refine xr_getR C hS xf_X0 0 (by decide) q139 (fun _ h => h) hf dX0_silence_39 (fun x39 hf => ?_)
    refine xr_getNR C hS xf_X1 1 (by decide) xn_q126 rfl hf dX0_silence_42 (fun x42 hf => ?_)
    refine lv_iload hx hb dX0_silence_45 (hl.at 5 rfl) ?_
    refine xr_iald C hS hf dX0_silence_47 (fun x47 hf => ?_)
    refine lv_iconst (v := -1) hx hb dX0_silence_48 xi_cm1 ?_
    refine lv_icmp_ne (tgt := 56) hx hb dX0_silence_49 (by decide) (fun c49 => ?_) (fun c49 => ?_)
    · replace hf := xb_neg c49 hf
      refine lv_iconst (v := 1) hx hb dX0_silence_56 xi_c1 ?_
      exact w_X0_silence_b57 C hr hR N hk28 a0 a1 a2 a3 a5 a4 (1 : Int32) h H locs cells slots kc ks ls hf hS (hl.sub [0, 1, 2, 3, 5] rfl)
    · replace hf := xb_pos c49 hf
      refine lv_iconst (v := 0) hx hb dX0_silence_52 xi_c0 ?_
      refine lv_goto (tgt := 57) hx hb dX0_silence_53 (by decide) ?_
      exact w_X0_silence_b57 C hr hR N hk28 a0 a1 a2 a3 a5 a4 (0 : Int32) h H locs cells slots kc ks ls hf hS (hl.sub [0, 1, 2, 3, 5] rfl)
theorem w_X0_silence_l28 (C : xh_C cX0_silence 6 "SungSlides" D g p s m args meth c) (hr : meth.sig.returnType = (Option.some Jvm.ClassFile.FieldType.int)) (hR : 8 ≤ R.frames ∧ 214 ≤ R.locals) {rv : Int32} {hF : xh_H} (N : Nat) : ∀ n : Nat, K_X0_silence_28 p l e s m args below meth c D g R rv hF (f_X0_silence_l28 N n) := by
  intro n
  induction n with
  | zero => exact fun a0 a1 a2 a3 a4 a5 h H locs cells slots kc ks ls hf => absurd (show (none : xh_R Int32) = some _ from hf) (by intro q; cases q)
  | succ n ih => exact fun a0 a1 a2 a3 a4 a5 h H locs cells slots kc ks ls hf => w_X0_silence_b28 C hr hR N ih a0 a1 a2 a3 a4 a5 h H locs cells slots kc ks ls hf
/-- SungSlides.silence(II)I -/
theorem w_X0_silence (C : xh_C cX0_silence 6 "SungSlides" D g p s m args meth c) (hr : meth.sig.returnType = (Option.some Jvm.ClassFile.FieldType.int)) (hR : 8 ≤ R.frames ∧ 214 ≤ R.locals) {rv : Int32} {hF : xh_H} (N : Nat) (a0 : Option Nat) (a1 : Int32) (a2 : Int32)  (h : xh_H) (H : Heap) (locs : List Loc) (cells slots kc ks : Nat) (ls : Array Slot) (hf : f_X0_silence N a0 a1 a2 h = some (rv, hF, kc, ks)) (hS : xh_T D g s R h H locs cells slots kc ks) (hl : xh_L ls 6 [(0, va_rf a0), (1, .int a1), (2, .int a2)]) : W p l e R s m args below meth c H locs cells slots (MQ below (xh_Q D g (some (.int rv)) hF) args s R.cells R.slots (xh_A g)) (F0 m 0 ls []) := by
  have hx := C.1
  have hb := C.2.1
  unfold f_X0_silence at hf
  refine lv_iload_n hx hb dX0_silence_0 rfl (hl.at 1 rfl) ?_
  refine lv_iload_n hx hb dX0_silence_1 rfl (hl.at 2 rfl) ?_
  refine lv_sipush (v := 600) hx hb dX0_silence_2 xi_s600 ?_
  refine xr_S (V := fun v => some (.int v)) (n := 3) (fr := 2) (lo := 42) (As := [.int a1, .int a2, .int (600 : Int32)]) C hS (lw_S q584 q585 q55 q586) hd_X0_areTicks ⟨Nat.le_trans (Nat.le_of_ble_eq_true rfl) hR.1, Nat.le_trans (Nat.le_of_ble_eq_true rfl) hR.2⟩ rfl hl.1.1 rfl xm_r0 hf (fun v h1 k1 n1 e1 => ct_X0_areTicks l D N e1) dX0_silence_5 (fun x5 h H locs cells slots kc ks hS hf => ?_)
  refine W.eq (g2 := F0 m 8 ls [.int x5]) rfl ?_
  refine lv_if_ne (tgt := 14) hx hb dX0_silence_8 (by decide) (fun c8 => ?_) (fun c8 => ?_)
  · replace hf := xb_neg c8 hf
    refine xr_aload_n C dX0_silence_14 rfl (hl.at 0 rfl) ?_
    refine xr_getR C hS xf_X0 0 (by decide) q139 (fun _ h => h) hf dX0_silence_15 (fun x15 hf => ?_)
    refine xr_V (V := fun v => some (va_rf v)) (n := 0) (fr := 7) (lo := 191) (As := []) C hS xf_X1 (lw_V q201 q202 q203 q56 q204) hdv_X1_copy ⟨Nat.le_trans (Nat.le_of_ble_eq_true rfl) hR.1, Nat.le_trans (Nat.le_of_ble_eq_true rfl) hR.2⟩ rfl hl.1.1 rfl xm_r0 hf (fun v h1 k1 n1 e1 => ct_X1_copy l D N e1) dX0_silence_18 (fun x18 h H locs cells slots kc ks hS hf => ?_)
    refine W.eq (g2 := F0 m 21 ls [va_rf x18]) rfl ?_
    refine xr_astore_n C dX0_silence_21 rfl hl (Nat.le_of_ble_eq_true rfl) (lv' := [(3, va_rf x18), (0, va_rf a0), (1, .int a1), (2, .int a2)]) rfl (fun ls hl => ?_)
    refine lv_iconst (v := 0) hx hb dX0_silence_22 xi_c0 ?_
    refine xr_istore C dX0_silence_23 hl (Nat.le_of_ble_eq_true rfl) (lv' := [(4, .int (0 : Int32)), (3, va_rf x18), (0, va_rf a0), (1, .int a1), (2, .int a2)]) rfl (fun ls hl => ?_)
    refine lv_iload_n hx hb dX0_silence_25 rfl (hl.at 3 rfl) ?_
    refine xr_istore C dX0_silence_26 hl (Nat.le_of_ble_eq_true rfl) (lv' := [(5, .int a1), (4, .int (0 : Int32)), (3, va_rf x18), (0, va_rf a0), (1, .int a1), (2, .int a2)]) rfl (fun ls hl => ?_)
    exact w_X0_silence_l28 C hr hR N N a0 a1 a2 x18 (0 : Int32) a1  h H locs cells slots kc ks ls hf hS (hl.sub [3, 4, 5, 2, 1, 0] rfl)
  · replace hf := xb_pos c8 hf
    refine lv_bipush (v := -2) hx hb dX0_silence_11 xi_bm2 ?_
    exact xr_iret C hS hr hf dX0_silence_13
theorem ct_X0_silence (l : Launch) (D : xh_D) {rv : Int32} {h hF : xh_H} {kc ks : Nat} (N : Nat) {a0 : Option Nat} {a1 : Int32} {a2 : Int32} (hf : f_X0_silence N a0 a1 a2 h = some (rv, hF, kc, ks)) : xh_Ct l D yX0_silence (ws_ yX0_silence cX0_silence 6 (Option.some Jvm.ClassFile.FieldType.int)) 8 214 [va_rf a0, .int a1, .int a2] h (some (.int rv)) hF kc ks :=
  xh_meth (cc := cX0_silence) l (by decide) (Nat.le_of_ble_eq_true rfl) (List.forall_mem_cons.mpr ⟨va_rf_cat _, List.forall_mem_cons.mpr ⟨rfl, List.forall_mem_cons.mpr ⟨rfl, fun _ h => absurd h List.not_mem_nil⟩⟩⟩) fun p e s m below meth c ls C hr hnm hl hS => w_X0_silence C hr ⟨Nat.le_refl _, Nat.le_refl _⟩ N a0 a1 a2 h _ _ _ _ _ _ _ hf hS hl
/-- SungSlides.isSyllable(I)Z -/
theorem w_X0_isSyllable (C : xh_C cX0_isSyllable 2 "SungSlides" D g p s m args meth c) (hr : meth.sig.returnType = (Option.some Jvm.ClassFile.FieldType.boolean)) (hR : 2 ≤ R.frames ∧ 40 ≤ R.locals) {rv : Int32} {hF : xh_H} (N : Nat) (a0 : Option Nat) (a1 : Int32)  (h : xh_H) (H : Heap) (locs : List Loc) (cells slots kc ks : Nat) (ls : Array Slot) (hf : f_X0_isSyllable N a0 a1 h = some (rv, hF, kc, ks)) (hS : xh_T D g s R h H locs cells slots kc ks) (hl : xh_L ls 2 [(0, va_rf a0), (1, .int a1)]) : W p l e R s m args below meth c H locs cells slots (MQ below (xh_Q D g (some (.int rv)) hF) args s R.cells R.slots (xh_A g)) (F0 m 0 ls []) := by
  have hx := C.1
  have hb := C.2.1
  unfold f_X0_isSyllable at hf
  refine lv_iload_n hx hb dX0_isSyllable_0 rfl (hl.at 1 rfl) ?_
  refine lv_iconst (v := 0) hx hb dX0_isSyllable_1 xi_c0 ?_
  refine xr_aload_n C dX0_isSyllable_2 rfl (hl.at 0 rfl) ?_
  refine xr_getR C hS xf_X0 0 (by decide) q139 (fun _ h => h) hf dX0_isSyllable_3 (fun x3 hf => ?_)
  refine xr_V (V := fun v => some (.int v)) (n := 0) (fr := 1) (lo := 20) (As := []) C hS xf_X1 (lw_V q472 q346 q347 q56 q348) hdv_X1_many ⟨Nat.le_trans (Nat.le_of_ble_eq_true rfl) hR.1, Nat.le_trans (Nat.le_of_ble_eq_true rfl) hR.2⟩ rfl hl.1.1 rfl (xm_rc rfl (xm_rc rfl xm_r0)) hf (fun v h1 k1 n1 e1 => ct_X1_many l D N e1) dX0_isSyllable_6 (fun x6 h H locs cells slots kc ks hS hf => ?_)
  refine W.eq (g2 := F0 m 9 ls [.int x6, .int (0 : Int32), .int a1]) rfl ?_
  refine lv_iconst (v := 1) hx hb dX0_isSyllable_9 xi_c1 ?_
  refine lv_isub hx hb dX0_isSyllable_10 ?_
  refine xr_S (V := fun v => some (.int v)) (n := 3) (fr := 0) (lo := 0) (As := [.int a1, .int (0 : Int32), .int (x6 - (1 : Int32))]) C hS (lw_S q200 q195 q55 q196) hd_X0_isBetween ⟨Nat.le_trans (Nat.le_of_ble_eq_true rfl) hR.1, Nat.le_trans (Nat.le_of_ble_eq_true rfl) hR.2⟩ rfl hl.1.1 rfl xm_r0 hf (fun v h1 k1 n1 e1 => ct_X0_isBetween l D N e1) dX0_isSyllable_11 (fun x11 h H locs cells slots kc ks hS hf => ?_)
  refine W.eq (g2 := F0 m 14 ls [.int x11]) rfl ?_
  exact xr_zret C hS hr hf dX0_isSyllable_14
theorem ct_X0_isSyllable (l : Launch) (D : xh_D) {rv : Int32} {h hF : xh_H} {kc ks : Nat} (N : Nat) {a0 : Option Nat} {a1 : Int32} (hf : f_X0_isSyllable N a0 a1 h = some (rv, hF, kc, ks)) : xh_Ct l D yX0_isSyllable (ws_ yX0_isSyllable cX0_isSyllable 2 (Option.some Jvm.ClassFile.FieldType.boolean)) 2 40 [va_rf a0, .int a1] h (some (.int rv)) hF kc ks :=
  xh_meth (cc := cX0_isSyllable) l (by decide) (Nat.le_of_ble_eq_true rfl) (List.forall_mem_cons.mpr ⟨va_rf_cat _, List.forall_mem_cons.mpr ⟨rfl, fun _ h => absurd h List.not_mem_nil⟩⟩) fun p e s m below meth c ls C hr hnm hl hS => w_X0_isSyllable C hr ⟨Nat.le_refl _, Nat.le_refl _⟩ N a0 a1 h _ _ _ _ _ _ _ hf hS hl
def K_X0_singAlong_49 (p : Program) (l : Launch) (e : Env) (s : State) (m : MethodId) (args : Array Value) (below : List Frame) (meth : Method) (c : Code) (D : xh_D) (g : Nat → Nat) (R : Room) (rv : Int32) (hF : xh_H) (k : Option Nat → Int32 → Int32 → Option Nat → Int32 → xh_H → xh_R Int32) : Prop := ∀ (a0 : Option Nat) (a2 : Int32) (a3 : Int32) (a4 : Option Nat) (a5 : Int32) (h : xh_H) (H : Heap) (locs : List Loc) (cells slots kc ks : Nat) (ls : Array Slot), k a0 a2 a3 a4 a5 h = some (rv, hF, kc, ks) → xh_T D g s R h H locs cells slots kc ks → xh_L ls 9 [(0, va_rf a0), (2, .int a2), (3, .int a3), (4, va_rf a4), (5, .int a5)] → W p l e R s m args below meth c H locs cells slots (MQ below (xh_Q D g (some (.int rv)) hF) args s R.cells R.slots (xh_A g)) (F0 m 49 ls [])
def K_X0_singAlong_81 (p : Program) (l : Launch) (e : Env) (s : State) (m : MethodId) (args : Array Value) (below : List Frame) (meth : Method) (c : Code) (D : xh_D) (g : Nat → Nat) (R : Room) (rv : Int32) (hF : xh_H) (k : Option Nat → Int32 → Int32 → Option Nat → Int32 → Option Nat → Int32 → xh_H → xh_R Int32) : Prop := ∀ (a0 : Option Nat) (a2 : Int32) (a3 : Int32) (a4 : Option Nat) (a5 : Int32) (a6 : Option Nat) (a7 : Int32) (h : xh_H) (H : Heap) (locs : List Loc) (cells slots kc ks : Nat) (ls : Array Slot), k a0 a2 a3 a4 a5 a6 a7 h = some (rv, hF, kc, ks) → xh_T D g s R h H locs cells slots kc ks → xh_L ls 9 [(0, va_rf a0), (2, .int a2), (3, .int a3), (4, va_rf a4), (5, .int a5), (6, va_rf a6), (7, .int a7)] → W p l e R s m args below meth c H locs cells slots (MQ below (xh_Q D g (some (.int rv)) hF) args s R.cells R.slots (xh_A g)) (F0 m 81 ls [])
theorem w_X0_singAlong_b138 (C : xh_C cX0_singAlong 9 "SungSlides" D g p s m args meth c) (hr : meth.sig.returnType = (Option.some Jvm.ClassFile.FieldType.int)) (hR : 8 ≤ R.frames ∧ 214 ≤ R.locals) {rv : Int32} {hF : xh_H} (N : Nat) : ∀ (a0 : Option Nat) (a4 : Option Nat) (h : xh_H) (H : Heap) (locs : List Loc) (cells slots kc ks : Nat) (ls : Array Slot), f_X0_singAlong_b138 N a0 a4 h = some (rv, hF, kc, ks) → xh_T D g s R h H locs cells slots kc ks → xh_L ls 9 [(0, va_rf a0), (4, va_rf a4)] → W p l e R s m args below meth c H locs cells slots (MQ below (xh_Q D g (some (.int rv)) hF) args s R.cells R.slots (xh_A g)) (F0 m 138 ls []) := by
  intro a0 a4 h H locs cells slots kc ks ls hf hS hl
  have hx := C.1
  have hb := C.2.1
  unfold f_X0_singAlong_b138 at hf
  refine xr_aload_n C dX0_singAlong_138 rfl (hl.at 0 rfl) ?_
  refine xr_aload C dX0_singAlong_139 (hl.at 1 rfl) ?_
  refine xr_aload_n C dX0_singAlong_141 rfl (hl.at 0 rfl) ?_
  refine xr_V (V := fun v => some (va_rf v)) (n := 0) (fr := 7) (lo := 155) (As := []) C hS xf_X0 (lw_V q591 q593 qs10 q55 q594) hdv_X0_judged ⟨Nat.le_trans (Nat.le_of_ble_eq_true rfl) hR.1, Nat.le_trans (Nat.le_of_ble_eq_true rfl) hR.2⟩ rfl hl.1.1 rfl (xm_rc (va_rf_cat _) (xm_rc (va_rf_cat _) xm_r0)) hf (fun v h1 k1 n1 e1 => ct_X0_judged l D N e1) dX0_singAlong_142 (fun x142 h H locs cells slots kc ks hS hf => ?_)
  refine W.eq (g2 := F0 m 145 ls [va_rf x142, va_rf a4, va_rf a0]) rfl ?_
  refine lv_bipush (v := -5) hx hb dX0_singAlong_145 xi_bm5 ?_
  refine xr_V (V := fun v => some (.int v)) (n := 1) (fr := 3) (lo := 64) (As := [.int (-5 : Int32)]) C hS xf_X7 (lw_V q675 q676 q677 q74 q678) hdv_X7_hits ⟨Nat.le_trans (Nat.le_of_ble_eq_true rfl) hR.1, Nat.le_trans (Nat.le_of_ble_eq_true rfl) hR.2⟩ rfl hl.1.1 rfl (xm_rc (va_rf_cat _) (xm_rc (va_rf_cat _) xm_r0)) hf (fun v h1 k1 n1 e1 => ct_X7_hits l D N e1) dX0_singAlong_147 (fun x147 h H locs cells slots kc ks hS hf => ?_)
  refine W.eq (g2 := F0 m 150 ls [.int x147, va_rf a4, va_rf a0]) rfl ?_
  refine xr_V (V := fun v => some (.int v)) (n := 2) (fr := 7) (lo := 191) (As := [va_rf a4, .int x147]) C hS xf_X0 (lw_V q476 q478 qs4 q55 q479) hdv_X0_changed ⟨Nat.le_trans (Nat.le_of_ble_eq_true rfl) hR.1, Nat.le_trans (Nat.le_of_ble_eq_true rfl) hR.2⟩ rfl hl.1.1 rfl xm_r0 hf (fun v h1 k1 n1 e1 => ct_X0_changed l D N e1) dX0_singAlong_150 (fun x150 h H locs cells slots kc ks hS hf => ?_)
  refine W.eq (g2 := F0 m 153 ls [.int x150]) rfl ?_
  exact xr_iret C hS hr hf dX0_singAlong_153
theorem w_X0_singAlong_b132 (C : xh_C cX0_singAlong 9 "SungSlides" D g p s m args meth c) (hr : meth.sig.returnType = (Option.some Jvm.ClassFile.FieldType.int)) (hR : 8 ≤ R.frames ∧ 214 ≤ R.locals) {rv : Int32} {hF : xh_H} (N : Nat) {k49 : Option Nat → Int32 → Int32 → Option Nat → Int32 → xh_H → xh_R Int32} (hk49 : K_X0_singAlong_49 p l e s m args below meth c D g R rv hF k49) : ∀ (a0 : Option Nat) (a2 : Int32) (a3 : Int32) (a4 : Option Nat) (a5 : Int32) (h : xh_H) (H : Heap) (locs : List Loc) (cells slots kc ks : Nat) (ls : Array Slot), f_X0_singAlong_b132 N k49 a0 a2 a3 a4 a5 h = some (rv, hF, kc, ks) → xh_T D g s R h H locs cells slots kc ks → xh_L ls 9 [(0, va_rf a0), (2, .int a2), (3, .int a3), (4, va_rf a4), (5, .int a5)] → W p l e R s m args below meth c H locs cells slots (MQ below (xh_Q D g (some (.int rv)) hF) args s R.cells R.slots (xh_A g)) (F0 m 132 ls []) := by
  intro a0 a2 a3 a4 a5 h H locs cells slots kc ks ls hf hS hl
  have hx := C.1
  have hb := C.2.1
  unfold f_X0_singAlong_b132 at hf
  refine xr_iinc C dX0_singAlong_132 hl (k := 4) rfl (xi_inc xi_c1) (Nat.le_of_ble_eq_true rfl) (lv' := [(5, .int (a5 + (1 : Int32))), (0, va_rf a0), (2, .int a2), (3, .int a3), (4, va_rf a4)]) rfl (fun ls hl => ?_)
  refine lv_goto (tgt := 49) hx hb dX0_singAlong_135 (by decide) ?_
  exact hk49 a0 a2 a3 a4 (a5 + (1 : Int32))  h H locs cells slots kc ks ls hf hS (hl.sub [1, 2, 3, 4, 0] rfl)
theorem w_X0_singAlong_b125 (C : xh_C cX0_singAlong 9 "SungSlides" D g p s m args meth c) (hr : meth.sig.returnType = (Option.some Jvm.ClassFile.FieldType.int)) (hR : 8 ≤ R.frames ∧ 214 ≤ R.locals) {rv : Int32} {hF : xh_H} (N : Nat) {k81 : Option Nat → Int32 → Int32 → Option Nat → Int32 → Option Nat → Int32 → xh_H → xh_R Int32} (hk81 : K_X0_singAlong_81 p l e s m args below meth c D g R rv hF k81) : ∀ (a0 : Option Nat) (a2 : Int32) (a3 : Int32) (a4 : Option Nat) (a5 : Int32) (a6 : Option Nat) (a7 : Int32) (t0 : Option Nat) (t1 : Int32) (t2 : Int32) (h : xh_H) (H : Heap) (locs : List Loc) (cells slots kc ks : Nat) (ls : Array Slot), f_X0_singAlong_b125 N k81 a0 a2 a3 a4 a5 a6 a7 t0 t1 t2 h = some (rv, hF, kc, ks) → xh_T D g s R h H locs cells slots kc ks → xh_L ls 9 [(0, va_rf a0), (2, .int a2), (3, .int a3), (4, va_rf a4), (5, .int a5), (6, va_rf a6), (7, .int a7)] → W p l e R s m args below meth c H locs cells slots (MQ below (xh_Q D g (some (.int rv)) hF) args s R.cells R.slots (xh_A g)) (F0 m 125 ls [.int t2, .int t1, va_rf t0]) := by
  intro a0 a2 a3 a4 a5 a6 a7 t0 t1 t2 h H locs cells slots kc ks ls hf hS hl
  have hx := C.1
  have hb := C.2.1
  unfold f_X0_singAlong_b125 at hf
  refine xr_iast C hS hf dX0_singAlong_125 (fun h H locs hS hf => ?_)
  refine xr_iinc C dX0_singAlong_126 hl (k := 6) rfl (xi_inc xi_c1) (Nat.le_of_ble_eq_true rfl) (lv' := [(7, .int (a7 + (1 : Int32))), (0, va_rf a0), (2, .int a2), (3, .int a3), (4, va_rf a4), (5, .int a5), (6, va_rf a6)]) rfl (fun ls hl => ?_)
  refine lv_goto (tgt := 81) hx hb dX0_singAlong_129 (by decide) ?_
  exact hk81 a0 a2 a3 a4 a5 a6 (a7 + (1 : Int32))  h H locs cells slots kc ks ls hf hS (hl.sub [1, 2, 3, 4, 5, 6, 0] rfl)
theorem w_X0_singAlong_b81 (C : xh_C cX0_singAlong 9 "SungSlides" D g p s m args meth c) (hr : meth.sig.returnType = (Option.some Jvm.ClassFile.FieldType.int)) (hR : 8 ≤ R.frames ∧ 214 ≤ R.locals) {rv : Int32} {hF : xh_H} (N : Nat) {k49 : Option Nat → Int32 → Int32 → Option Nat → Int32 → xh_H → xh_R Int32} (hk49 : K_X0_singAlong_49 p l e s m args below meth c D g R rv hF k49) {k81 : Option Nat → Int32 → Int32 → Option Nat → Int32 → Option Nat → Int32 → xh_H → xh_R Int32} (hk81 : K_X0_singAlong_81 p l e s m args below meth c D g R rv hF k81) : ∀ (a0 : Option Nat) (a2 : Int32) (a3 : Int32) (a4 : Option Nat) (a5 : Int32) (a6 : Option Nat) (a7 : Int32) (h : xh_H) (H : Heap) (locs : List Loc) (cells slots kc ks : Nat) (ls : Array Slot), f_X0_singAlong_b81 N k49 k81 a0 a2 a3 a4 a5 a6 a7 h = some (rv, hF, kc, ks) → xh_T D g s R h H locs cells slots kc ks → xh_L ls 9 [(0, va_rf a0), (2, .int a2), (3, .int a3), (4, va_rf a4), (5, .int a5), (6, va_rf a6), (7, .int a7)] → W p l e R s m args below meth c H locs cells slots (MQ below (xh_Q D g (some (.int rv)) hF) args s R.cells R.slots (xh_A g)) (F0 m 81 ls []) := by
  intro a0 a2 a3 a4 a5 a6 a7 h H locs cells slots kc ks ls hf hS hl
  have hx := C.1
  have hb := C.2.1
  unfold f_X0_singAlong_b81 at hf
  refine lv_iload hx hb dX0_singAlong_81 (hl.at 6 rfl) ?_
  refine xr_aload C dX0_singAlong_83 (hl.at 5 rfl) ?_
  refine xr_V (V := fun v => some (.int v)) (n := 0) (fr := 0) (lo := 0) (As := []) C hS xf_X5 (lw_V q691 q378 q379 q72 q380) hdv_X5_end ⟨Nat.le_trans (Nat.le_of_ble_eq_true rfl) hR.1, Nat.le_trans (Nat.le_of_ble_eq_true rfl) hR.2⟩ rfl hl.1.1 rfl (xm_rc rfl xm_r0) hf (fun v h1 k1 n1 e1 => ct_X5_end l D N e1) dX0_singAlong_85 (fun x85 h H locs cells slots kc ks hS hf => ?_)
  refine W.eq (g2 := F0 m 88 ls [.int x85, .int a7]) rfl ?_
  refine lv_icmp_ge (tgt := 132) hx hb dX0_singAlong_88 (by decide) (fun c88 => ?_) (fun c88 => ?_)
  · replace hf := xb_pos c88 hf
    exact w_X0_singAlong_b132 C hr hR N hk49 a0 a2 a3 a4 a5  h H locs cells slots kc ks ls hf hS (hl.sub [0, 1, 2, 3, 4] rfl)
  · replace hf := xb_neg c88 hf
    refine xr_aload C dX0_singAlong_91 (hl.at 5 rfl) ?_
    refine lv_iload hx hb dX0_singAlong_93 (hl.at 6 rfl) ?_
    refine xr_V (V := fun v => some (.int v)) (n := 1) (fr := 0) (lo := 0) (As := [.int a7]) C hS xf_X5 (lw_V q692 q646 q647 q72 q648) hdv_X5_wanted ⟨Nat.le_trans (Nat.le_of_ble_eq_true rfl) hR.1, Nat.le_trans (Nat.le_of_ble_eq_true rfl) hR.2⟩ rfl hl.1.1 rfl xm_r0 hf (fun v h1 k1 n1 e1 => ct_X5_wanted l D N e1) dX0_singAlong_95 (fun x95 h H locs cells slots kc ks hS hf => ?_)
    refine W.eq (g2 := F0 m 98 ls [.int x95]) rfl ?_
    refine lv_iload_n hx hb dX0_singAlong_98 rfl (hl.at 2 rfl) ?_
    refine lv_iadd hx hb dX0_singAlong_99 ?_
    refine xr_istore C dX0_singAlong_100 hl (Nat.le_of_ble_eq_true rfl) (lv' := [(8, .int (x95 + a3)), (0, va_rf a0), (2, .int a2), (3, .int a3), (4, va_rf a4), (5, .int a5), (6, va_rf a6), (7, .int a7)]) rfl (fun ls hl => ?_)
    refine xr_aload_n C dX0_singAlong_102 rfl (hl.at 1 rfl) ?_
    refine xr_getR C hS xf_X0 0 (by decide) q139 (fun _ h => h) hf dX0_singAlong_103 (fun x103 hf => ?_)
    refine xr_getNR C hS xf_X1 1 (by decide) xn_q126 rfl hf dX0_singAlong_106 (fun x106 hf => ?_)
    refine lv_iload hx hb dX0_singAlong_109 (hl.at 7 rfl) ?_
    refine lv_iload hx hb dX0_singAlong_111 (hl.at 0 rfl) ?_
    refine xr_S (V := fun v => some (.int v)) (n := 1) (fr := 1) (lo := 22) (As := [.int (x95 + a3)]) C hS (lw_S q590 q198 q55 q199) hd_X0_isPitch ⟨Nat.le_trans (Nat.le_of_ble_eq_true rfl) hR.1, Nat.le_trans (Nat.le_of_ble_eq_true rfl) hR.2⟩ rfl hl.1.1 rfl (xm_rc rfl (xm_rc (va_rf_cat _) xm_r0)) hf (fun v h1 k1 n1 e1 => ct_X0_isPitch l D N e1) dX0_singAlong_113 (fun x113 h H locs cells slots kc ks hS hf => ?_)
    refine W.eq (g2 := F0 m 116 ls [.int x113, .int a7, va_rf x106]) rfl ?_
    refine lv_if_eq (tgt := 124) hx hb dX0_singAlong_116 (by decide) (fun c116 => ?_) (fun c116 => ?_)
    · replace hf := xb_pos c116 hf
      refine lv_iconst (v := -1) hx hb dX0_singAlong_124 xi_cm1 ?_
      exact w_X0_singAlong_b125 C hr hR N hk81 a0 a2 a3 a4 a5 a6 a7 x106 a7 (-1 : Int32) h H locs cells slots kc ks ls hf hS (hl.sub [1, 2, 3, 4, 5, 6, 7] rfl)
    · replace hf := xb_neg c116 hf
      refine lv_iload hx hb dX0_singAlong_119 (hl.at 0 rfl) ?_
      refine lv_goto (tgt := 125) hx hb dX0_singAlong_121 (by decide) ?_
      exact w_X0_singAlong_b125 C hr hR N hk81 a0 a2 a3 a4 a5 a6 a7 x106 a7 (x95 + a3) h H locs cells slots kc ks ls hf hS (hl.sub [1, 2, 3, 4, 5, 6, 7] rfl)
theorem w_X0_singAlong_l81 (C : xh_C cX0_singAlong 9 "SungSlides" D g p s m args meth c) (hr : meth.sig.returnType = (Option.some Jvm.ClassFile.FieldType.int)) (hR : 8 ≤ R.frames ∧ 214 ≤ R.locals) {rv : Int32} {hF : xh_H} (N : Nat) {k49 : Option Nat → Int32 → Int32 → Option Nat → Int32 → xh_H → xh_R Int32} (hk49 : K_X0_singAlong_49 p l e s m args below meth c D g R rv hF k49) : ∀ n : Nat, K_X0_singAlong_81 p l e s m args below meth c D g R rv hF (f_X0_singAlong_l81 N k49 n) := by
  intro n
  induction n with
  | zero => exact fun a0 a2 a3 a4 a5 a6 a7 h H locs cells slots kc ks ls hf => absurd (show (none : xh_R Int32) = some _ from hf) (by intro q; cases q)
  | succ n ih => exact fun a0 a2 a3 a4 a5 a6 a7 h H locs cells slots kc ks ls hf => w_X0_singAlong_b81 C hr hR N hk49 ih a0 a2 a3 a4 a5 a6 a7 h H locs cells slots kc ks ls hf
theorem w_X0_singAlong_b49 (C : xh_C cX0_singAlong 9 "SungSlides" D g p s m args meth c) (hr : meth.sig.returnType = (Option.some Jvm.ClassFile.FieldType.int)) (hR : 8 ≤ R.frames ∧ 214 ≤ R.locals) {rv : Int32} {hF : xh_H} (N : Nat) {k49 : Option Nat → Int32 → Int32 → Option Nat → Int32 → xh_H → xh_R Int32} (hk49 : K_X0_singAlong_49 p l e s m args below meth c D g R rv hF k49) : ∀ (a0 : Option Nat) (a2 : Int32) (a3 : Int32) (a4 : Option Nat) (a5 : Int32) (h : xh_H) (H : Heap) (locs : List Loc) (cells slots kc ks : Nat) (ls : Array Slot), f_X0_singAlong_b49 N k49 a0 a2 a3 a4 a5 h = some (rv, hF, kc, ks) → xh_T D g s R h H locs cells slots kc ks → xh_L ls 9 [(0, va_rf a0), (2, .int a2), (3, .int a3), (4, va_rf a4), (5, .int a5)] → W p l e R s m args below meth c H locs cells slots (MQ below (xh_Q D g (some (.int rv)) hF) args s R.cells R.slots (xh_A g)) (F0 m 49 ls []) := by
  intro a0 a2 a3 a4 a5 h H locs cells slots kc ks ls hf hS hl
  have hx := C.1
  have hb := C.2.1
  unfold f_X0_singAlong_b49 at hf
  refine lv_iload hx hb dX0_singAlong_49 (hl.at 4 rfl) ?_
  refine lv_iload_n hx hb dX0_singAlong_51 rfl (hl.at 1 rfl) ?_
  refine lv_icmp_gt (tgt := 138) hx hb dX0_singAlong_52 (by decide) (fun c52 => ?_) (fun c52 => ?_)
  · replace hf := xb_pos c52 hf
    exact w_X0_singAlong_b138 C hr hR N a0 a4  h H locs cells slots kc ks ls hf hS (hl.sub [0, 3] rfl)
  · replace hf := xb_neg c52 hf
    refine xr_aload_n C dX0_singAlong_55 rfl (hl.at 0 rfl) ?_
    refine xr_getR C hS xf_X0 0 (by decide) q139 (fun _ h => h) hf dX0_singAlong_56 (fun x56 hf => ?_)
    refine xr_getNR C hS xf_X1 0 (by decide) xn_q124 rfl hf dX0_singAlong_59 (fun x59 hf => ?_)
    refine lv_iload hx hb dX0_singAlong_62 (hl.at 4 rfl) ?_
    refine xr_F (V := fun v => some (va_rf v)) (n := 1) (fr := 2) (lo := 43) (As := [.int a5]) C hS xf_J2 q474 q362 q364 q59 q366 xn_i6 hdi_J2_get ⟨Nat.le_trans (Nat.le_of_ble_eq_true rfl) hR.1, Nat.le_trans (Nat.le_of_ble_eq_true rfl) hR.2⟩ rfl hl.1.1 rfl xm_r0 hf (fun v h1 k1 n1 e1 => ct_J2_get l D N e1) dX0_singAlong_64 (fun x64 h H locs cells slots kc ks hS hf => ?_)
    refine W.eq (g2 := F0 m 69 ls [va_rf x64]) rfl ?_
    refine xr_ccS C hS xf_X5 q475 hf dX0_singAlong_69 (fun hf => ?_)
    refine xr_astore C dX0_singAlong_72 hl (Nat.le_of_ble_eq_true rfl) (lv' := [(6, va_rf x64), (0, va_rf a0), (2, .int a2), (3, .int a3), (4, va_rf a4), (5, .int a5)]) rfl (fun ls hl => ?_)
    refine xr_aload C dX0_singAlong_74 (hl.at 0 rfl) ?_
    refine xr_getNI C hS xf_X5 0 (by decide) xn_q448 rfl hf dX0_singAlong_76 (fun x76 hf => ?_)
    refine xr_istore C dX0_singAlong_79 hl (Nat.le_of_ble_eq_true rfl) (lv' := [(7, .int x76), (6, va_rf x64), (0, va_rf a0), (2, .int a2), (3, .int a3), (4, va_rf a4), (5, .int a5)]) rfl (fun ls hl => ?_)
    exact w_X0_singAlong_l81 C hr hR N hk49 N a0 a2 a3 a4 a5 x64 x76  h H locs cells slots kc ks ls hf hS (hl.sub [2, 3, 4, 5, 6, 1, 0] rfl)
theorem w_X0_singAlong_l49 (C : xh_C cX0_singAlong 9 "SungSlides" D g p s m args meth c) (hr : meth.sig.returnType = (Option.some Jvm.ClassFile.FieldType.int)) (hR : 8 ≤ R.frames ∧ 214 ≤ R.locals) {rv : Int32} {hF : xh_H} (N : Nat) : ∀ n : Nat, K_X0_singAlong_49 p l e s m args below meth c D g R rv hF (f_X0_singAlong_l49 N n) := by
  intro n
  induction n with
  | zero => exact fun a0 a2 a3 a4 a5 h H locs cells slots kc ks ls hf => absurd (show (none : xh_R Int32) = some _ from hf) (by intro q; cases q)
  | succ n ih => exact fun a0 a2 a3 a4 a5 h H locs cells slots kc ks ls hf => w_X0_singAlong_b49 C hr hR N ih a0 a2 a3 a4 a5 h H locs cells slots kc ks ls hf
theorem w_X0_singAlong_b34 (C : xh_C cX0_singAlong 9 "SungSlides" D g p s m args meth c) (hr : meth.sig.returnType = (Option.some Jvm.ClassFile.FieldType.int)) (hR : 8 ≤ R.frames ∧ 214 ≤ R.locals) {rv : Int32} {hF : xh_H} (N : Nat) : ∀ (h : xh_H) (H : Heap) (locs : List Loc) (cells slots kc ks : Nat) (ls : Array Slot), f_X0_singAlong_b34 N  h = some (rv, hF, kc, ks) → xh_T D g s R h H locs cells slots kc ks → xh_L ls 9 [] → W p l e R s m args below meth c H locs cells slots (MQ below (xh_Q D g (some (.int rv)) hF) args s R.cells R.slots (xh_A g)) (F0 m 34 ls []) := by
  intro  h H locs cells slots kc ks ls hf hS hl
  have hx := C.1
  have hb := C.2.1
  unfold f_X0_singAlong_b34 at hf
  refine lv_bipush (v := -2) hx hb dX0_singAlong_34 xi_bm2 ?_
  exact xr_iret C hS hr hf dX0_singAlong_36
theorem w_X0_singAlong_b16 (C : xh_C cX0_singAlong 9 "SungSlides" D g p s m args meth c) (hr : meth.sig.returnType = (Option.some Jvm.ClassFile.FieldType.int)) (hR : 8 ≤ R.frames ∧ 214 ≤ R.locals) {rv : Int32} {hF : xh_H} (N : Nat) : ∀ (h : xh_H) (H : Heap) (locs : List Loc) (cells slots kc ks : Nat) (ls : Array Slot), f_X0_singAlong_b16 N  h = some (rv, hF, kc, ks) → xh_T D g s R h H locs cells slots kc ks → xh_L ls 9 [] → W p l e R s m args below meth c H locs cells slots (MQ below (xh_Q D g (some (.int rv)) hF) args s R.cells R.slots (xh_A g)) (F0 m 16 ls []) := by
  intro  h H locs cells slots kc ks ls hf hS hl
  have hx := C.1
  have hb := C.2.1
  unfold f_X0_singAlong_b16 at hf
  refine lv_iconst (v := -1) hx hb dX0_singAlong_16 xi_cm1 ?_
  exact xr_iret C hS hr hf dX0_singAlong_17
/-- SungSlides.singAlong(III)I -/
theorem w_X0_singAlong (C : xh_C cX0_singAlong 9 "SungSlides" D g p s m args meth c) (hr : meth.sig.returnType = (Option.some Jvm.ClassFile.FieldType.int)) (hR : 8 ≤ R.frames ∧ 214 ≤ R.locals) {rv : Int32} {hF : xh_H} (N : Nat) (a0 : Option Nat) (a1 : Int32) (a2 : Int32) (a3 : Int32)  (h : xh_H) (H : Heap) (locs : List Loc) (cells slots kc ks : Nat) (ls : Array Slot) (hf : f_X0_singAlong N a0 a1 a2 a3 h = some (rv, hF, kc, ks)) (hS : xh_T D g s R h H locs cells slots kc ks) (hl : xh_L ls 9 [(0, va_rf a0), (1, .int a1), (2, .int a2), (3, .int a3)]) : W p l e R s m args below meth c H locs cells slots (MQ below (xh_Q D g (some (.int rv)) hF) args s R.cells R.slots (xh_A g)) (F0 m 0 ls []) := by
  have hx := C.1
  have hb := C.2.1
  unfold f_X0_singAlong at hf
  refine xr_aload_n C dX0_singAlong_0 rfl (hl.at 0 rfl) ?_
  refine lv_iload_n hx hb dX0_singAlong_1 rfl (hl.at 1 rfl) ?_
  refine xr_V (V := fun v => some (.int v)) (n := 1) (fr := 2) (lo := 40) (As := [.int a1]) C hS xf_X0 (lw_V q687 q689 qs16 q55 q690) hdv_X0_isSyllable ⟨Nat.le_trans (Nat.le_of_ble_eq_true rfl) hR.1, Nat.le_trans (Nat.le_of_ble_eq_true rfl) hR.2⟩ rfl hl.1.1 rfl xm_r0 hf (fun v h1 k1 n1 e1 => ct_X0_isSyllable l D N e1) dX0_singAlong_2 (fun x2 h H locs cells slots kc ks hS hf => ?_)
  refine W.eq (g2 := F0 m 5 ls [.int x2]) rfl ?_
  refine lv_if_eq (tgt := 16) hx hb dX0_singAlong_5 (by decide) (fun c5 => ?_) (fun c5 => ?_)
  · replace hf := xb_pos c5 hf
    exact w_X0_singAlong_b16 C hr hR N  h H locs cells slots kc ks ls hf hS (hl.sub [] rfl)
  · replace hf := xb_neg c5 hf
    refine xr_aload_n C dX0_singAlong_8 rfl (hl.at 0 rfl) ?_
    refine lv_iload_n hx hb dX0_singAlong_9 rfl (hl.at 2 rfl) ?_
    refine xr_V (V := fun v => some (.int v)) (n := 1) (fr := 2) (lo := 40) (As := [.int a2]) C hS xf_X0 (lw_V q687 q689 qs16 q55 q690) hdv_X0_isSyllable ⟨Nat.le_trans (Nat.le_of_ble_eq_true rfl) hR.1, Nat.le_trans (Nat.le_of_ble_eq_true rfl) hR.2⟩ rfl hl.1.1 rfl xm_r0 hf (fun v h1 k1 n1 e1 => ct_X0_isSyllable l D N e1) dX0_singAlong_10 (fun x10 h H locs cells slots kc ks hS hf => ?_)
    refine W.eq (g2 := F0 m 13 ls [.int x10]) rfl ?_
    refine lv_if_ne (tgt := 18) hx hb dX0_singAlong_13 (by decide) (fun c13 => ?_) (fun c13 => ?_)
    · replace hf := xb_neg c13 hf
      refine lv_iload_n hx hb dX0_singAlong_18 rfl (hl.at 2 rfl) ?_
      refine lv_iload_n hx hb dX0_singAlong_19 rfl (hl.at 1 rfl) ?_
      refine lv_icmp_lt (tgt := 34) hx hb dX0_singAlong_20 (by decide) (fun c20 => ?_) (fun c20 => ?_)
      · replace hf := xb_pos c20 hf
        exact w_X0_singAlong_b34 C hr hR N  h H locs cells slots kc ks ls hf hS (hl.sub [] rfl)
      · replace hf := xb_neg c20 hf
        refine lv_iload_n hx hb dX0_singAlong_23 rfl (hl.at 3 rfl) ?_
        refine lv_bipush (v := -60) hx hb dX0_singAlong_24 xi_bm60 ?_
        refine lv_bipush (v := 60) hx hb dX0_singAlong_26 xi_b60 ?_
        refine xr_S (V := fun v => some (.int v)) (n := 3) (fr := 0) (lo := 0) (As := [.int a3, .int (-60 : Int32), .int (60 : Int32)]) C hS (lw_S q200 q195 q55 q196) hd_X0_isBetween ⟨Nat.le_trans (Nat.le_of_ble_eq_true rfl) hR.1, Nat.le_trans (Nat.le_of_ble_eq_true rfl) hR.2⟩ rfl hl.1.1 rfl xm_r0 hf (fun v h1 k1 n1 e1 => ct_X0_isBetween l D N e1) dX0_singAlong_28 (fun x28 h H locs cells slots kc ks hS hf => ?_)
        refine W.eq (g2 := F0 m 31 ls [.int x28]) rfl ?_
        refine lv_if_ne (tgt := 37) hx hb dX0_singAlong_31 (by decide) (fun c31 => ?_) (fun c31 => ?_)
        · replace hf := xb_neg c31 hf
          refine xr_aload_n C dX0_singAlong_37 rfl (hl.at 0 rfl) ?_
          refine xr_getR C hS xf_X0 0 (by decide) q139 (fun _ h => h) hf dX0_singAlong_38 (fun x38 hf => ?_)
          refine xr_V (V := fun v => some (va_rf v)) (n := 0) (fr := 7) (lo := 191) (As := []) C hS xf_X1 (lw_V q201 q202 q203 q56 q204) hdv_X1_copy ⟨Nat.le_trans (Nat.le_of_ble_eq_true rfl) hR.1, Nat.le_trans (Nat.le_of_ble_eq_true rfl) hR.2⟩ rfl hl.1.1 rfl xm_r0 hf (fun v h1 k1 n1 e1 => ct_X1_copy l D N e1) dX0_singAlong_41 (fun x41 h H locs cells slots kc ks hS hf => ?_)
          refine W.eq (g2 := F0 m 44 ls [va_rf x41]) rfl ?_
          refine xr_astore C dX0_singAlong_44 hl (Nat.le_of_ble_eq_true rfl) (lv' := [(4, va_rf x41), (0, va_rf a0), (1, .int a1), (2, .int a2), (3, .int a3)]) rfl (fun ls hl => ?_)
          refine lv_iload_n hx hb dX0_singAlong_46 rfl (hl.at 2 rfl) ?_
          refine xr_istore C dX0_singAlong_47 hl (Nat.le_of_ble_eq_true rfl) (lv' := [(5, .int a1), (4, va_rf x41), (0, va_rf a0), (1, .int a1), (2, .int a2), (3, .int a3)]) rfl (fun ls hl => ?_)
          exact w_X0_singAlong_l49 C hr hR N N a0 a2 a3 x41 a1  h H locs cells slots kc ks ls hf hS (hl.sub [2, 4, 5, 1, 0] rfl)
        · replace hf := xb_pos c31 hf
          exact w_X0_singAlong_b34 C hr hR N  h H locs cells slots kc ks ls hf hS (hl.sub [] rfl)
    · replace hf := xb_pos c13 hf
      exact w_X0_singAlong_b16 C hr hR N  h H locs cells slots kc ks ls hf hS (hl.sub [] rfl)
theorem ct_X0_singAlong (l : Launch) (D : xh_D) {rv : Int32} {h hF : xh_H} {kc ks : Nat} (N : Nat) {a0 : Option Nat} {a1 : Int32} {a2 : Int32} {a3 : Int32} (hf : f_X0_singAlong N a0 a1 a2 a3 h = some (rv, hF, kc, ks)) : xh_Ct l D yX0_singAlong (ws_ yX0_singAlong cX0_singAlong 9 (Option.some Jvm.ClassFile.FieldType.int)) 8 214 [va_rf a0, .int a1, .int a2, .int a3] h (some (.int rv)) hF kc ks :=
  xh_meth (cc := cX0_singAlong) l (by decide) (Nat.le_of_ble_eq_true rfl) (List.forall_mem_cons.mpr ⟨va_rf_cat _, List.forall_mem_cons.mpr ⟨rfl, List.forall_mem_cons.mpr ⟨rfl, List.forall_mem_cons.mpr ⟨rfl, fun _ h => absurd h List.not_mem_nil⟩⟩⟩⟩) fun p e s m below meth c ls C hr hnm hl hS => w_X0_singAlong C hr ⟨Nat.le_refl _, Nat.le_refl _⟩ N a0 a1 a2 a3 h _ _ _ _ _ _ _ hf hS hl
/-- SungSlides.type(C)I -/
theorem w_X0_type (C : xh_C cX0_type 2 "SungSlides" D g p s m args meth c) (hr : meth.sig.returnType = (Option.some Jvm.ClassFile.FieldType.int)) (hR : 0 ≤ R.frames ∧ 0 ≤ R.locals) {rv : Int32} {hF : xh_H} (N : Nat) (a0 : Option Nat) (a1 : Int32)  (h : xh_H) (H : Heap) (locs : List Loc) (cells slots kc ks : Nat) (ls : Array Slot) (hf : f_X0_type N a0 a1 h = some (rv, hF, kc, ks)) (hS : xh_T D g s R h H locs cells slots kc ks) (hl : xh_L ls 2 [(0, va_rf a0), (1, .int a1)]) : W p l e R s m args below meth c H locs cells slots (MQ below (xh_Q D g (some (.int rv)) hF) args s R.cells R.slots (xh_A g)) (F0 m 0 ls []) := by
  have hx := C.1
  have hb := C.2.1
  unfold f_X0_type at hf
  refine xr_aload_n C dX0_type_0 rfl (hl.at 0 rfl) ?_
  refine xr_getI C hS xf_X0 4 (by decide) q145 (fun _ h => h) hf dX0_type_1 (fun x1 hf => ?_)
  refine lv_bipush (v := 60) hx hb dX0_type_4 xi_b60 ?_
  refine lv_icmp_ne (tgt := 12) hx hb dX0_type_6 (by decide) (fun c6 => ?_) (fun c6 => ?_)
  · replace hf := xb_neg c6 hf
    refine xr_aload_n C dX0_type_12 rfl (hl.at 0 rfl) ?_
    refine xr_getR C hS xf_X0 3 (by decide) q143 (fun _ h => h) hf dX0_type_13 (fun x13 hf => ?_)
    refine xr_aload_n C dX0_type_16 rfl (hl.at 0 rfl) ?_
    refine xr_getI C hS xf_X0 4 (by decide) q145 (fun _ h => h) hf dX0_type_17 (fun x17 hf => ?_)
    refine lv_iload_n hx hb dX0_type_20 rfl (hl.at 1 rfl) ?_
    refine xr_cast C hS hf dX0_type_21 (fun h H locs hS hf => ?_)
    refine xr_aload_n C dX0_type_22 rfl (hl.at 0 rfl) ?_
    refine lv_dup hx hb dX0_type_23 (va_rf_cat _) ?_
    refine xr_getI C hS xf_X0 4 (by decide) q145 (fun _ h => h) hf dX0_type_24 (fun x24 hf => ?_)
    refine lv_iconst (v := 1) hx hb dX0_type_27 xi_c1 ?_
    refine lv_iadd hx hb dX0_type_28 ?_
    refine xr_put C hS xf_X0 4 (by decide) q145 (fun _ h => h) rfl xv_int hf dX0_type_29 (fun h H locs hS hf => ?_)
    refine xr_aload_n C dX0_type_32 rfl (hl.at 0 rfl) ?_
    refine xr_getI C hS xf_X0 4 (by decide) q145 (fun _ h => h) hf dX0_type_33 (fun x33 hf => ?_)
    exact xr_iret C hS hr hf dX0_type_36
  · replace hf := xb_pos c6 hf
    refine lv_bipush (v := -3) hx hb dX0_type_9 xi_bm3 ?_
    exact xr_iret C hS hr hf dX0_type_11
theorem ct_X0_type (l : Launch) (D : xh_D) {rv : Int32} {h hF : xh_H} {kc ks : Nat} (N : Nat) {a0 : Option Nat} {a1 : Int32} (hf : f_X0_type N a0 a1 h = some (rv, hF, kc, ks)) : xh_Ct l D yX0_type (ws_ yX0_type cX0_type 2 (Option.some Jvm.ClassFile.FieldType.int)) 0 0 [va_rf a0, .int a1] h (some (.int rv)) hF kc ks :=
  xh_meth (cc := cX0_type) l (by decide) (Nat.le_of_ble_eq_true rfl) (List.forall_mem_cons.mpr ⟨va_rf_cat _, List.forall_mem_cons.mpr ⟨rfl, fun _ h => absurd h List.not_mem_nil⟩⟩) fun p e s m below meth c ls C hr hnm hl hS => w_X0_type C hr ⟨Nat.le_refl _, Nat.le_refl _⟩ N a0 a1 h _ _ _ _ _ _ _ hf hS hl
/-- SungSlides.clearText()I -/
theorem w_X0_clearText (C : xh_C cX0_clearText 2 "SungSlides" D g p s m args meth c) (hr : meth.sig.returnType = (Option.some Jvm.ClassFile.FieldType.int)) (hR : 0 ≤ R.frames ∧ 0 ≤ R.locals) {rv : Int32} {hF : xh_H} (N : Nat) (a0 : Option Nat)  (h : xh_H) (H : Heap) (locs : List Loc) (cells slots kc ks : Nat) (ls : Array Slot) (hf : f_X0_clearText N a0 h = some (rv, hF, kc, ks)) (hS : xh_T D g s R h H locs cells slots kc ks) (hl : xh_L ls 2 [(0, va_rf a0)]) : W p l e R s m args below meth c H locs cells slots (MQ below (xh_Q D g (some (.int rv)) hF) args s R.cells R.slots (xh_A g)) (F0 m 0 ls []) := by
  have hx := C.1
  have hb := C.2.1
  unfold f_X0_clearText at hf
  refine xr_aload_n C dX0_clearText_0 rfl (hl.at 0 rfl) ?_
  refine xr_getI C hS xf_X0 4 (by decide) q145 (fun _ h => h) hf dX0_clearText_1 (fun x1 hf => ?_)
  refine xr_istore_n C dX0_clearText_4 rfl hl (Nat.le_of_ble_eq_true rfl) (lv' := [(1, .int x1), (0, va_rf a0)]) rfl (fun ls hl => ?_)
  refine xr_aload_n C dX0_clearText_5 rfl (hl.at 1 rfl) ?_
  refine lv_iconst (v := 0) hx hb dX0_clearText_6 xi_c0 ?_
  refine xr_put C hS xf_X0 4 (by decide) q145 (fun _ h => h) rfl xv_int hf dX0_clearText_7 (fun h H locs hS hf => ?_)
  refine lv_iload_n hx hb dX0_clearText_10 rfl (hl.at 0 rfl) ?_
  exact xr_iret C hS hr hf dX0_clearText_11
theorem ct_X0_clearText (l : Launch) (D : xh_D) {rv : Int32} {h hF : xh_H} {kc ks : Nat} (N : Nat) {a0 : Option Nat} (hf : f_X0_clearText N a0 h = some (rv, hF, kc, ks)) : xh_Ct l D yX0_clearText (ws_ yX0_clearText cX0_clearText 2 (Option.some Jvm.ClassFile.FieldType.int)) 0 0 [va_rf a0] h (some (.int rv)) hF kc ks :=
  xh_meth (cc := cX0_clearText) l (by decide) (Nat.le_of_ble_eq_true rfl) (List.forall_mem_cons.mpr ⟨va_rf_cat _, fun _ h => absurd h List.not_mem_nil⟩) fun p e s m below meth c ls C hr hnm hl hS => w_X0_clearText C hr ⟨Nat.le_refl _, Nat.le_refl _⟩ N a0 h _ _ _ _ _ _ _ hf hS hl
end WALK
